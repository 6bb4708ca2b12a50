/-! Lastbus: trip, call, shift -/
/-- only cells that are new since z, and the empty array -/
def nwE (z e0 : Nat) (h : MH) : MH := (0, 0, fun b => if z ≤ b ∨ b = e0 then h.2.2 b else none)
theorem nwE_at {z e0 : Nat} {h : MH} {b : Nat} {c : Bool × va_E} (e : (nwE z e0 h).2.2 b = some c) : h.2.2 b = some c ∧ (z ≤ b ∨ b = e0) := by
  unfold nwE at e
  dsimp only at e
  by_cases hb : z ≤ b ∨ b = e0
  · rw [if_pos hb] at e; exact ⟨e, hb⟩
  · rw [if_neg hb] at e; cases e
theorem nwE_n {z e0 : Nat} {h : MH} {b : Nat} {c : Bool × va_E} (e : h.2.2 b = some c) (h1 : z ≤ b) : (nwE z e0 h).2.2 b = some c := by
  unfold nwE
  dsimp only
  rw [if_pos (Or.inl h1)]; exact e
theorem nwE_0 {z e0 : Nat} {h : MH} {c : Bool × va_E} (e : h.2.2 e0 = some c) : (nwE z e0 h).2.2 e0 = some c := by
  unfold nwE
  dsimp only
  rw [if_pos (Or.inr rfl)]; exact e
theorem nwE_h {z e0 : Nat} {h : MH} : ∀ b c, (nwE z e0 h).2.2 b = some c → h.2.2 b = some c := fun b c e => (nwE_at e).1
theorem c_X3_shiftedN (K : KT) (d : Nat) (h : MH) (e0 : Nat) (sv n m : Int) (fs fa fd : Int → Int) (q : Nat) (hd : 7 ≤ d) (hE : E0A K h e0) (hT : TrpA K h e0 sv n fs fa fd q) (hn : n ≤ 8) (hz : h.1 + 40 ≤ kC K ∧ h.2.1 + 200 ≤ kS K) : Mt K yiX3_shifted d [.ref q, vi m] h (Rr fun r h' => (h.1 ≤ h'.1 ∧ h'.1 ≤ h.1 + 40) ∧ (h.2.1 ≤ h'.2.1 ∧ h'.2.1 ≤ h.2.1 + 200) ∧ (∀ b, b < h.1 → h'.2.2 b = h.2.2 b) ∧ TrpA K (nwE h.1 e0 h') e0 sv n fs (fun c => fa c + m) (fun c => fd c + m) r) := by
  obtain ⟨l, e, p, hq, ⟨w, cap, mc, f, ho, he, hae, h0, hw, hcap, hf, hno⟩, hp⟩ := hT
  have hE1 := hE.1
  have hE2 := hE.2
  refine mt_ofQ (by decide) (Nat.le_of_ble_eq_true rfl) (fun Q hQ => ?_)
  show MW K yiX3_shifted d h 0 [some (.ref q), some (vi m), none, none, none] [] Q
  refine mw_wf (fun hwf => ?_)
  have l_hq := hwf _ _ hq
  have l_ho := hwf _ _ ho
  have l_he := hwf _ _ he
  have l_hE2 := hwf _ _ hE2
  have fR : ∀ b, (b < h.1) → h.2.2 b = h.2.2 b := fun _ _ => rfl
  refine m_new (y := yiX3_shifted) kc_2 2 dX3_shifted_0 q1234 q1135 q153 _ rfl ⟨by omega, by omega⟩ (hp_new fun g1 g1H => ?_)
  have hq : g1.2.2 q = some (true, .inr (2, [(vi sv), (.ref l)])) := (g1H.2.2.2 _ (by omega)).trans hq
  have ho : g1.2.2 l = some (true, .inr (14, [(vi mc), (.ref e), (vi n)])) := (g1H.2.2.2 _ (by omega)).trans ho
  have he : g1.2.2 e = some (w, oaE K cap f) := (g1H.2.2.2 _ (by omega)).trans he
  have hE2 : g1.2.2 e0 = some (false, oaE K 0 (fun _ => none)) := (g1H.2.2.2 _ (by omega)).trans hE2
  have fR : ∀ b, (b < h.1) → g1.2.2 b = h.2.2 b := fun b hb => (g1H.2.2.2 b (by omega)).trans (fR b hb)
  have fg1 : g1.2.2 h.1 = some (true, .inr (2, [(vi 0), .null])) := g1H.2.2.1
  have g11 := g1H.1
  have g12 := g1H.2.1
  refine m_dup (y := yiX3_shifted) dX3_shifted_3 rfl ?_
  refine m_aload_n (y := yiX3_shifted) dX3_shifted_4 rfl ?_
  refine m_getfS (y := yiX3_shifted) kc_2 0 (by decide) dX3_shifted_5 q1142 hq rfl ?_
  refine m_invI (y := yiX3_shifted) [(vi sv)] dX3_shifted_8 q1235 q1137 q153 q1138 rfl rfl (c_X3_init K 4 g1 h.1 e0 sv (by omega) hE1 fg1 ⟨by omega, by omega⟩) pdX3_init ⟨Nat.le_of_ble_eq_true rfl, by decide, by omega⟩ (kk_v fun h8 q8 => ?_) kx_v
  obtain ⟨y8, z8, t8, u8, v8⟩ := q8
  have hq : h8.2.2 q = some (true, .inr (2, [(vi sv), (.ref l)])) := (v8 _ (by omega)).trans hq
  have ho : h8.2.2 l = some (true, .inr (14, [(vi mc), (.ref e), (vi n)])) := (v8 _ (by omega)).trans ho
  have he : h8.2.2 e = some (w, oaE K cap f) := (v8 _ (by omega)).trans he
  have hE2 : h8.2.2 e0 = some (false, oaE K 0 (fun _ => none)) := (v8 _ (by omega)).trans hE2
  have fR : ∀ b, (b < h.1) → h8.2.2 b = h.2.2 b := fun b hb => (v8 b (by omega)).trans (fR b hb)
  refine mw_wf (fun hwf8 => ?_)
  have l_t88 := hwf8 _ _ t8
  have l_u88 := hwf8 _ _ u8
  refine m_astore_n (y := yiX3_shifted) dX3_shifted_11 (by decide) rfl ?_
  show MW K yiX3_shifted d h8 12 [some (.ref q), some (vi m), some (.ref h.1), none, none] [] Q
  refine m_aload_n (y := yiX3_shifted) dX3_shifted_12 rfl ?_
  refine m_getfS (y := yiX3_shifted) kc_2 1 (by decide) dX3_shifted_13 q1144 hq rfl ?_
  refine m_invV (y := yiX3_shifted) (rB := (RJ2, TJ2, 3)) [] dX3_shifted_16 ho rfl q1236 q717 q718 q126 q719 rfl (c_J2_iterator K 2 h8 _ _ _ _ (by omega) ho ⟨by omega, by omega⟩) pdJ2_iterator ⟨Nat.le_of_ble_eq_true rfl, by decide, by omega⟩ (kk_r fun r16 h16 q16 => ?_) kx_r
  obtain ⟨rfl, q16⟩ := q16
  have y16 := q16.1
  have z16 := q16.2.1
  have it16 := q16.2.2.1
  have hq : h16.2.2 q = some (true, .inr (2, [(vi sv), (.ref l)])) := (q16.2.2.2 _ (by omega)).trans hq
  have ho : h16.2.2 l = some (true, .inr (14, [(vi mc), (.ref e), (vi n)])) := (q16.2.2.2 _ (by omega)).trans ho
  have he : h16.2.2 e = some (w, oaE K cap f) := (q16.2.2.2 _ (by omega)).trans he
  have hE2 : h16.2.2 e0 = some (false, oaE K 0 (fun _ => none)) := (q16.2.2.2 _ (by omega)).trans hE2
  have t8 : h16.2.2 h.1 = some (true, .inr (2, [(vi sv), (.ref g1.1)])) := (q16.2.2.2 _ (by omega)).trans t8
  have u8 : h16.2.2 g1.1 = some (true, .inr (14, [(vi 0), (.ref e0), (vi 0)])) := (q16.2.2.2 _ (by omega)).trans u8
  have fR : ∀ b, (b < h.1) → h16.2.2 b = h.2.2 b := fun b hb => (q16.2.2.2 b (by omega)).trans (fR b hb)
  refine mw_wf (fun hwf16 => ?_)
  have l_it1616 := hwf16 _ _ it16
  refine m_astore_n (y := yiX3_shifted) dX3_shifted_19 (by decide) rfl ?_
  show MW K yiX3_shifted d h16 20 [some (.ref q), some (vi m), some (.ref h.1), some (.ref h8.1), none] [] Q
  have L20 : ∀ (N : Nat) (i lr : Int) (e2 : Nat) (p2 : Int → Nat) (g : MH), (n - i).toNat = N → (g.2.2 q = some (true, .inr (2, [(vi sv), (.ref l)]))) → (g.2.2 l = some (true, .inr (14, [(vi mc), (.ref e), (vi n)]))) → (g.2.2 e = some (w, oaE K cap f)) → (g.2.2 e0 = some (false, oaE K 0 (fun _ => none))) → (g.2.2 h.1 = some (true, .inr (2, [(vi sv), (.ref g1.1)]))) → (g.2.2 h8.1 = some (true, .inr (15, [(vi i), (vi lr), (vi mc), (.ref l)]))) → (∀ b, (b < h.1) → g.2.2 b = h.2.2 b) → (0 ≤ i ∧ i ≤ n) → (LsB K g e0 g1.1 e2 i p2) → (e2 = e0 ∨ (h8.1 < e2)) → (∀ c, 0 ≤ c → c < i → g.2.2 (p2 c) = some (true, .inr (3, [vi (fs c), vi (fa c + m), vi (fd c + m)]))) → (∀ c, 0 ≤ c → c < i → h.1 ≤ p2 c) → (h8.1 + 1 ≤ g.1 ∧ (g.1 : Int) ≤ h8.1 + 1 + 2 * i) → (h8.2.1 + 4 ≤ g.2.1 ∧ (g.2.1 : Int) ≤ h8.2.1 + 4 + 15 * i) → MW K yiX3_shifted d g 20 [some (.ref q), some (vi m), some (.ref h.1), some (.ref h8.1), none] [] Q := by
    intro N
    induction N using Nat.strongRecOn with
    | _ N ih20 =>
    intro i lr e2 p2 g hN20 hq ho he hE2 t8 it16 fR hi hL2 hE3 hel hnw hc hs
    refine mw_wf (fun hwf20 => ?_)
    have l_hq20 := hwf20 _ _ hq
    have l_ho20 := hwf20 _ _ ho
    have l_he20 := hwf20 _ _ he
    have l_hE220 := hwf20 _ _ hE2
    have l_t820 := hwf20 _ _ t8
    have l_it1620 := hwf20 _ _ it16
    obtain ⟨w2, cap2, mc2, f2, ho2, he2, hae2, h02, hw2, hcap2, hf2, hno2⟩ := hL2
    have itg := it16
    have l_he2 := hwf20 _ _ he2
    have ho2 : g.2.2 g1.1 = some (true, .inr (14, [(vi mc2), (.ref e2), (vi i)])) := ho2
    have l_ho2 := hwf20 _ _ ho2
    refine m_aload_n (y := yiX3_shifted) dX3_shifted_20 rfl ?_
    refine m_invF (y := yiX3_shifted) (rB := (RJ28, TJ28, 4)) [] dX3_shifted_21 it16 rfl q1238 q746 q745 rfl q748 q750 q751 q749 q747 q156 q752 ⟨by decide, by decide⟩ (by show _ = some 0; decide +kernel) (c_J28_hasNext K 0 g _ _ _ _ _ _ _ it16 ho ⟨by omega, by omega, by omega⟩) pdJ28_hasNext ⟨Nat.le_of_ble_eq_true rfl, by decide, by omega⟩ (kk_z fun r21 h21 q21 => ?_) kx_z
    obtain ⟨rfl, rfl⟩ := q21
    refine mw_top (x' := bz (i ≠ n)) rfl ?_
    refine j_bz_eq (y := yiX3_shifted) 57 dX3_shifted_26 (by decide) (fun c26 => ?_) (fun c26 => ?_)
    · have hin : i = n := by omega
      subst hin
      refine m_aload_n (y := yiX3_shifted) dX3_shifted_57 rfl ?_
      subst hQ; exact m_aret (y := yiX3_shifted) (x := (some h.1)) dX3_shifted_58 rfl (Or.inl ⟨_, rfl⟩) ⟨h.1, rfl, ⟨by omega, by omega, fR, g1.1, e2, p2, nwE_n t8 (by omega), ⟨w2, cap2, mc2, f2, nwE_n ho2 (by omega), (by { rcases hE3 with h9 | h9; { subst h9; exact nwE_0 he2 }; { exact nwE_n he2 (by omega) } }), hae2, h02, hw2, hcap2, hf2, hno2⟩, fun c a b => nwE_n (hel c a (by omega)) (hnw c a (by omega))⟩⟩
    · refine m_aload_n (y := yiX3_shifted) dX3_shifted_29 rfl ?_
      refine m_invF (y := yiX3_shifted) (rB := (RJ28, TJ28, 4)) [] dX3_shifted_30 it16 rfl q1240 q759 q758 rfl q760 q762 q763 q761 q747 q156 q764 ⟨by decide, by decide⟩ (by show _ = some 0; decide +kernel) (c_J28_next K 1 g _ _ _ _ _ _ _ _ _ _ _ (by omega) it16 ho he ⟨by omega, by omega, by omega⟩ ⟨by omega, by omega, by omega, by omega⟩ (hf _ (by omega) (by omega))) pdJ28_next ⟨Nat.le_of_ble_eq_true rfl, by decide, by omega⟩ (kk_r fun r30 h30 q30 => ?_) kx_r
      obtain ⟨rfl, q30⟩ := q30
      have y30 := q30.1
      have z30 := q30.2.1
      have it16 := q30.2.2.1
      have hq : h30.2.2 q = some (true, .inr (2, [(vi sv), (.ref l)])) := (q30.2.2.2 _ (by omega)).trans hq
      have ho : h30.2.2 l = some (true, .inr (14, [(vi mc), (.ref e), (vi n)])) := (q30.2.2.2 _ (by omega)).trans ho
      have he : h30.2.2 e = some (w, oaE K cap f) := (q30.2.2.2 _ (by omega)).trans he
      have hE2 : h30.2.2 e0 = some (false, oaE K 0 (fun _ => none)) := (q30.2.2.2 _ (by omega)).trans hE2
      have t8 : h30.2.2 h.1 = some (true, .inr (2, [(vi sv), (.ref g1.1)])) := (q30.2.2.2 _ (by omega)).trans t8
      have ho2 : h30.2.2 g1.1 = some (true, .inr (14, [(vi mc2), (.ref e2), (vi i)])) := (q30.2.2.2 _ (by omega)).trans ho2
      have fR : ∀ b, (b < h.1) → h30.2.2 b = h.2.2 b := fun b hb => (q30.2.2.2 b (by omega)).trans (fR b hb)
      refine mw_wf (fun hwf30 => ?_)
      have l_it1630 := hwf30 _ _ it16
      have lpi := hwf _ _ (hp i (by omega) (by omega))
      have hcl : h30.2.2 (p i) = some (true, .inr (3, [(vi (fs i)), (vi (fa i)), (vi (fd i))])) := (fR _ (hwf _ _ (hp i (by omega) (by omega)))).trans (hp i (by omega) (by omega))
      have l_hcl := hwf30 _ _ hcl
      refine m_cast (y := yiX3_shifted) dX3_shifted_35 hcl rfl q1190 (Or.inl rfl) ?_
      refine m_astore (y := yiX3_shifted) dX3_shifted_38 (by decide) rfl ?_
      show MW K yiX3_shifted d h30 40 [some (.ref q), some (vi m), some (.ref h.1), some (.ref h8.1), some (.ref (p i))] [] Q
      refine m_aload_n (y := yiX3_shifted) dX3_shifted_40 rfl ?_
      refine m_getfS (y := yiX3_shifted) kc_2 1 (by decide) dX3_shifted_41 q1144 t8 rfl ?_
      refine m_aload (y := yiX3_shifted) dX3_shifted_44 rfl ?_
      refine j_iload_n (y := yiX3_shifted) dX3_shifted_46 rfl ?_
      refine m_invV (y := yiX3_shifted) (rB := (RX4, TX4, 3)) [(vi m)] dX3_shifted_47 hcl rfl q1241 q1242 q1243 q155 q1244 rfl (c_X4_shifted (d := 3) m (by omega) hcl ⟨by omega, by omega⟩) pdX4_shifted ⟨Nat.le_of_ble_eq_true rfl, by decide, by omega⟩ (kk_r fun r47 h47 q47 => ?_) kx_r
      obtain ⟨rfl, q47⟩ := q47
      have hcn := q47.2.2.1
      have y47 := q47.1
      have z47 := q47.2.1
      have hq : h47.2.2 q = some (true, .inr (2, [(vi sv), (.ref l)])) := (q47.2.2.2 _ (by omega)).trans hq
      have ho : h47.2.2 l = some (true, .inr (14, [(vi mc), (.ref e), (vi n)])) := (q47.2.2.2 _ (by omega)).trans ho
      have he : h47.2.2 e = some (w, oaE K cap f) := (q47.2.2.2 _ (by omega)).trans he
      have hE2 : h47.2.2 e0 = some (false, oaE K 0 (fun _ => none)) := (q47.2.2.2 _ (by omega)).trans hE2
      have t8 : h47.2.2 h.1 = some (true, .inr (2, [(vi sv), (.ref g1.1)])) := (q47.2.2.2 _ (by omega)).trans t8
      have it16 : h47.2.2 h8.1 = some (true, .inr (15, [(vi (i + 1)), (vi i), (vi mc), (.ref l)])) := (q47.2.2.2 _ (by omega)).trans it16
      have ho2 : h47.2.2 g1.1 = some (true, .inr (14, [(vi mc2), (.ref e2), (vi i)])) := (q47.2.2.2 _ (by omega)).trans ho2
      have hcl : h47.2.2 (p i) = some (true, .inr (3, [(vi (fs i)), (vi (fa i)), (vi (fd i))])) := (q47.2.2.2 _ (by omega)).trans hcl
      have fR : ∀ b, (b < h.1) → h47.2.2 b = h.2.2 b := fun b hb => (q47.2.2.2 b (by omega)).trans (fR b hb)
      refine mw_wf (fun hwf47 => ?_)
      have l_hcn47 := hwf47 _ _ hcn
      have hel9 : ∀ c, 0 ≤ c → c < i → h47.2.2 (p2 c) = some (true, .inr (3, [vi (fs c), vi (fa c + m), vi (fd c + m)])) := fun c a b => (q47.2.2.2 _ (by have := hwf30 _ _ ((q30.2.2.2 _ (ne_oo (hel c a b) itg (by decide))).trans (hel c a b)); omega)).trans ((q30.2.2.2 _ (ne_oo (hel c a b) itg (by decide))).trans (hel c a b))
      refine m_invV (y := yiX3_shifted) (rB := (RJ2, TJ2, 3)) [(.ref h30.1)] dX3_shifted_50 ho2 rfl q1247 q954 q955 q126 q956 rfl (c_Ladd K 6 h47 e0 g1.1 e2 h30.1 i p2 3 (r := _) (by omega) ⟨hE1, hE2⟩ ⟨w2, cap2, mc2, f2, ho2, (q47.2.2.2 _ (by omega)).trans ((q30.2.2.2 _ (by omega)).trans he2), hae2, h02, hw2, hcap2, hf2, hno2⟩ (by omega) rfl (by decide) ⟨_, _, hcn⟩ (fun c a b => ⟨_, _, hel9 c a b⟩) ⟨by omega, by have := grC_8 (n := i) (by omega); omega⟩) pdJ2_add ⟨Nat.le_of_ble_eq_true rfl, by decide, by omega⟩ (kk_z fun r50 h50 q50 => ?_) kx_z
      obtain ⟨rfl, e5, p1, p2', p3, p4, p5⟩ := q50
      have gr5 := grC_8 (n := i) (by omega)
      have hq : h50.2.2 q = some (true, .inr (2, [(vi sv), (.ref l)])) := (p5 _ (by omega)).trans hq
      have ho : h50.2.2 l = some (true, .inr (14, [(vi mc), (.ref e), (vi n)])) := (p5 _ (by omega)).trans ho
      have he : h50.2.2 e = some (w, oaE K cap f) := (p5 _ (by omega)).trans he
      have hE2 : h50.2.2 e0 = some (false, oaE K 0 (fun _ => none)) := (p5 _ (by omega)).trans hE2
      have t8 : h50.2.2 h.1 = some (true, .inr (2, [(vi sv), (.ref g1.1)])) := (p5 _ (by omega)).trans t8
      have it16 : h50.2.2 h8.1 = some (true, .inr (15, [(vi (i + 1)), (vi i), (vi mc), (.ref l)])) := (p5 _ (by omega)).trans it16
      have hcl : h50.2.2 (p i) = some (true, .inr (3, [(vi (fs i)), (vi (fa i)), (vi (fd i))])) := (p5 _ (by omega)).trans hcl
      have hcn : h50.2.2 h30.1 = some (true, .inr (3, [(vi (fs i)), (vi (fa i + m)), (vi (fd i + m))])) := (p5 _ (by omega)).trans hcn
      have fR : ∀ b, (b < h.1) → h50.2.2 b = h.2.2 b := fun b hb => (p5 b (by omega)).trans (fR b hb)
      refine mw_wf (fun hwf50 => ?_)
      refine m_pop (y := yiX3_shifted) dX3_shifted_53 rfl ?_
      refine m_goto (y := yiX3_shifted) 20 dX3_shifted_54 (by decide) ?_
      refine mw_forget 4 ?_
      exact ih20 _ (by omega) _ _ _ _ _ rfl hq ho he hE2 t8 it16 fR (by omega) p4 (by omega) (upn_c (P := fun c x => h50.2.2 x = some (true, .inr (3, [vi (fs c), vi (fa c + m), vi (fd c + m)]))) (fun c a b => (p5 _ ⟨by have := hwf47 _ _ (hel9 c a b); omega, ne_oo (hel9 c a b) ho2 (by decide), Or.inl (ne_oa (hel9 c a b) ((q47.2.2.2 _ (by omega)).trans ((q30.2.2.2 _ (by omega)).trans he2)))⟩).trans (hel9 c a b)) hcn) (upn_c (P := fun c x => h.1 ≤ x) hnw (by omega)) (⟨by omega, by omega⟩) (⟨by omega, by omega⟩)
  exact L20 _ _ _ _ (fun _ => 0) _ rfl hq ho he hE2 t8 it16 fR (by omega) (⟨false, 0, 0, _, u8, hE2, fun h9 => by omega, fun _ => rfl, fun h9 => absurd rfl h9, ⟨by omega, by omega, by omega⟩, (fun c a b => by omega), fun c _ => rfl⟩) (Or.inl rfl) (fun c a b => by omega) (fun c a b => by omega) (⟨by omega, by omega⟩) (⟨by omega, by omega⟩)

theorem TrpA.to {K : KT} {h : MH} {e0 : Nat} {sv n : Int} {fs fa fd : Int → Int} {q : Nat} {sg' : TS} {t : Int} (H : TrpA K h e0 sv n fs fa fd q) (e9 : sg'.2 9 t = sv) (e10 : sg'.2 10 t = n) (ec : ∀ c, 0 ≤ c → c < n → sg'.2 11 (8 * t + c) = fs c ∧ sg'.2 12 (8 * t + c) = fa c ∧ sg'.2 13 (8 * t + c) = fd c) : TrpA K h e0 (sg'.2 9 t) (sg'.2 10 t) (trS sg' t) (trA sg' t) (trD sg' t) q := by
  rw [e9, e10]
  exact H.cg (fun c a b => by have := ec c a b; exact ⟨this.1.symm, this.2.1.symm, this.2.2.symm⟩)
/-- tags behind a new thing: its cells lie below m -/
def ownT (own : Nat → Nat) (z m k j : Nat) : Nat → Nat := fun b => if b < z then own b else if b < m then k else j
theorem ownT_o {own : Nat → Nat} {z m k j b : Nat} (h : b < z) : ownT own z m k j b = own b := if_pos h
theorem ownT_k {own : Nat → Nat} {z m k j b : Nat} (h : z ≤ b) (h2 : b < m) : ownT own z m k j b = k := by
  unfold ownT
  rw [if_neg (by omega), if_pos h2]
theorem ownT_j {own : Nat → Nat} {z m k j b : Nat} (h : z ≤ b) (h2 : m ≤ b) : ownT own z m k j b = j := by
  unfold ownT
  rw [if_neg (by omega), if_neg (by omega)]
theorem ownT_J {own : Nat → Nat} {z m k j b : Nat} (h : z ≤ b) : ownT own z m k j b = j ∨ ownT own z m k j b = k := by
  by_cases e : b < m
  · exact Or.inr (ownT_k h e)
  · exact Or.inl (ownT_j h (by omega))
def sgTrip (sg : TS) (s p t : Int) : TS := ovr sg [(8, sg.1 8 + 1)] [(9, upz (sg.2 9) (sg.1 8) s), (10, upz (sg.2 10) (sg.1 8) 1), (11, upz (sg.2 11) (8 * sg.1 8) p), (12, upz (sg.2 12) (8 * sg.1 8) t), (13, upz (sg.2 13) (8 * sg.1 8) t)]
def sgCall (sg : TS) (t s c g : Int) : TS := ovr sg [] [(10, upz (sg.2 10) t (sg.2 10 t + 1)), (11, upz (sg.2 11) (8 * t + sg.2 10 t) s), (12, upz (sg.2 12) (8 * t + sg.2 10 t) c), (13, upz (sg.2 13) (8 * t + sg.2 10 t) g)]
def sgShift (sg : TS) (t mi : Int) : TS := ovr sg [] [(12, mvA (sg.2 12) t (sg.2 10 t) mi), (13, mvA (sg.2 13) t (sg.2 10 t) mi)]
section TRP
variable (K : KT) (d : Nat) (own : Nat → Nat) (h : MH) (z x : Nat) (sg : TS)
theorem u_trip (s p t : Int) (hd : 9 ≤ d) (hT : TB sg) (hW : WorldO own K h z x sg) (hz1 : z ≤ h.1) (i1 : In s) (i2 : In p) (i3 : In t) (hz : h.1 + 25000 ≤ kC K ∧ h.2.1 + 304000 ≤ kS K) : Mt K yiX1_trip d [.ref x, vi s, vi p, vi t] h (Rw [RJ14, RJ12, RJ13] fun th v h' => (¬ ((0 ≤ s ∧ s ≤ sg.1 6 - 1) ∧ (0 ≤ p ∧ p ≤ sg.1 1 - 1)) ∧ th = 1 ∧ QFr h h') ∨ (((0 ≤ s ∧ s ≤ sg.1 6 - 1) ∧ (0 ≤ p ∧ p ≤ sg.1 1 - 1)) ∧ ¬ (0 ≤ t ∧ t ≤ 2879) ∧ th = 2 ∧ QFr h h') ∨ (((0 ≤ s ∧ s ≤ sg.1 6 - 1) ∧ (0 ≤ p ∧ p ≤ sg.1 1 - 1)) ∧ (0 ≤ t ∧ t ≤ 2879) ∧ sg.1 8 = 24 ∧ th = 3 ∧ QFr h h') ∨ (((0 ≤ s ∧ s ≤ sg.1 6 - 1) ∧ (0 ≤ p ∧ p ≤ sg.1 1 - 1)) ∧ (0 ≤ t ∧ t ≤ 2879) ∧ sg.1 8 < 24 ∧ th = 0 ∧ MutQ K own h h' z x (sgTrip sg s p t) ∧ v = sg.1 8)) := by
  have f6 := of6 (hT.1 6)
  have f1b := of1 (hT.1 1)
  have f8 := of8 (hT.1 8)
  have := i1.1; have := i1.2; have := i2.1; have := i2.2; have := i3.1; have := i3.2
  have hW0 : World K h z x sg := ⟨own, hW⟩
  obtain ⟨e0, cc, ch, wk, sv, tr, lt, ws, tx, se, te, we, kp, sp, tp, wp, T, hKt, hEt, hIt, hxt, hcht, hwkt, hsvt, htrt, hltt, hwst, htxt, hkpt, hR0⟩ := id hW
  obtain ⟨hx, hxz, -⟩ := tg_at hxt
  obtain ⟨hch, hchz, -⟩ := tg_at hcht
  have hxo := hR0.own hxt
  have hcho := hR0.own hcht
  have hE1 := hEt.1
  obtain ⟨hE2, hE2z, -⟩ := tg_at hEt.2
  obtain ⟨k0, k1, k3, k4, k5, k8, k9, k10, k11, k12⟩ := id hKt
  have hwk := And.intro hwkt.1.C hwkt.2
  have hsv := hsvt
  have htr := htrt
  have hlt := hltt
  have hws := hwst
  have htx := htxt
  have hW9 : World K h z x sg := ⟨own, hW⟩
  have hLt := htr.1
  obtain ⟨⟨wt, capt, mct, ft, hto, hte, htne, ht0, htw, htcap, htf, htno⟩, htt⟩ := htr
  obtain ⟨hto, htoz, -⟩ := tg_at hto
  obtain ⟨hte, htez, -⟩ := tg_at hte
  obtain ⟨w_0, c_0, m_0, f_0, hto9, hte9, -⟩ := id hLt
  have hto1 := hto
  have hte1 := hte
  have htoo := hR0.own hto9
  have hteo := (tg_at hte9).2.2
  have he0o : own e0 = 0 := by have := (tg_at hEt.2).2.2; omega
  have n1 : x ≠ tr := ne_oo hx hto (by decide)
  have n2 : x ≠ te := ne_oa hx hte
  have n3 : tr ≠ e0 := ne_oa hto hE2
  have n4 : tr ≠ te := ne_oa hto hte
  refine mt_ofQ (by decide) (Nat.le_of_ble_eq_true rfl) (fun Q hQ => ?_)
  show MW K yiX1_trip d h 0 [some (.ref x), some (vi s), some (vi p), some (vi t), none, none] [] Q
  refine mw_wf (fun hwf => ?_)
  have l_hx := hwf _ _ hx
  have l_hto := hwf _ _ hto
  have l_hte := hwf _ _ hte
  have l_hE2 := hwf _ _ hE2
  have fR : ∀ b, (b < h.1 ∧ b ≠ tr ∧ (b ≠ te ∨ b = e0)) → h.2.2 b = h.2.2 b := fun _ _ => rfl
  refine m_aload_n (y := yiX1_trip) dX1_trip_0 rfl ?_
  refine j_iload_n (y := yiX1_trip) dX1_trip_1 rfl ?_
  by_cases c2 : 0 ≤ s ∧ s ≤ sg.1 6 - 1
  · refine m_invV (y := yiX1_trip) (rB := (RX1, TX1, 10)) [(vi s)] dX1_trip_2 hx rfl q1031 q1033 qs8 q123 q1034 rfl (c_serviceOf_1 K 3 h z x sg s (by omega) hT hW9 c2) pdX1_serviceOf ⟨Nat.le_of_ble_eq_true rfl, by decide, by omega⟩ (kk_r fun r2 h2 q2 => ?_) kx_r
    obtain ⟨rfl, -⟩ := q2
    refine m_astore (y := yiX1_trip) dX1_trip_5 (by decide) rfl ?_
    show MW K yiX1_trip d h 7 [some (.ref x), some (vi s), some (vi p), some (vi t), some (.ref r2), none] [] Q
    refine m_aload_n (y := yiX1_trip) dX1_trip_7 rfl ?_
    refine j_iload_n (y := yiX1_trip) dX1_trip_8 rfl ?_
    refine m_invV (y := yiX1_trip) (rB := (RX1, TX1, 10)) [(vi p)] dX1_trip_9 hx rfl q889 q891 qs2 q123 q892 rfl (c_X1_isStop (d := 1) p (by omega) hx ⟨by omega, by omega⟩ ⟨by omega, by omega⟩) pdX1_isStop ⟨Nat.le_of_ble_eq_true rfl, by decide, by omega⟩ (kk_z fun r9 h9 q9 => ?_) kx_z
    obtain ⟨rfl, rfl⟩ := q9
    refine mw_top (x' := bz (0 ≤ p ∧ p ≤ (sg.1 1) - 1)) rfl ?_
    by_cases c12 : (0 ≤ p ∧ p ≤ (sg.1 1) - 1)
    · refine mw_top (x' := 1) ((bz_t c12).symm) ?_
      refine m_invS (y := yiX1_trip) [(vi 1)] dX1_trip_12 q893 q894 q123 q895 (c_X1_requireIndex_1 K 0 h) pdX1_requireIndex ⟨Nat.le_of_ble_eq_true rfl, by decide, by omega⟩ (kk_v fun h12 q12 => ?_) kx_v
      obtain rfl := q12
      refine j_iload_n (y := yiX1_trip) dX1_trip_15 rfl ?_
      refine m_invS (y := yiX1_trip) [(vi t)] dX1_trip_16 q1132 q1133 q123 q1134 (c_X1_isTime K 1 h t (by omega) ⟨by omega, by omega⟩) pdX1_isTime ⟨Nat.le_of_ble_eq_true rfl, by decide, by omega⟩ (kk_z fun r16 h16 q16 => ?_) kx_z
      obtain ⟨rfl, rfl⟩ := q16
      refine mw_top (x' := bz (0 ≤ t ∧ t ≤ 2879)) rfl ?_
      by_cases c19 : (0 ≤ t ∧ t ≤ 2879)
      · refine mw_top (x' := 1) ((bz_t c19).symm) ?_
        refine m_invS (y := yiX1_trip) [(vi 1)] dX1_trip_19 q853 q854 q123 q855 (c_X1_require_1 K 0 h) pdX1_require ⟨Nat.le_of_ble_eq_true rfl, by decide, by omega⟩ (kk_v fun h19 q19 => ?_) kx_v
        obtain rfl := q19
        refine m_aload_n (y := yiX1_trip) dX1_trip_22 rfl ?_
        refine m_getfS (y := yiX1_trip) kc_0 4 (by decide) dX1_trip_23 q302 hx rfl ?_
        refine m_invV (y := yiX1_trip) (rB := (RJ2, TJ2, 3)) [] dX1_trip_26 hto rfl q333 q334 q335 q126 q336 rfl (c_J2_size K 0 h _ _ _ _ hto) pdJ2_size ⟨Nat.le_of_ble_eq_true rfl, by decide, by omega⟩ (kk_z fun r26 h26 q26 => ?_) kx_z
        obtain ⟨rfl, rfl⟩ := q26
        refine mw_top (x' := sg.1 8) rfl ?_
        refine j_bipush (y := yiX1_trip) dX1_trip_29 (by decide) ?_
        refine j_icmp_ge (y := yiX1_trip) 38 dX1_trip_31 (by decide) ⟨⟨by omega, by omega⟩, ⟨by omega, by omega⟩⟩ (fun c31 => ?_) (fun c31 => ?_)
        · refine j_iconst (y := yiX1_trip) dX1_trip_38 ?_
          refine m_invS (y := yiX1_trip) [(vi 0)] dX1_trip_39 q861 q862 q123 q863 (c_X1_requireState_0 K 6 h (by omega) ⟨by omega, by omega⟩) pdX1_requireState ⟨Nat.le_of_ble_eq_true rfl, by decide, by omega⟩ kk_t (kx_t fun q39 h39 x39 => ?_)
          subst hQ; exact mx_ret rfl (Or.inr ⟨2, RJ13, q39, rfl, rfl, fun _ => Or.inr (Or.inr (Or.inl ⟨⟨c2, c12⟩, c19, by omega, rfl, QFr.th x39 ⟨by omega, by omega⟩ ⟨by omega, by omega⟩ (fun _ _ => rfl)⟩))⟩)
        · refine j_iconst (y := yiX1_trip) dX1_trip_34 ?_
          refine m_goto (y := yiX1_trip) 39 dX1_trip_35 (by decide) ?_
          refine m_invS (y := yiX1_trip) [(vi 1)] dX1_trip_39 q861 q862 q123 q863 (c_X1_requireState_1 K 0 h) pdX1_requireState ⟨Nat.le_of_ble_eq_true rfl, by decide, by omega⟩ (kk_v fun h39 q39 => ?_) kx_v
          obtain rfl := q39
          refine m_new (y := yiX1_trip) kc_2 2 dX1_trip_42 q794 q1135 q153 _ rfl ⟨by omega, by omega⟩ (hp_new fun g1 g1H => ?_)
          have hx : g1.2.2 x = some (true, .inr (0, [(.ref ch), (.ref wk), (vi (sg.1 1)), (.ref sv), (.ref tr), (.ref lt), (.ref ws), (.ref tx), (vi (sg.1 21)), (va_rf kp)])) := (g1H.2.2.2 _ (by omega)).trans hx
          have hto : g1.2.2 tr = some (true, .inr (14, [(vi mct), (.ref te), (vi (sg.1 8))])) := (g1H.2.2.2 _ (by omega)).trans hto
          have hte : g1.2.2 te = some (wt, oaE K capt ft) := (g1H.2.2.2 _ (by omega)).trans hte
          have hE2 : g1.2.2 e0 = some (false, oaE K 0 (fun _ => none)) := (g1H.2.2.2 _ (by omega)).trans hE2
          have fR : ∀ b, (b < h.1 ∧ b ≠ tr ∧ (b ≠ te ∨ b = e0)) → g1.2.2 b = h.2.2 b := fun b hb => (g1H.2.2.2 b (by omega)).trans (fR b hb)
          have fg1 : g1.2.2 h.1 = some (true, .inr (2, [(vi 0), .null])) := g1H.2.2.1
          have g11 := g1H.1
          have g12 := g1H.2.1
          refine m_dup (y := yiX1_trip) dX1_trip_45 rfl ?_
          refine j_iload_n (y := yiX1_trip) dX1_trip_46 rfl ?_
          refine m_invI (y := yiX1_trip) [(vi s)] dX1_trip_47 q1136 q1137 q153 q1138 rfl rfl (c_X3_init K 4 g1 h.1 e0 s (by omega) k0 fg1 ⟨by omega, by omega⟩) pdX3_init ⟨Nat.le_of_ble_eq_true rfl, by decide, by omega⟩ (kk_v fun h47 q47 => ?_) kx_v
          obtain ⟨y47, z47, t47, u47, v47⟩ := q47
          have hx : h47.2.2 x = some (true, .inr (0, [(.ref ch), (.ref wk), (vi (sg.1 1)), (.ref sv), (.ref tr), (.ref lt), (.ref ws), (.ref tx), (vi (sg.1 21)), (va_rf kp)])) := (v47 _ (by omega)).trans hx
          have hto : h47.2.2 tr = some (true, .inr (14, [(vi mct), (.ref te), (vi (sg.1 8))])) := (v47 _ (by omega)).trans hto
          have hte : h47.2.2 te = some (wt, oaE K capt ft) := (v47 _ (by omega)).trans hte
          have hE2 : h47.2.2 e0 = some (false, oaE K 0 (fun _ => none)) := (v47 _ (by omega)).trans hE2
          have fR : ∀ b, (b < h.1 ∧ b ≠ tr ∧ (b ≠ te ∨ b = e0)) → h47.2.2 b = h.2.2 b := fun b hb => (v47 b (by omega)).trans (fR b hb)
          refine mw_wf (fun hwf47 => ?_)
          have l_t4747 := hwf47 _ _ t47
          have l_u4747 := hwf47 _ _ u47
          refine m_astore (y := yiX1_trip) dX1_trip_50 (by decide) rfl ?_
          show MW K yiX1_trip d h47 52 [some (.ref x), some (vi s), some (vi p), some (vi t), some (.ref r2), some (.ref h.1)] [] Q
          refine m_aload (y := yiX1_trip) dX1_trip_52 rfl ?_
          refine m_getfN (y := yiX1_trip) kc_2 1 (by decide) dX1_trip_54 q1146 t47 rfl ?_
          refine m_new (y := yiX1_trip) kc_3 3 dX1_trip_57 q795 q1152 q155 _ rfl ⟨by omega, by omega⟩ (hp_new fun g2 g2H => ?_)
          have hx : g2.2.2 x = some (true, .inr (0, [(.ref ch), (.ref wk), (vi (sg.1 1)), (.ref sv), (.ref tr), (.ref lt), (.ref ws), (.ref tx), (vi (sg.1 21)), (va_rf kp)])) := (g2H.2.2.2 _ (by omega)).trans hx
          have hto : g2.2.2 tr = some (true, .inr (14, [(vi mct), (.ref te), (vi (sg.1 8))])) := (g2H.2.2.2 _ (by omega)).trans hto
          have hte : g2.2.2 te = some (wt, oaE K capt ft) := (g2H.2.2.2 _ (by omega)).trans hte
          have hE2 : g2.2.2 e0 = some (false, oaE K 0 (fun _ => none)) := (g2H.2.2.2 _ (by omega)).trans hE2
          have t47 : g2.2.2 h.1 = some (true, .inr (2, [(vi s), (.ref g1.1)])) := (g2H.2.2.2 _ (by omega)).trans t47
          have u47 : g2.2.2 g1.1 = some (true, .inr (14, [(vi 0), (.ref e0), (vi 0)])) := (g2H.2.2.2 _ (by omega)).trans u47
          have fR : ∀ b, (b < h.1 ∧ b ≠ tr ∧ (b ≠ te ∨ b = e0)) → g2.2.2 b = h.2.2 b := fun b hb => (g2H.2.2.2 b (by omega)).trans (fR b hb)
          have fg2 : g2.2.2 h47.1 = some (true, .inr (3, [(vi 0), (vi 0), (vi 0)])) := g2H.2.2.1
          have g21 := g2H.1
          have g22 := g2H.2.1
          refine m_dup (y := yiX1_trip) dX1_trip_60 rfl ?_
          refine j_iload_n (y := yiX1_trip) dX1_trip_61 rfl ?_
          refine j_iload_n (y := yiX1_trip) dX1_trip_62 rfl ?_
          refine j_iload_n (y := yiX1_trip) dX1_trip_63 rfl ?_
          refine m_invIN (y := yiX1_trip) [(vi p), (vi t), (vi t)] dX1_trip_64 q1153 q1154 q155 q1155 rfl rfl (c_X4_init p t t (d := 2) (by omega) fg2) pdX4_init ⟨Nat.le_of_ble_eq_true rfl, by decide, by omega⟩ (kk_v fun h64 q64 => ?_) kx_v
          obtain q64 := q64
          have y64 := q64.1
          have z64 := q64.2.1
          have fg2 := q64.2.2.1
          have hx : h64.2.2 x = some (true, .inr (0, [(.ref ch), (.ref wk), (vi (sg.1 1)), (.ref sv), (.ref tr), (.ref lt), (.ref ws), (.ref tx), (vi (sg.1 21)), (va_rf kp)])) := (q64.2.2.2 _ (by omega)).trans hx
          have hto : h64.2.2 tr = some (true, .inr (14, [(vi mct), (.ref te), (vi (sg.1 8))])) := (q64.2.2.2 _ (by omega)).trans hto
          have hte : h64.2.2 te = some (wt, oaE K capt ft) := (q64.2.2.2 _ (by omega)).trans hte
          have hE2 : h64.2.2 e0 = some (false, oaE K 0 (fun _ => none)) := (q64.2.2.2 _ (by omega)).trans hE2
          have t47 : h64.2.2 h.1 = some (true, .inr (2, [(vi s), (.ref g1.1)])) := (q64.2.2.2 _ (by omega)).trans t47
          have u47 : h64.2.2 g1.1 = some (true, .inr (14, [(vi 0), (.ref e0), (vi 0)])) := (q64.2.2.2 _ (by omega)).trans u47
          have fR : ∀ b, (b < h.1 ∧ b ≠ tr ∧ (b ≠ te ∨ b = e0)) → h64.2.2 b = h.2.2 b := fun b hb => (q64.2.2.2 b (by omega)).trans (fR b hb)
          refine mw_wf (fun hwf64 => ?_)
          have l_fg264 := hwf64 _ _ fg2
          refine m_invV (y := yiX1_trip) (rB := (RJ2, TJ2, 3)) [(.ref h47.1)] dX1_trip_67 u47 rfl q953 q954 q955 q126 q956 rfl (c_Ladd K 6 h64 e0 g1.1 e0 h47.1 0 (fun _ => 0) 3 (r := _) (by omega) ⟨k0, hE2⟩ ⟨false, 0, 0, _, u47, hE2, by omega, fun _ => rfl, fun h9 => absurd rfl h9, ⟨by omega, by omega, by omega⟩, fun i a b => by omega, fun _ _ => rfl⟩ (by omega) rfl (by decide) ⟨_, _, fg2⟩ (fun i a b => by omega) ⟨by omega, by have := grC_8 (n := 0) (by omega); omega⟩) pdJ2_add ⟨Nat.le_of_ble_eq_true rfl, by decide, by omega⟩ (kk_z fun r67 h67 q67 => ?_) kx_z
          obtain ⟨rfl, e5, p1, p3, p3', p4, p5⟩ := q67
          have gr67 := grC_8 (n := 0) (by omega)
          have hx : h67.2.2 x = some (true, .inr (0, [(.ref ch), (.ref wk), (vi (sg.1 1)), (.ref sv), (.ref tr), (.ref lt), (.ref ws), (.ref tx), (vi (sg.1 21)), (va_rf kp)])) := (p5 _ (by omega)).trans hx
          have hto : h67.2.2 tr = some (true, .inr (14, [(vi mct), (.ref te), (vi (sg.1 8))])) := (p5 _ (by omega)).trans hto
          have hte : h67.2.2 te = some (wt, oaE K capt ft) := (p5 _ (by omega)).trans hte
          have hE2 : h67.2.2 e0 = some (false, oaE K 0 (fun _ => none)) := (p5 _ (by omega)).trans hE2
          have t47 : h67.2.2 h.1 = some (true, .inr (2, [(vi s), (.ref g1.1)])) := (p5 _ (by omega)).trans t47
          have fg2 : h67.2.2 h47.1 = some (true, .inr (3, [(vi p), (vi t), (vi t)])) := (p5 _ (by omega)).trans fg2
          have fR : ∀ b, (b < h.1 ∧ b ≠ tr ∧ (b ≠ te ∨ b = e0)) → h67.2.2 b = h.2.2 b := fun b hb => (p5 b (by omega)).trans (fR b hb)
          refine mw_wf (fun hwf67 => ?_)
          have fR67 := fR
          have t67 := t47
          have c67 := fg2
          have hwf67' := hwf67
          refine m_pop (y := yiX1_trip) dX1_trip_70 rfl ?_
          refine m_aload_n (y := yiX1_trip) dX1_trip_71 rfl ?_
          refine m_getfS (y := yiX1_trip) kc_0 4 (by decide) dX1_trip_72 q302 hx rfl ?_
          refine m_aload (y := yiX1_trip) dX1_trip_75 rfl ?_
          have gr9 : (grC (sg.1 8)).toNat ≤ 110 := by { unfold grC; (repeat' split) <;> omega }
          have hel : ∀ i, 0 ≤ i → i < sg.1 8 → ∃ w fs, h67.2.2 (tp i) = some (w, .inr (2, fs)) := fun i a b => by { obtain ⟨l9, e9, p9, hq9, -⟩ := htt i a b; have u9 := tg_at hq9; exact ⟨_, _, (fR _ ⟨by omega, ne_oo u9.1 hto1 (by decide), Or.inl (ne_oa u9.1 hte1)⟩).trans u9.1⟩ }
          refine m_invV (y := yiX1_trip) (rB := (RJ2, TJ2, 3)) [(.ref h.1)] dX1_trip_77 hto rfl q953 q954 q955 q126 q956 rfl (c_Ladd K 6 h67 e0 tr te h.1 (sg.1 8) tp 2 (r := _) (by omega) ⟨k0, hE2⟩ (hLt.up (fun b c e9 => by { have u9 := tg_at e9; by_cases e8 : b = tr; { rw [e8] at u9 ⊢; exact hto.trans (hto1.symm.trans u9.1) }; { by_cases e7 : b = te; { rw [e7] at u9 ⊢; exact hte.trans (hte1.symm.trans u9.1) }; { exact (fR b ⟨by omega, e8, Or.inl e7⟩).trans u9.1 } } })) (by omega) rfl (by decide) ⟨_, _, t47⟩ hel ⟨by omega, by omega⟩) pdJ2_add ⟨Nat.le_of_ble_eq_true rfl, by decide, by omega⟩ (kk_z fun r77 h77 q77 => ?_) kx_z
          obtain ⟨rfl, e6, r1, r3, r3', r4, r5⟩ := q77
          obtain ⟨w9, cap9, mc9, fx9, ho9, he9, hae9, h09, hw9, hcap9, hf9, hno9⟩ := id r4
          have hx : h77.2.2 x = some (true, .inr (0, [(.ref ch), (.ref wk), (vi (sg.1 1)), (.ref sv), (.ref tr), (.ref lt), (.ref ws), (.ref tx), (vi (sg.1 21)), (va_rf kp)])) := (r5 _ (by omega)).trans hx
          have hE2 : h77.2.2 e0 = some (false, oaE K 0 (fun _ => none)) := (r5 _ (by omega)).trans hE2
          have t47 : h77.2.2 h.1 = some (true, .inr (2, [(vi s), (.ref g1.1)])) := (r5 _ (by omega)).trans t47
          have fg2 : h77.2.2 h47.1 = some (true, .inr (3, [(vi p), (vi t), (vi t)])) := (r5 _ (by omega)).trans fg2
          have fR : ∀ b, (b < h.1 ∧ b ≠ tr ∧ (b ≠ te ∨ b = e0)) → h77.2.2 b = h.2.2 b := fun b hb => (r5 b (by omega)).trans (fR b hb)
          refine mw_wf (fun hwf77 => ?_)
          have l_ho977 := hwf77 _ _ ho9
          have eJ : ∀ b, b < z → ¬ (own b = 5 ∨ own b = 200 + (sg.1 8).toNat) → h77.2.2 b = h.2.2 b := fun b hb hn => fR b ⟨by omega, fun e9 => by { rw [e9] at hn; exact hn (Or.inl htoo) }, by { by_cases e8 : b = te; { right; rcases hteo with h8 | h8; { rw [e8] at hn; exact absurd (Or.inl h8) hn }; { by_cases e7 : capt = 0; { rw [e8]; exact ht0 e7 }; { exfalso; have w7 := htw e7; have u7 := hte1; rw [w7] at u7; exact hR0 te _ htez h8 u7 } } }; { exact Or.inl e8 } }⟩
          have hz9 : z ≤ h77.1 := by omega
          have U : ∀ k, ¬ (k = 5 ∨ k = 200 + (sg.1 8).toNat) → tg (ownT own z h67.1 (200 + (sg.1 8).toNat) 5) h77.1 k h77 = tg own z k h := fun k hk => tg_upJ (J := fun q => q = 5 ∨ q = 200 + (sg.1 8).toNat) (fun b hb => ownT_o hb) (fun b hb => ownT_J hb) (by omega) hk hz9 eJ
          have hnew : LsB K (tg (ownT own z h67.1 (200 + (sg.1 8).toNat) 5) h77.1 5 h77) e0 tr e6 (sg.1 8 + 1) (upn tp (sg.1 8) h.1) := ⟨w9, cap9, mc9, fx9, tg_mk ho9 (by omega) (Or.inl ((ownT_o htoz).trans htoo)), tg_mk he9 (hwf77 _ _ he9) (by { rcases r1 with e8 | e8; { rw [e8, ownT_o htez]; exact hteo }; { exact Or.inl (ownT_j (by omega) (by omega)) } }), hae9, h09, hw9, hcap9, hf9, hno9⟩
          have tmN : ∀ b c, h67.2.2 b = some c → (h.1 ≤ b ∨ b = e0) → (tg (ownT own z h67.1 (200 + (sg.1 8).toNat) 5) h77.1 (200 + (sg.1 8).toNat) h77).2.2 b = some c := fun b c e9 h9 => by { have l9 := hwf67' _ _ e9; have q9 : h77.2.2 b = some c := (r5 b ⟨l9, by omega, by omega⟩).trans e9; rcases h9 with h8 | h8; { exact tg_mk q9 (by omega) (Or.inl (ownT_k (by omega) l9)) }; { exact tg_mk q9 (by omega) (Or.inr (by rw [h8, ownT_o hE2z]; exact he0o)) } }
          have hnw9 : TrpA K (tg (ownT own z h67.1 (200 + (sg.1 8).toNat) 5) h77.1 (200 + (sg.1 8).toNat) h77) e0 s 1 (fun _ => p) (fun _ => t) (fun _ => t) h.1 := by { obtain ⟨wA, capA, mcA, fA, hoA, heA, haeA, h0A, hwA, hcapA, hfA, hnoA⟩ := p4; exact ⟨g1.1, e5, upn (fun _ => 0) 0 h47.1, tmN _ _ t67 (Or.inl (by omega)), ⟨wA, capA, mcA, fA, tmN _ _ hoA (Or.inl (by omega)), tmN _ _ heA (by { rcases p1 with h9 | h9; { exact Or.inr h9 }; { exact Or.inl (by omega) } }), haeA, h0A, hwA, hcapA, hfA, hnoA⟩, fun c c0 c1 => by { have e9 : c = 0 := (by omega); rw [e9, upn_at]; exact tmN _ _ c67 (Or.inl (by omega)) }⟩ }
          have hnew2 : ∀ t9, 0 ≤ t9 → t9 < sg.1 8 + 1 → TrpA K (tg (ownT own z h67.1 (200 + (sg.1 8).toNat) 5) h77.1 (200 + t9.toNat) h77) e0 ((sgTrip sg s p t).2 9 t9) ((sgTrip sg s p t).2 10 t9) (trS (sgTrip sg s p t) t9) (trA (sgTrip sg s p t) t9) (trD (sgTrip sg s p t) t9) (upn tp (sg.1 8) h.1 t9) := fun t9 a b => by { by_cases e8 : t9 = sg.1 8; { rw [e8, upn_at]; exact hnw9.to (by show upz _ _ _ _ = _; exact upz_at) (by show upz _ _ _ _ = _; exact upz_at) (fun c c0 c1 => by { have e9 : 8 * sg.1 8 + c = 8 * sg.1 8 := (by omega); rw [e9]; exact ⟨upz_at, upz_at, upz_at⟩ }) }; { have n9 := oa10 (hT.2 10) t9 a (by omega); rw [upn_ne e8, U (200 + t9.toNat) (by omega)]; exact (htt t9 a (by omega)).to (by show upz _ _ _ _ = _; exact upz_ne e8) (by show upz _ _ _ _ = _; exact upz_ne e8) (fun c c0 c1 => ⟨upz_ne (by omega), upz_ne (by omega), upz_ne (by omega)⟩) } }
          refine m_pop (y := yiX1_trip) dX1_trip_80 rfl ?_
          refine m_aload_n (y := yiX1_trip) dX1_trip_81 rfl ?_
          refine m_getfS (y := yiX1_trip) kc_0 4 (by decide) dX1_trip_82 q302 hx rfl ?_
          refine m_invV (y := yiX1_trip) (rB := (RJ2, TJ2, 3)) [] dX1_trip_85 ho9 rfl q333 q334 q335 q126 q336 rfl (c_J2_size K 0 h77 _ _ _ _ ho9) pdJ2_size ⟨Nat.le_of_ble_eq_true rfl, by decide, by omega⟩ (kk_z fun r85 h85 q85 => ?_) kx_z
          obtain ⟨rfl, rfl⟩ := q85
          refine mw_top (x' := sg.1 8 + 1) rfl ?_
          refine j_iconst (y := yiX1_trip) dX1_trip_88 ?_
          refine j_isub (y := yiX1_trip) dX1_trip_89 ?_
          subst hQ; exact j_wret (y := yiX1_trip) dX1_trip_90 rfl (Or.inr (Or.inr (Or.inr ⟨⟨c2, c12⟩, c19, by omega, rfl, ⟨ownT own z h67.1 (200 + (sg.1 8).toNat) 5, fun b hb => ownT_o hb, ⟨e0, cc, ch, wk, sv, tr, lt, ws, tx, se, e6, we, kp, sp, upn tp (sg.1 8) h.1, wp, T, hKt, (by rw [U 0 (by omega)]; exact hEt), (by rw [U 0 (by omega)]; exact hIt), (by rw [U 1 (by omega)]; exact hxt), (by rw [U 2 (by omega)]; exact hcht), (by rw [U 3 (by omega)]; exact hwkt), ⟨by rw [U 4 (by omega)]; exact hsvt.1, fun s a b => by rw [U (100 + s.toNat) (by have b9 : s < sg.1 6 := b; omega)]; exact hsvt.2 s a b⟩, ⟨hnew, hnew2⟩, (by rw [U 6 (by omega)]; exact hltt), ⟨by rw [U 7 (by omega)]; exact hwst.1, fun w a b => by rw [U 7 (by omega)]; exact hwst.2 w a b⟩, (by rw [U 8 (by omega)]; exact htxt), (by rw [U 9 (by omega)]; exact hkpt), hR0.up (J := fun q => q = 5 ∨ q = 200 + (sg.1 8).toNat) (fun b hb => ownT_o hb) (fun b hb => ownT_J hb) (by omega) eJ⟩, fun b hb h10 => eJ b hb (by omega), by omega, by omega⟩, by omega⟩)))
      · refine mw_top (x' := 0) ((bz_f c19).symm) ?_
        refine m_invS (y := yiX1_trip) [(vi 0)] dX1_trip_19 q853 q854 q123 q855 (c_X1_require_0 K 6 h (by omega) ⟨by omega, by omega⟩) pdX1_require ⟨Nat.le_of_ble_eq_true rfl, by decide, by omega⟩ kk_t (kx_t fun q19 h19 x19 => ?_)
        subst hQ; exact mx_ret rfl (Or.inr ⟨1, RJ12, q19, rfl, rfl, fun _ => Or.inr (Or.inl ⟨⟨c2, c12⟩, c19, rfl, QFr.th x19 ⟨by omega, by omega⟩ ⟨by omega, by omega⟩ (fun _ _ => rfl)⟩)⟩)
    · refine mw_top (x' := 0) ((bz_f c12).symm) ?_
      refine m_invS (y := yiX1_trip) [(vi 0)] dX1_trip_12 q893 q894 q123 q895 (c_X1_requireIndex_0 K 6 h (by omega) ⟨by omega, by omega⟩) pdX1_requireIndex ⟨Nat.le_of_ble_eq_true rfl, by decide, by omega⟩ kk_t (kx_t fun q12 h12 x12 => ?_)
      subst hQ; exact mx_ret rfl (Or.inr ⟨0, RJ14, q12, rfl, rfl, fun _ => Or.inl ⟨fun h9 => c12 h9.2, rfl, QFr.th x12 ⟨by omega, by omega⟩ ⟨by omega, by omega⟩ (fun _ _ => rfl)⟩⟩)
  · refine m_invV (y := yiX1_trip) (rB := (RX1, TX1, 10)) [(vi s)] dX1_trip_2 hx rfl q1031 q1033 qs8 q123 q1034 rfl (c_serviceOf_0 K 7 h z x sg s (by omega) hT hW9 i1 c2 ⟨by omega, by omega⟩) pdX1_serviceOf ⟨Nat.le_of_ble_eq_true rfl, by decide, by omega⟩ kk_t (kx_t fun q2 h2 x2 => ?_)
    subst hQ; exact mx_ret rfl (Or.inr ⟨0, RJ14, q2, rfl, rfl, fun _ => Or.inl ⟨fun h9 => c2 h9.1, rfl, QFr.th x2 ⟨by omega, by omega⟩ ⟨by omega, by omega⟩ (fun _ _ => rfl)⟩⟩)
theorem c_X1_goesOn (e0 : Nat) (sv n s c g : Int) (fs fa fd : Int → Int) (q : Nat) (hd : 4 ≤ d) (hT : TrpA K h e0 sv n fs fa fd q) (hn : 1 ≤ n) (hb : In (fs (n - 1)) ∧ In (fd (n - 1))) (i1 : In s) (i2 : In c) (i3 : In g) : Mt K yiX1_goesOn d [.ref q, vi s, vi c, vi g] h (Rz fun r h' => h = h' ∧ bz ((0 ≤ c ∧ c ≤ 2879) ∧ (0 ≤ g ∧ g ≤ 2879) ∧ fd (n - 1) < c ∧ c ≤ g ∧ s ≠ fs (n - 1)) = r) := by
  have := i1.1; have := i1.2; have := i2.1; have := i2.2; have := i3.1; have := i3.2
  have := hb.1.1; have := hb.1.2; have := hb.2.1; have := hb.2.2
  have hT' := hT
  obtain ⟨l, e, p, hq, ⟨w, cap, mc, f, ho, he, hae, h0, hw, hcap, hf, hno⟩, hp⟩ := hT
  refine mt_ofQ (by decide) (Nat.le_of_ble_eq_true rfl) (fun Q hQ => ?_)
  show MW K yiX1_goesOn d h 0 [some (.ref q), some (vi s), some (vi c), some (vi g), none] [] Q
  refine mw_wf (fun hwf => ?_)
  have l_hq := hwf _ _ hq
  refine j_iload_n (y := yiX1_goesOn) dX1_goesOn_0 rfl ?_
  refine m_invS (y := yiX1_goesOn) [(vi c)] dX1_goesOn_1 q1132 q1133 q123 q1134 (c_X1_isTime K 1 h c (by omega) ⟨by omega, by omega⟩) pdX1_isTime ⟨Nat.le_of_ble_eq_true rfl, by decide, by omega⟩ (kk_z fun r1 h1 q1 => ?_) kx_z
  obtain ⟨rfl, rfl⟩ := q1
  refine mw_top (x' := bz (0 ≤ c ∧ c ≤ 2879)) rfl ?_
  refine j_bz_eq (y := yiX1_goesOn) 23 dX1_goesOn_4 (by decide) (fun c4 => ?_) (fun c4 => ?_)
  · refine j_iconst (y := yiX1_goesOn) dX1_goesOn_23 ?_
    refine j_istore (y := yiX1_goesOn) [some (.ref q), some (vi s), some (vi c), some (vi g), some (vi 0)] dX1_goesOn_24 (by decide) rfl rfl ?_
    refine j_iload (y := yiX1_goesOn) dX1_goesOn_26 rfl ?_
    refine j_if_eq (y := yiX1_goesOn) 57 dX1_goesOn_28 (by decide) ⟨by decide, by decide⟩ (fun _ => ?_) (fun c => absurd c (by decide))
    refine j_iconst (y := yiX1_goesOn) dX1_goesOn_57 ?_
    subst hQ; exact j_zret (y := yiX1_goesOn) dX1_goesOn_58 rfl (by omega) (⟨rfl, by first | exact (bz_f (by omega)).symm | exact (bz_t (by omega)).symm⟩)
  · refine j_iload_n (y := yiX1_goesOn) dX1_goesOn_7 rfl ?_
    refine m_invS (y := yiX1_goesOn) [(vi g)] dX1_goesOn_8 q1132 q1133 q123 q1134 (c_X1_isTime K 1 h g (by omega) ⟨by omega, by omega⟩) pdX1_isTime ⟨Nat.le_of_ble_eq_true rfl, by decide, by omega⟩ (kk_z fun r8 h8 q8 => ?_) kx_z
    obtain ⟨rfl, rfl⟩ := q8
    refine mw_top (x' := bz (0 ≤ g ∧ g ≤ 2879)) rfl ?_
    refine j_bz_eq (y := yiX1_goesOn) 23 dX1_goesOn_11 (by decide) (fun c11 => ?_) (fun c11 => ?_)
    · refine j_iconst (y := yiX1_goesOn) dX1_goesOn_23 ?_
      refine j_istore (y := yiX1_goesOn) [some (.ref q), some (vi s), some (vi c), some (vi g), some (vi 0)] dX1_goesOn_24 (by decide) rfl rfl ?_
      refine j_iload (y := yiX1_goesOn) dX1_goesOn_26 rfl ?_
      refine j_if_eq (y := yiX1_goesOn) 57 dX1_goesOn_28 (by decide) ⟨by decide, by decide⟩ (fun _ => ?_) (fun c => absurd c (by decide))
      refine j_iconst (y := yiX1_goesOn) dX1_goesOn_57 ?_
      subst hQ; exact j_zret (y := yiX1_goesOn) dX1_goesOn_58 rfl (by omega) (⟨rfl, by first | exact (bz_f (by omega)).symm | exact (bz_t (by omega)).symm⟩)
    · refine j_iload_n (y := yiX1_goesOn) dX1_goesOn_14 rfl ?_
      refine j_iload_n (y := yiX1_goesOn) dX1_goesOn_15 rfl ?_
      refine j_icmp_lt (y := yiX1_goesOn) 23 dX1_goesOn_16 (by decide) ⟨⟨by omega, by omega⟩, ⟨by omega, by omega⟩⟩ (fun c16 => ?_) (fun c16 => ?_)
      · refine j_iconst (y := yiX1_goesOn) dX1_goesOn_23 ?_
        refine j_istore (y := yiX1_goesOn) [some (.ref q), some (vi s), some (vi c), some (vi g), some (vi 0)] dX1_goesOn_24 (by decide) rfl rfl ?_
        refine j_iload (y := yiX1_goesOn) dX1_goesOn_26 rfl ?_
        refine j_if_eq (y := yiX1_goesOn) 57 dX1_goesOn_28 (by decide) ⟨by decide, by decide⟩ (fun _ => ?_) (fun c => absurd c (by decide))
        refine j_iconst (y := yiX1_goesOn) dX1_goesOn_57 ?_
        subst hQ; exact j_zret (y := yiX1_goesOn) dX1_goesOn_58 rfl (by omega) (⟨rfl, by first | exact (bz_f (by omega)).symm | exact (bz_t (by omega)).symm⟩)
      · refine j_iconst (y := yiX1_goesOn) dX1_goesOn_19 ?_
        refine m_goto (y := yiX1_goesOn) 24 dX1_goesOn_20 (by decide) ?_
        refine j_istore (y := yiX1_goesOn) [some (.ref q), some (vi s), some (vi c), some (vi g), some (vi 1)] dX1_goesOn_24 (by decide) rfl rfl ?_
        refine j_iload (y := yiX1_goesOn) dX1_goesOn_26 rfl ?_
        refine j_if_eq (y := yiX1_goesOn) 57 dX1_goesOn_28 (by decide) ⟨by decide, by decide⟩ (fun c => absurd c (by decide)) (fun _ => ?_)
        refine j_iload_n (y := yiX1_goesOn) dX1_goesOn_31 rfl ?_
        refine m_aload_n (y := yiX1_goesOn) dX1_goesOn_32 rfl ?_
        refine m_invV (y := yiX1_goesOn) (rB := (RX3, TX3, 2)) [] dX1_goesOn_33 hq rfl q1184 q1185 q1186 q153 q1187 rfl (c_X3_last K 3 h e0 sv n fs fa fd q (by omega) hT' hn) pdX3_last ⟨Nat.le_of_ble_eq_true rfl, by decide, by omega⟩ (kk_r fun r33 h33 q33 => ?_) kx_r
        obtain ⟨rfl, e33⟩ := q33
        have e33 : h.2.2 r33 = some (true, .inr (3, [(vi (fs (n - 1))), (vi (fa (n - 1))), (vi (fd (n - 1)))])) := e33
        have l_e33 := hwf _ _ e33
        refine m_invV (y := yiX1_goesOn) (rB := (RX4, TX4, 3)) [] dX1_goesOn_36 e33 rfl q804 q805 q806 q155 q807 rfl (c_X4_departure (d := 0) e33) pdX4_departure ⟨Nat.le_of_ble_eq_true rfl, by decide, by omega⟩ (kk_z fun r36 h36 q36 => ?_) kx_z
        obtain ⟨rfl, rfl⟩ := q36
        refine mw_top (x' := (fd (n - 1))) rfl ?_
        refine j_icmp_le (y := yiX1_goesOn) 57 dX1_goesOn_39 (by decide) ⟨⟨by omega, by omega⟩, ⟨by omega, by omega⟩⟩ (fun c39 => ?_) (fun c39 => ?_)
        · refine j_iconst (y := yiX1_goesOn) dX1_goesOn_57 ?_
          subst hQ; exact j_zret (y := yiX1_goesOn) dX1_goesOn_58 rfl (by omega) (⟨rfl, by first | exact (bz_f (by omega)).symm | exact (bz_t (by omega)).symm⟩)
        · refine j_iload_n (y := yiX1_goesOn) dX1_goesOn_42 rfl ?_
          refine m_aload_n (y := yiX1_goesOn) dX1_goesOn_43 rfl ?_
          refine m_invV (y := yiX1_goesOn) (rB := (RX3, TX3, 2)) [] dX1_goesOn_44 hq rfl q1184 q1185 q1186 q153 q1187 rfl (c_X3_last K 3 h e0 sv n fs fa fd q (by omega) hT' hn) pdX3_last ⟨Nat.le_of_ble_eq_true rfl, by decide, by omega⟩ (kk_r fun r44 h44 q44 => ?_) kx_r
          obtain ⟨rfl, e44⟩ := q44
          have e44 : h.2.2 r44 = some (true, .inr (3, [(vi (fs (n - 1))), (vi (fa (n - 1))), (vi (fd (n - 1)))])) := e44
          have l_e44 := hwf _ _ e44
          refine m_invV (y := yiX1_goesOn) (rB := (RX4, TX4, 3)) [] dX1_goesOn_47 e44 rfl q796 q797 q798 q155 q799 rfl (c_X4_stop (d := 0) e44) pdX4_stop ⟨Nat.le_of_ble_eq_true rfl, by decide, by omega⟩ (kk_z fun r47 h47 q47 => ?_) kx_z
          obtain ⟨rfl, rfl⟩ := q47
          refine mw_top (x' := (fs (n - 1))) rfl ?_
          refine j_icmp_eq (y := yiX1_goesOn) 57 dX1_goesOn_50 (by decide) ⟨⟨by omega, by omega⟩, ⟨by omega, by omega⟩⟩ (fun c50 => ?_) (fun c50 => ?_)
          · refine j_iconst (y := yiX1_goesOn) dX1_goesOn_57 ?_
            subst hQ; exact j_zret (y := yiX1_goesOn) dX1_goesOn_58 rfl (by omega) (⟨rfl, by first | exact (bz_f (by omega)).symm | exact (bz_t (by omega)).symm⟩)
          · refine j_iconst (y := yiX1_goesOn) dX1_goesOn_53 ?_
            refine m_goto (y := yiX1_goesOn) 58 dX1_goesOn_54 (by decide) ?_
            subst hQ; exact j_zret (y := yiX1_goesOn) dX1_goesOn_58 rfl (by omega) (⟨rfl, by first | exact (bz_f (by omega)).symm | exact (bz_t (by omega)).symm⟩)
set_option maxHeartbeats 4000000 in
theorem u_call (t s c g : Int) (hd : 9 ≤ d) (hT : TB sg) (hC : clOk sg) (hW : WorldO own K h z x sg) (hz1 : z ≤ h.1) (i1 : In t) (i2 : In s) (i3 : In c) (i4 : In g) (hz : h.1 + 25000 ≤ kC K ∧ h.2.1 + 304000 ≤ kS K) : Mt K yiX1_call d [.ref x, vi t, vi s, vi c, vi g] h (Rw [RJ14, RJ12, RJ13] fun th v h' => (¬ ((0 ≤ t ∧ t ≤ sg.1 8 - 1) ∧ (0 ≤ s ∧ s ≤ sg.1 1 - 1)) ∧ th = 1 ∧ QFr h h') ∨ (((0 ≤ t ∧ t ≤ sg.1 8 - 1) ∧ (0 ≤ s ∧ s ≤ sg.1 1 - 1)) ∧ ¬ ((0 ≤ c ∧ c ≤ 2879) ∧ (0 ≤ g ∧ g ≤ 2879) ∧ sg.2 13 (8 * t + sg.2 10 t - 1) < c ∧ c ≤ g ∧ s ≠ sg.2 11 (8 * t + sg.2 10 t - 1)) ∧ th = 2 ∧ QFr h h') ∨ (((0 ≤ t ∧ t ≤ sg.1 8 - 1) ∧ (0 ≤ s ∧ s ≤ sg.1 1 - 1)) ∧ ((0 ≤ c ∧ c ≤ 2879) ∧ (0 ≤ g ∧ g ≤ 2879) ∧ sg.2 13 (8 * t + sg.2 10 t - 1) < c ∧ c ≤ g ∧ s ≠ sg.2 11 (8 * t + sg.2 10 t - 1)) ∧ sg.2 10 t = 8 ∧ th = 3 ∧ QFr h h') ∨ (((0 ≤ t ∧ t ≤ sg.1 8 - 1) ∧ (0 ≤ s ∧ s ≤ sg.1 1 - 1)) ∧ ((0 ≤ c ∧ c ≤ 2879) ∧ (0 ≤ g ∧ g ≤ 2879) ∧ sg.2 13 (8 * t + sg.2 10 t - 1) < c ∧ c ≤ g ∧ s ≠ sg.2 11 (8 * t + sg.2 10 t - 1)) ∧ sg.2 10 t < 8 ∧ th = 0 ∧ MutQ K own h h' z x (sgCall sg t s c g) ∧ v = sg.2 10 t + 1)) := by
  have f1b := of1 (hT.1 1)
  have f8 := of8 (hT.1 8)
  have f6 := of6 (hT.1 6)
  have := i1.1; have := i1.2; have := i2.1; have := i2.2; have := i3.1; have := i3.2; have := i4.1; have := i4.2
  have hW0 : World K h z x sg := ⟨own, hW⟩
  obtain ⟨e0, cc, ch, wk, sv, tr, lt, ws, tx, se, te, we, kp, sp, tp, wp, T, hKt, hEt, hIt, hxt, hcht, hwkt, hsvt, htrt, hltt, hwst, htxt, hkpt, hR0⟩ := id hW
  obtain ⟨hx, hxz, -⟩ := tg_at hxt
  obtain ⟨hch, hchz, -⟩ := tg_at hcht
  have hxo := hR0.own hxt
  have hcho := hR0.own hcht
  have hE1 := hEt.1
  obtain ⟨hE2, hE2z, -⟩ := tg_at hEt.2
  obtain ⟨k0, k1, k3, k4, k5, k8, k9, k10, k11, k12⟩ := id hKt
  have hwk := And.intro hwkt.1.C hwkt.2
  have hsv := hsvt
  have htr := htrt
  have hlt := hltt
  have hws := hwst
  have htx := htxt
  have hW9 : World K h z x sg := ⟨own, hW⟩
  obtain ⟨⟨wt, capt, mct, ft, hto, hte, htne, ht0, htw, htcap, htf, htno⟩, htt⟩ := htr
  obtain ⟨hto, htoz, -⟩ := tg_at hto
  obtain ⟨hte, htez, -⟩ := tg_at hte
  have hsq : (0 ≤ t ∧ t ≤ sg.1 8 - 1) → ∃ s0 l, h.2.2 (tp t) = some (true, .inr (2, [vi s0, .ref l])) := fun c9 => by
    obtain ⟨l, e, p, hq, -⟩ := htt t (by omega) (by omega)
    exact ⟨_, l, (tg_at hq).1⟩
  have he0o : own e0 = 0 := by have := (tg_at hEt.2).2.2; omega
  refine mt_ofQ (by decide) (Nat.le_of_ble_eq_true rfl) (fun Q hQ => ?_)
  show MW K yiX1_call d h 0 [some (.ref x), some (vi t), some (vi s), some (vi c), some (vi g), none] [] Q
  refine mw_wf (fun hwf => ?_)
  have l_hx := hwf _ _ hx
  have l_hto := hwf _ _ hto
  have l_hte := hwf _ _ hte
  have l_hE2 := hwf _ _ hE2
  refine m_aload_n (y := yiX1_call) dX1_call_0 rfl ?_
  refine j_iload_n (y := yiX1_call) dX1_call_1 rfl ?_
  by_cases c2 : 0 ≤ t ∧ t ≤ sg.1 8 - 1
  · refine m_invV (y := yiX1_call) (rB := (RX1, TX1, 10)) [(vi t)] dX1_call_2 hx rfl q1177 q1179 qs12 q123 q1180 rfl (c_tripOfA K 3 h t (by omega) hx hto hte htcap htf (hsq c2) c2) pdX1_tripOf ⟨Nat.le_of_ble_eq_true rfl, by decide, by omega⟩ (kk_r fun r2 h2 q2 => ?_) kx_r
    obtain ⟨rfl, rfl⟩ := q2
    have hn8 := oa10 (hT.2 10) t (by omega) (by omega)
    have hn1 := hC t (by omega) (by omega)
    have hsN := oa11 (hT.2 11) (8 * t + (sg.2 10 t - 1)) (by omega) (by omega)
    have hdN := oa13 (hT.2 13) (8 * t + (sg.2 10 t - 1)) (by omega) (by omega)
    have hTh : TrpA K h e0 (sg.2 9 t) (sg.2 10 t) (trS sg t) (trA sg t) (trD sg t) (tp t) := (htt t (by omega) (by omega)).up tg_h
    obtain ⟨l, e, p, htq9, hLl9, hp9⟩ := htt t (by omega) (by omega)
    obtain ⟨wl, cl, ml, fl, hlo9, hle9, hlae, hl0, hlw, hlc, hlf, hlno⟩ := id hLl9
    obtain ⟨htq, htqz, -⟩ := tg_at htq9
    obtain ⟨hlo, hloz, -⟩ := tg_at hlo9
    obtain ⟨hle, hlez, hleo⟩ := tg_at hle9
    have htqo := hR0.own htq9
    have hloo := hR0.own hlo9
    have hlo1 := hlo
    have hle1 := hle
    have n1 : tp t ≠ l := ne_oo htq hlo (by decide)
    have n2 : tp t ≠ e := ne_oa htq hle
    have n3 : l ≠ e0 := ne_oa hlo hE2
    have n4 : l ≠ e := ne_oa hlo hle
    have htq : h.2.2 (tp t) = some (true, .inr (2, [(vi (sg.2 9 t)), (.ref l)])) := htq
    have l_htq := hwf _ _ htq
    have hlo : h.2.2 l = some (true, .inr (14, [(vi ml), (.ref e), (vi (sg.2 10 t))])) := hlo
    have l_hlo := hwf _ _ hlo
    have hle : h.2.2 e = some (wl, oaE K cl fl) := hle
    have l_hle := hwf _ _ hle
    refine m_astore (y := yiX1_call) dX1_call_5 (by decide) rfl ?_
    show MW K yiX1_call d h 7 [some (.ref x), some (vi t), some (vi s), some (vi c), some (vi g), some (.ref (tp t))] [] Q
    refine m_aload_n (y := yiX1_call) dX1_call_7 rfl ?_
    refine j_iload_n (y := yiX1_call) dX1_call_8 rfl ?_
    refine m_invV (y := yiX1_call) (rB := (RX1, TX1, 10)) [(vi s)] dX1_call_9 hx rfl q889 q891 qs2 q123 q892 rfl (c_X1_isStop (d := 1) s (by omega) hx ⟨by omega, by omega⟩ ⟨by omega, by omega⟩) pdX1_isStop ⟨Nat.le_of_ble_eq_true rfl, by decide, by omega⟩ (kk_z fun r9 h9 q9 => ?_) kx_z
    obtain ⟨rfl, rfl⟩ := q9
    refine mw_top (x' := bz (0 ≤ s ∧ s ≤ (sg.1 1) - 1)) rfl ?_
    by_cases c12 : (0 ≤ s ∧ s ≤ (sg.1 1) - 1)
    · refine mw_top (x' := 1) ((bz_t c12).symm) ?_
      refine m_invS (y := yiX1_call) [(vi 1)] dX1_call_12 q893 q894 q123 q895 (c_X1_requireIndex_1 K 0 h) pdX1_requireIndex ⟨Nat.le_of_ble_eq_true rfl, by decide, by omega⟩ (kk_v fun h12 q12 => ?_) kx_v
      obtain rfl := q12
      refine m_aload (y := yiX1_call) dX1_call_15 rfl ?_
      refine j_iload_n (y := yiX1_call) dX1_call_17 rfl ?_
      refine j_iload_n (y := yiX1_call) dX1_call_18 rfl ?_
      refine j_iload (y := yiX1_call) dX1_call_19 rfl ?_
      refine m_invS (y := yiX1_call) [(.ref (tp t)), (vi s), (vi c), (vi g)] dX1_call_21 q1181 q1182 q123 q1183 (c_X1_goesOn K 4 h e0 (sg.2 9 t) (sg.2 10 t) s c g (trS sg t) (trA sg t) (trD sg t) (tp t) (by omega) hTh hn1 ⟨⟨by unfold trS; omega, by unfold trS; omega⟩, ⟨by unfold trD; omega, by unfold trD; omega⟩⟩ i2 i3 i4) pdX1_goesOn ⟨Nat.le_of_ble_eq_true rfl, by decide, by omega⟩ (kk_z fun r21 h21 q21 => ?_) kx_z
      obtain ⟨rfl, rfl⟩ := q21
      refine mw_top (x' := bz ((0 ≤ c ∧ c ≤ 2879) ∧ (0 ≤ g ∧ g ≤ 2879) ∧ sg.2 13 (8 * t + sg.2 10 t - 1) < c ∧ c ≤ g ∧ s ≠ sg.2 11 (8 * t + sg.2 10 t - 1))) (by unfold trS trD; rw [show 8 * t + (sg.2 10 t - 1) = 8 * t + sg.2 10 t - 1 by omega]) ?_
      by_cases c24 : ((0 ≤ c ∧ c ≤ 2879) ∧ (0 ≤ g ∧ g ≤ 2879) ∧ sg.2 13 (8 * t + sg.2 10 t - 1) < c ∧ c ≤ g ∧ s ≠ sg.2 11 (8 * t + sg.2 10 t - 1))
      · refine mw_top (x' := 1) ((bz_t c24).symm) ?_
        refine m_invS (y := yiX1_call) [(vi 1)] dX1_call_24 q853 q854 q123 q855 (c_X1_require_1 K 0 h) pdX1_require ⟨Nat.le_of_ble_eq_true rfl, by decide, by omega⟩ (kk_v fun h24 q24 => ?_) kx_v
        obtain rfl := q24
        refine m_aload (y := yiX1_call) dX1_call_27 rfl ?_
        refine m_getfN (y := yiX1_call) kc_2 1 (by decide) dX1_call_29 q1146 htq rfl ?_
        refine m_invV (y := yiX1_call) (rB := (RJ2, TJ2, 3)) [] dX1_call_32 hlo rfl q333 q334 q335 q126 q336 rfl (c_J2_size K 0 h _ _ _ _ hlo) pdJ2_size ⟨Nat.le_of_ble_eq_true rfl, by decide, by omega⟩ (kk_z fun r32 h32 q32 => ?_) kx_z
        obtain ⟨rfl, rfl⟩ := q32
        refine mw_top (x' := sg.2 10 t) rfl ?_
        refine j_bipush (y := yiX1_call) dX1_call_35 (by decide) ?_
        refine j_icmp_ge (y := yiX1_call) 44 dX1_call_37 (by decide) ⟨⟨by omega, by omega⟩, ⟨by omega, by omega⟩⟩ (fun c37 => ?_) (fun c37 => ?_)
        · refine j_iconst (y := yiX1_call) dX1_call_44 ?_
          refine m_invS (y := yiX1_call) [(vi 0)] dX1_call_45 q861 q862 q123 q863 (c_X1_requireState_0 K 6 h (by omega) ⟨by omega, by omega⟩) pdX1_requireState ⟨Nat.le_of_ble_eq_true rfl, by decide, by omega⟩ kk_t (kx_t fun q45 h45 x45 => ?_)
          subst hQ; exact mx_ret rfl (Or.inr ⟨2, RJ13, q45, rfl, rfl, fun _ => Or.inr (Or.inr (Or.inl ⟨⟨c2, c12⟩, c24, by omega, rfl, QFr.th x45 ⟨by omega, by omega⟩ ⟨by omega, by omega⟩ (fun _ _ => rfl)⟩))⟩)
        · refine j_iconst (y := yiX1_call) dX1_call_40 ?_
          refine m_goto (y := yiX1_call) 45 dX1_call_41 (by decide) ?_
          refine m_invS (y := yiX1_call) [(vi 1)] dX1_call_45 q861 q862 q123 q863 (c_X1_requireState_1 K 0 h) pdX1_requireState ⟨Nat.le_of_ble_eq_true rfl, by decide, by omega⟩ (kk_v fun h45 q45 => ?_) kx_v
          obtain rfl := q45
          have fR : ∀ b, (b < h.1 ∧ b ≠ l ∧ (b ≠ e ∨ b = e0)) → h.2.2 b = h.2.2 b := fun _ _ => rfl
          refine m_aload (y := yiX1_call) dX1_call_48 rfl ?_
          refine m_getfN (y := yiX1_call) kc_2 1 (by decide) dX1_call_50 q1146 htq rfl ?_
          refine m_new (y := yiX1_call) kc_3 3 dX1_call_53 q795 q1152 q155 _ rfl ⟨by omega, by omega⟩ (hp_new fun g1 g1H => ?_)
          have hE2 : g1.2.2 e0 = some (false, oaE K 0 (fun _ => none)) := (g1H.2.2.2 _ (by omega)).trans hE2
          have htq : g1.2.2 (tp t) = some (true, .inr (2, [(vi (sg.2 9 t)), (.ref l)])) := (g1H.2.2.2 _ (by omega)).trans htq
          have hlo : g1.2.2 l = some (true, .inr (14, [(vi ml), (.ref e), (vi (sg.2 10 t))])) := (g1H.2.2.2 _ (by omega)).trans hlo
          have hle : g1.2.2 e = some (wl, oaE K cl fl) := (g1H.2.2.2 _ (by omega)).trans hle
          have fR : ∀ b, (b < h.1 ∧ b ≠ l ∧ (b ≠ e ∨ b = e0)) → g1.2.2 b = h.2.2 b := fun b hb => (g1H.2.2.2 b (by omega)).trans (fR b hb)
          have fg1 : g1.2.2 h.1 = some (true, .inr (3, [(vi 0), (vi 0), (vi 0)])) := g1H.2.2.1
          have g11 := g1H.1
          have g12 := g1H.2.1
          refine m_dup (y := yiX1_call) dX1_call_56 rfl ?_
          refine j_iload_n (y := yiX1_call) dX1_call_57 rfl ?_
          refine j_iload_n (y := yiX1_call) dX1_call_58 rfl ?_
          refine j_iload (y := yiX1_call) dX1_call_59 rfl ?_
          refine m_invIN (y := yiX1_call) [(vi s), (vi c), (vi g)] dX1_call_61 q1153 q1154 q155 q1155 rfl rfl (c_X4_init s c g (d := 2) (by omega) fg1) pdX4_init ⟨Nat.le_of_ble_eq_true rfl, by decide, by omega⟩ (kk_v fun h61 q61 => ?_) kx_v
          obtain q61 := q61
          have y61 := q61.1
          have z61 := q61.2.1
          have fg1 := q61.2.2.1
          have hE2 : h61.2.2 e0 = some (false, oaE K 0 (fun _ => none)) := (q61.2.2.2 _ (by omega)).trans hE2
          have htq : h61.2.2 (tp t) = some (true, .inr (2, [(vi (sg.2 9 t)), (.ref l)])) := (q61.2.2.2 _ (by omega)).trans htq
          have hlo : h61.2.2 l = some (true, .inr (14, [(vi ml), (.ref e), (vi (sg.2 10 t))])) := (q61.2.2.2 _ (by omega)).trans hlo
          have hle : h61.2.2 e = some (wl, oaE K cl fl) := (q61.2.2.2 _ (by omega)).trans hle
          have fR : ∀ b, (b < h.1 ∧ b ≠ l ∧ (b ≠ e ∨ b = e0)) → h61.2.2 b = h.2.2 b := fun b hb => (q61.2.2.2 b (by omega)).trans (fR b hb)
          refine mw_wf (fun hwf61 => ?_)
          have l_fg161 := hwf61 _ _ fg1
          have gr9 : (grC (sg.2 10 t)).toNat ≤ 110 := by { unfold grC; (repeat' split) <;> omega }
          have hel : ∀ i, 0 ≤ i → i < sg.2 10 t → ∃ w fs, h61.2.2 (p i) = some (w, .inr (3, fs)) := fun i a b => by { have u9 := tg_at (hp9 i a b); exact ⟨_, _, (fR _ ⟨by omega, ne_oo u9.1 hlo1 (by decide), Or.inl (ne_oa u9.1 hle1)⟩).trans u9.1⟩ }
          have fR64 : ∀ b, b < h.1 → h61.2.2 b = h.2.2 b := fun b hb => by { by_cases e8 : b = l; { rw [e8]; exact hlo.trans hlo1.symm }; { by_cases e7 : b = e; { rw [e7]; exact hle.trans hle1.symm }; { exact fR b ⟨hb, e8, Or.inl e7⟩ } } }
          refine m_invV (y := yiX1_call) (rB := (RJ2, TJ2, 3)) [(.ref h.1)] dX1_call_64 hlo rfl q953 q954 q955 q126 q956 rfl (c_Ladd K 6 h61 e0 l e h.1 (sg.2 10 t) p 3 (r := _) (by omega) ⟨k0, hE2⟩ (hLl9.up (fun b c e9 => by { have u9 := tg_at e9; by_cases e8 : b = l; { rw [e8] at u9 ⊢; exact hlo.trans (hlo1.symm.trans u9.1) }; { by_cases e7 : b = e; { rw [e7] at u9 ⊢; exact hle.trans (hle1.symm.trans u9.1) }; { exact (fR b ⟨by omega, e8, Or.inl e7⟩).trans u9.1 } } })) (by omega) rfl (by decide) ⟨_, _, fg1⟩ hel ⟨by omega, by omega⟩) pdJ2_add ⟨Nat.le_of_ble_eq_true rfl, by decide, by omega⟩ (kk_z fun r64 h64 q64 => ?_) kx_z
          obtain ⟨rfl, e6, r1, r3, r3', r4, r5⟩ := q64
          obtain ⟨w9, cap9, mc9, fx9, ho9, he9, hae9, h09, hw9, hcap9, hf9, hno9⟩ := id r4
          have hE2 : h64.2.2 e0 = some (false, oaE K 0 (fun _ => none)) := (r5 _ (by omega)).trans hE2
          have htq : h64.2.2 (tp t) = some (true, .inr (2, [(vi (sg.2 9 t)), (.ref l)])) := (r5 _ (by omega)).trans htq
          have fg1 : h64.2.2 h.1 = some (true, .inr (3, [(vi s), (vi c), (vi g)])) := (r5 _ (by omega)).trans fg1
          have fR : ∀ b, (b < h.1 ∧ b ≠ l ∧ (b ≠ e ∨ b = e0)) → h64.2.2 b = h.2.2 b := fun b hb => (r5 b (by omega)).trans (fR b hb)
          refine mw_wf (fun hwf64 => ?_)
          have l_ho964 := hwf64 _ _ ho9
          have eJ : ∀ b, b < z → own b ≠ 200 + t.toNat → h64.2.2 b = h.2.2 b := fun b hb hn => fR b ⟨by omega, fun e9 => by { rw [e9] at hn; exact hn hloo }, by { by_cases e8 : b = e; { right; rcases hleo with h8 | h8; { rw [e8] at hn; exact absurd h8 hn }; { by_cases e7 : cl = 0; { rw [e8]; exact hl0 e7 }; { exfalso; have w7 := hlw e7; have u7 := hle1; rw [w7] at u7; exact hR0 e _ hlez h8 u7 } } }; { exact Or.inl e8 } }⟩
          have hz9 : z ≤ h64.1 := by omega
          have U := upO (j := 200 + t.toNat) (by omega) hz9 eJ
          have tmO : ∀ q c, h64.2.2 q = some c → (z ≤ q ∨ own q = 200 + t.toNat ∨ own q = 0) → (tg (ownJ own z (200 + t.toNat)) h64.1 (200 + t.toNat) h64).2.2 q = some c := fun q c l3 l2 => tg_mk l3 (hwf64 _ _ l3) (by { unfold ownJ; by_cases e9 : q < z; { rw [if_pos e9]; omega }; { rw [if_neg e9]; exact Or.inl rfl } })
          have hnw9 : TrpA K (tg (ownJ own z (200 + t.toNat)) h64.1 (200 + t.toNat) h64) e0 (sg.2 9 t) (sg.2 10 t + 1) (upz (trS sg t) (sg.2 10 t) s) (upz (trA sg t) (sg.2 10 t) c) (upz (trD sg t) (sg.2 10 t) g) (tp t) := ⟨l, e6, upn p (sg.2 10 t) h.1, tmO _ _ htq (Or.inr (Or.inl htqo)), ⟨w9, cap9, mc9, fx9, tmO _ _ ho9 (Or.inr (Or.inl hloo)), tmO _ _ he9 (by { rcases r1 with h9 | h9; { rw [h9]; exact Or.inr hleo }; { exact Or.inl (by omega) } }), hae9, h09, hw9, hcap9, hf9, hno9⟩, fun c9 a b => by { by_cases e9 : c9 = sg.2 10 t; { rw [e9, upn_at, upz_at, upz_at, upz_at]; exact tmO _ _ fg1 (Or.inl hz1) }; { rw [upn_ne e9, upz_ne e9, upz_ne e9, upz_ne e9]; have u9 := tg_at (hp9 c9 a (by omega)); exact tmO _ _ ((r5 _ ⟨by omega, ne_oo u9.1 hlo1 (by decide), Or.inl (ne_oa u9.1 hle1)⟩).trans ((fR64 _ (by omega)).trans u9.1)) (Or.inr u9.2.2) } }⟩
          have hnew2 : ∀ t9, 0 ≤ t9 → t9 < sg.1 8 → TrpA K (tg (ownJ own z (200 + t.toNat)) h64.1 (200 + t9.toNat) h64) e0 ((sgCall sg t s c g).2 9 t9) ((sgCall sg t s c g).2 10 t9) (trS (sgCall sg t s c g) t9) (trA (sgCall sg t s c g) t9) (trD (sgCall sg t s c g) t9) (tp t9) := fun t9 a b => by { by_cases e8 : t9 = t; { rw [e8]; exact hnw9.to rfl (by show upz _ _ _ _ = _; exact upz_at) (fun c9 c0 c1 => by { show upz _ _ _ _ = _ ∧ upz _ _ _ _ = _ ∧ upz _ _ _ _ = _; by_cases e9 : c9 = sg.2 10 t; { rw [e9, upz_at, upz_at, upz_at, upz_at, upz_at, upz_at]; exact ⟨rfl, rfl, rfl⟩ }; { exact ⟨(upz_ne (by omega)).trans (upz_ne (f := trS sg t) e9).symm, (upz_ne (by omega)).trans (upz_ne (f := trA sg t) e9).symm, (upz_ne (by omega)).trans (upz_ne (f := trD sg t) e9).symm⟩ } }) }; { have n9 := oa10 (hT.2 10) t9 a (by omega); rw [U (200 + t9.toNat) (by omega)]; exact (htt t9 a (by omega)).to rfl (by show upz _ _ _ _ = _; exact upz_ne e8) (fun c c0 c1 => ⟨upz_ne (by omega), upz_ne (by omega), upz_ne (by omega)⟩) } }
          refine m_pop (y := yiX1_call) dX1_call_67 rfl ?_
          refine m_aload (y := yiX1_call) dX1_call_68 rfl ?_
          refine m_getfN (y := yiX1_call) kc_2 1 (by decide) dX1_call_70 q1146 htq rfl ?_
          refine m_invV (y := yiX1_call) (rB := (RJ2, TJ2, 3)) [] dX1_call_73 ho9 rfl q333 q334 q335 q126 q336 rfl (c_J2_size K 0 h64 _ _ _ _ ho9) pdJ2_size ⟨Nat.le_of_ble_eq_true rfl, by decide, by omega⟩ (kk_z fun r73 h73 q73 => ?_) kx_z
          obtain ⟨rfl, rfl⟩ := q73
          refine mw_top (x' := sg.2 10 t + 1) rfl ?_
          subst hQ; exact j_wret (y := yiX1_call) dX1_call_76 rfl (Or.inr (Or.inr (Or.inr ⟨⟨c2, c12⟩, c24, by omega, rfl, ⟨ownJ own z (200 + t.toNat), fun b hb => if_pos hb, ⟨e0, cc, ch, wk, sv, tr, lt, ws, tx, se, te, we, kp, sp, tp, wp, T, hKt, (by rw [U 0 (by omega)]; exact hEt), (by rw [U 0 (by omega)]; exact hIt), (by rw [U 1 (by omega)]; exact hxt), (by rw [U 2 (by omega)]; exact hcht), (by rw [U 3 (by omega)]; exact hwkt), ⟨by rw [U 4 (by omega)]; exact hsvt.1, fun s a b => by rw [U (100 + s.toNat) (by have b9 : s < sg.1 6 := b; omega)]; exact hsvt.2 s a b⟩, ⟨by rw [U 5 (by omega)]; exact htrt.1, hnew2⟩, (by rw [U 6 (by omega)]; exact hltt), ⟨by rw [U 7 (by omega)]; exact hwst.1, fun w a b => by rw [U 7 (by omega)]; exact hwst.2 w a b⟩, (by rw [U 8 (by omega)]; exact htxt), (by rw [U 9 (by omega)]; exact hkpt), hR0.up (J := fun q => q = 200 + t.toNat) (fun b hb => if_pos hb) (fun b hb => if_neg (by omega)) (by omega) eJ⟩, fun b hb h10 => eJ b hb (by omega), by omega, by omega⟩, rfl⟩)))
      · refine mw_top (x' := 0) ((bz_f c24).symm) ?_
        refine m_invS (y := yiX1_call) [(vi 0)] dX1_call_24 q853 q854 q123 q855 (c_X1_require_0 K 6 h (by omega) ⟨by omega, by omega⟩) pdX1_require ⟨Nat.le_of_ble_eq_true rfl, by decide, by omega⟩ kk_t (kx_t fun q24 h24 x24 => ?_)
        subst hQ; exact mx_ret rfl (Or.inr ⟨1, RJ12, q24, rfl, rfl, fun _ => Or.inr (Or.inl ⟨⟨c2, c12⟩, c24, rfl, QFr.th x24 ⟨by omega, by omega⟩ ⟨by omega, by omega⟩ (fun _ _ => rfl)⟩)⟩)
    · refine mw_top (x' := 0) ((bz_f c12).symm) ?_
      refine m_invS (y := yiX1_call) [(vi 0)] dX1_call_12 q893 q894 q123 q895 (c_X1_requireIndex_0 K 6 h (by omega) ⟨by omega, by omega⟩) pdX1_requireIndex ⟨Nat.le_of_ble_eq_true rfl, by decide, by omega⟩ kk_t (kx_t fun q12 h12 x12 => ?_)
      subst hQ; exact mx_ret rfl (Or.inr ⟨0, RJ14, q12, rfl, rfl, fun _ => Or.inl ⟨fun h9 => c12 h9.2, rfl, QFr.th x12 ⟨by omega, by omega⟩ ⟨by omega, by omega⟩ (fun _ _ => rfl)⟩⟩)
  · refine m_invV (y := yiX1_call) (rB := (RX1, TX1, 10)) [(vi t)] dX1_call_2 hx rfl q1177 q1179 qs12 q123 q1180 rfl (c_X1_tripOf_0 K 7 h z x sg t (by omega) hT hW9 i1 c2 ⟨by omega, by omega⟩) pdX1_tripOf ⟨Nat.le_of_ble_eq_true rfl, by decide, by omega⟩ kk_t (kx_t fun q2 h2 x2 => ?_)
    subst hQ; exact mx_ret rfl (Or.inr ⟨0, RJ14, q2, rfl, rfl, fun _ => Or.inl ⟨fun h9 => c2 h9.1, rfl, QFr.th x2 ⟨by omega, by omega⟩ ⟨by omega, by omega⟩ (fun _ _ => rfl)⟩⟩)
end TRP
