/-! java.lang.StringBuilder: append a number; Lastbus.typeNumber -/
theorem dgc_c {v : Int} (hv : 0 ≤ v ∧ v ≤ 9999) : (v ≤ 9 ∧ dgc v = 1) ∨ ((9 < v ∧ v ≤ 99) ∧ dgc v = 2) ∨ ((99 < v ∧ v ≤ 999) ∧ dgc v = 3) ∨ (999 < v ∧ dgc v = 4) := by
  unfold dgc
  (repeat' split) <;> omega
theorem GcA_d {f : Int → Int} {x v i : Int} (hv : 0 ≤ v ∧ v ≤ 9999) (hi : x - dgc v ≤ i ∧ i < x) : 48 ≤ GcA f x v i ∧ GcA f x v i ≤ 57 := by
  have := dgc_c hv
  unfold GcA
  (repeat' split) <;> omega
theorem GcA_o {f : Int → Int} {x v i : Int} (hv : 0 ≤ v ∧ v ≤ 9999) (hi : i < x - dgc v) : GcA f x v i = f i := by
  have := dgc_c hv
  unfold GcA
  (repeat' split) <;> omega
theorem GcA_i {f g : Int → Int} {x v i : Int} (hv : 0 ≤ v ∧ v ≤ 9999) (hi : x - dgc v ≤ i ∧ i < x) : GcA f x v i = GcA g x v i := by
  have := dgc_c hv
  unfold GcA
  (repeat' split) <;> omega
theorem BtA.num0 {t : Int → Int} {n v : Int} {cap : Nat} {f : Int → Int} (H : BtA 0 n t cap f) (hn : 0 ≤ n) (hv : 0 ≤ v ∧ v ≤ 9999) (hcap : n + dgc v ≤ (cap : Int) ∧ cap ≤ 400) : BtA 0 (n + dgc v) (tnA t n (dgc v) v (-1)) cap (GcA f (n + dgc v) v) := by
  rcases H with ⟨-, h1, h2⟩ | ⟨h9, -⟩
  · refine Or.inl ⟨rfl, hcap, fun i a b => ?_⟩
    rw [GcA_tn hv]
    by_cases e : i < n
    · rw [GcA_o hv (by omega), GcA_o hv (by omega)]; exact h2 i a e
    · have d1 := GcA_d (f := t) hv (x := n + dgc v) (i := i) ⟨by omega, b⟩
      exact ⟨⟨by omega, by omega⟩, by rw [sb_id ⟨by omega, by omega⟩]; exact GcA_i hv ⟨by omega, b⟩⟩
  · exact absurd h9 (by decide)
theorem BtA.num1 {t : Int → Int} {n v : Int} {cap : Nat} {f : Int → Int} (H : BtA 1 n t cap f) (hn : 0 ≤ n) (hv : 0 ≤ v ∧ v ≤ 9999) (hcap : 2 * (n + dgc v) ≤ (cap : Int) ∧ cap ≤ 800) : BtA 1 (n + dgc v) (tnA t n (dgc v) v (-1)) cap (GwA f (n + dgc v) v) := by
  rcases H with ⟨h9, -⟩ | ⟨-, h1, h2⟩
  · exact absurd h9 (by decide)
  · refine Or.inr ⟨rfl, hcap, fun i a b => ?_⟩
    rw [GcA_tn hv]
    have q1 : 2 * i % 2 = 0 := by omega
    have q2 : 2 * i / 2 = i := by omega
    have q3 : ¬ (2 * i + 1) % 2 = 0 := by omega
    have q4 : (2 * i + 1) / 2 = i := by omega
    unfold GwA
    rw [if_pos q1, q2, if_neg q3, q4]
    by_cases e : i < n
    · rw [if_neg (by omega), if_neg (by omega), GcA_o hv (by omega)]; exact h2 i a e
    · have d1 := GcA_d (f := t) hv (x := n + dgc v) (i := i) ⟨by omega, b⟩
      rw [if_pos (by omega), if_pos (by omega)]
      refine ⟨⟨by omega, by omega⟩, ?_, ?_⟩
      · rw [sb_id ⟨by omega, by omega⟩]; exact GcA_i hv ⟨by omega, b⟩
      · rw [show GcA t (n + dgc v) v i / 256 = 0 by omega]; rfl
theorem GwA_b {f : Int → Int} {x v : Int} (hv : 0 ≤ v ∧ v ≤ 9999) (hf : ∀ i, -128 ≤ f i ∧ f i ≤ 127) : ∀ i, -128 ≤ GwA f x v i ∧ GwA f x v i ≤ 127 := fun i => by
  have h1 := hf i
  unfold GwA
  split
  · split
    · next h9 => have := GcA_d (f := fun _ => 0) hv h9; omega
    · exact h1
  · split
    · omega
    · exact h1
section APN
variable {K : KT} {d : Nat} {h : MH} {q : Nat} {n : Int} {t : Int → Int}
theorem c_J8_getChars {e cap : Nat} {f : Int → Int} (v n x : Int) (hd : 3 ≤ d) (hK : KTx K) (hD : DgA K h) (he : h.2.2 e = some (true, ba K cap f)) (hc : cap ≤ 100000) (hn : 0 ≤ v ∧ v ≤ 9999) (hx : 0 ≤ n ∧ x = n + dgc v ∧ 2 * x ≤ (cap : Int)) : Mt K yiJ8_getChars d [vi v, vi n, vi x, .ref e] h (Rz fun r h' => n = r ∧ Hp h h' e (true, ba K cap (GwA f x v)) 0 0) := by
  have hdc := dgc_c hn
  have k3 := hK.2.1
  refine mt_ofQ (by decide) (Nat.le_of_ble_eq_true rfl) (fun Q hQ => ?_)
  show MW K yiJ8_getChars d h 0 [some (vi v), some (vi n), some (vi x), some (.ref e), none] [] Q
  refine mw_wf (fun hwf => ?_)
  have l_he := hwf _ _ he
  refine j_iload_n (y := yiJ8_getChars) dJ8_getChars_0 rfl ?_
  refine j_iload_n (y := yiJ8_getChars) dJ8_getChars_1 rfl ?_
  refine m_aload_n (y := yiJ8_getChars) dJ8_getChars_2 rfl ?_
  refine m_invS (y := yiJ8_getChars) [(vi n), (vi x), (.ref e)] dJ8_getChars_3 q417 q418 q132 q419 (c_J8_checkBoundsBeginEnd (d := 2) n x (by omega) hK.2.2.2.2 he hc ⟨by omega, by omega, by omega⟩) pdJ8_checkBoundsBeginEnd ⟨Nat.le_of_ble_eq_true rfl, by decide, by omega⟩ (kk_v fun h3 q3 => ?_) kx_v
  obtain rfl := q3
  refine j_iload_n (y := yiJ8_getChars) dJ8_getChars_6 rfl ?_
  refine j_iload_n (y := yiJ8_getChars) dJ8_getChars_7 rfl ?_
  refine m_aload_n (y := yiJ8_getChars) dJ8_getChars_8 rfl ?_
  refine m_invS (y := yiJ8_getChars) [(vi v), (vi x), (.ref e)] dJ8_getChars_9 q503 q504 q132 q505 (c_J8_getChars_2 (d := 1) v x (by omega) hK hD he hc hn ⟨by omega, by omega⟩) pdJ8_getChars_2 ⟨Nat.le_of_ble_eq_true rfl, by decide, by omega⟩ (kk_z fun r9 h9 q9 => ?_) kx_z
  obtain ⟨e9, q9⟩ := q9
  refine mw_wf (fun hwf9 => ?_)
  refine mw_top (x' := n) (by omega) ?_
  refine j_istore (y := yiJ8_getChars) [some (vi v), some (vi n), some (vi x), some (.ref e), some (vi n)] dJ8_getChars_12 (by decide) rfl rfl ?_
  refine m_gets (y := yiJ8_getChars) (ref := "") 3 rfl dJ8_getChars_14 q434 k3 ?_
  refine j_if_ne (y := yiJ8_getChars) 34 dJ8_getChars_17 (by decide) ⟨by decide, by decide⟩ (fun _ => ?_) (fun c => absurd c (by decide))
  refine j_iload (y := yiJ8_getChars) dJ8_getChars_34 rfl ?_
  subst hQ; exact j_iret (y := yiJ8_getChars) dJ8_getChars_36 rfl (⟨rfl, q9⟩)
theorem c_J5_append_2 {e cap : Nat} {ml cd : Int} {f : Int → Int} (v : Int) (hd : 6 ≤ d) (hK : KTx K) (hD : DgA K h) (hml : ml = 0 ∨ ml = 1) (hcd : cd = 0 ∨ cd = 1) (hq : h.2.2 q = some (true, .inr (20, [.ref e, vi cd, vi ml, vi n]))) (he : h.2.2 e = some (true, ba K cap f)) (hf : ∀ i, -128 ≤ f i ∧ f i ≤ 127) (hB : BtA cd n t cap f) (hn : 0 ≤ n ∧ n + dgc v ≤ 80) (hv : 0 ≤ v ∧ v ≤ 9999) (hz : h.1 + 4 ≤ kC K ∧ h.2.1 + 10000 ≤ kS K) (hwf : ∀ b e, h.2.2 b = some e → b < h.1) : Mt K yiJ5_append_2 d [.ref q, vi v] h (Rr fun r h' => q = r ∧ TxQ K h h' q e (n + dgc v) (tnA t n (dgc v) v (-1))) := by
  have hb := hB.b
  have hdc := dgc_c hv
  have hDq : ∀ b c, h.2.2 b = some (false, c) → b < h.1 ∧ b ≠ q := fun b c h9 => ⟨hwf _ _ h9, ne_w h9 hq (by decide)⟩
  rcases hcd with rfl | rfl
  · have hb0 := hb.1 rfl
    refine mt_ofQ (by decide) (Nat.le_of_ble_eq_true rfl) (fun Q hQ => ?_)
    show MW K yiJ5_append_2 d h 0 [some (.ref q), some (vi v), none, none] [] Q
    refine mw_wf (fun hwf => ?_)
    have l_hq := hwf _ _ hq
    have l_he := hwf _ _ he
    refine m_aload_n (y := yiJ5_append_2) dJ5_append_2_0 rfl ?_
    refine m_getfS (y := yiJ5_append_2) kc_20 3 (by decide) dJ5_append_2_1 q285 hq rfl ?_
    refine j_istore_n (y := yiJ5_append_2) [some (.ref q), some (vi v), some (vi n), none] dJ5_append_2_4 (by decide) rfl rfl ?_
    refine j_iload_n (y := yiJ5_append_2) dJ5_append_2_5 rfl ?_
    refine j_iload_n (y := yiJ5_append_2) dJ5_append_2_6 rfl ?_
    refine m_invS (y := yiJ5_append_2) [(vi v)] dJ5_append_2_7 q490 q491 q151 q492 (c_J25_stringSize (d := 0) v hv) pdJ25_stringSize ⟨Nat.le_of_ble_eq_true rfl, by decide, by omega⟩ (kk_z fun r7 h7 q7 => ?_) kx_z
    obtain ⟨rfl, rfl⟩ := q7
    refine mw_top (x' := dgc v) rfl ?_
    refine j_iadd (y := yiJ5_append_2) dJ5_append_2_10 ?_
    refine j_istore_n (y := yiJ5_append_2) [some (.ref q), some (vi v), some (vi n), some (vi (n + (dgc v)))] dJ5_append_2_11 (by decide) rfl rfl ?_
    refine m_aload_n (y := yiJ5_append_2) dJ5_append_2_12 rfl ?_
    refine j_iload_n (y := yiJ5_append_2) dJ5_append_2_13 rfl ?_
    refine m_invP (y := yiJ5_append_2) (rB := (RJ6, TJ6, 4)) [(vi (n + (dgc v)))] dJ5_append_2_14 hq rfl q374 q3657 q264 q375 ⟨rfl, rfl⟩ q376 q129 q377 (c_J5_ensure (d := 3) (n + dgc v) (by omega) (Or.inl rfl) hq he hf ⟨fun _ => by omega, fun h9 => by omega⟩ ⟨by omega, by omega⟩ ⟨by omega, by omega⟩) pdJ5_ensureCapacityInternal ⟨Nat.le_of_ble_eq_true rfl, by decide, by omega⟩ (kk_v fun h14 q14 => ?_) kx_v
    obtain ⟨e2, cap2, f2, p1, hq2, he2, p4, p5, p6, p7, y7, z7, p8⟩ := q14
    refine mw_wf (fun hwf14 => ?_)
    have l_hq214 := hwf14 _ _ hq2
    have l_he214 := hwf14 _ _ he2
    have hqe2 : q ≠ e2 := ne_oa hq2 he2
    have p4a := p4.2.1 rfl
    have p5a := p5.1 rfl
    refine m_aload_n (y := yiJ5_append_2) dJ5_append_2_17 rfl ?_
    refine m_invU (y := yiJ5_append_2) (rB := (RJ6, TJ6, 4)) [] dJ5_append_2_18 hq2 rfl q409 q411 q412 q410 q129 q413 rfl (by show _ = some 0; decide +kernel) (c_J5_isLatin1 (d := 0) hK (Or.inl rfl) hq2) pdJ5_isLatin1 ⟨Nat.le_of_ble_eq_true rfl, by decide, by omega⟩ (kk_z fun r18 h18 q18 => ?_) kx_z
    obtain ⟨rfl, rfl⟩ := q18
    refine mw_top (x' := 1) (bz_t rfl).symm ?_
    refine j_if_eq (y := yiJ5_append_2) 37 dJ5_append_2_21 (by decide) ⟨by decide, by decide⟩ (fun c => absurd c (by decide)) (fun _ => ?_)
    refine j_iload_n (y := yiJ5_append_2) dJ5_append_2_24 rfl ?_
    refine j_iload_n (y := yiJ5_append_2) dJ5_append_2_25 rfl ?_
    refine m_aload_n (y := yiJ5_append_2) dJ5_append_2_26 rfl ?_
    refine m_getfS (y := yiJ5_append_2) kc_20 0 (by decide) dJ5_append_2_27 q281 hq2 rfl ?_
    refine m_invS (y := yiJ5_append_2) [(vi v), (vi (n + (dgc v))), (.ref e2)] dJ5_append_2_30 q493 q494 q151 q495 (c_J25_getChars (d := 0) v (n + dgc v) (hD.up (fun b c h9 => (p8 b (hDq b c h9)).trans h9)) he2 (by omega) hv ⟨by omega, by omega⟩) pdJ25_getChars ⟨Nat.le_of_ble_eq_true rfl, by decide, by omega⟩ (kk_z fun r30 h30 q30 => ?_) kx_z
    obtain ⟨e30, q30⟩ := q30
    have he3 := q30.2.2.1
    have y30 := q30.1
    have z30 := q30.2.1
    have hq2 : h30.2.2 q = some (true, .inr (20, [(.ref e2), (vi 0), (vi ml), (vi n)])) := (q30.2.2.2 _ (by omega)).trans hq2
    refine mw_wf (fun hwf30 => ?_)
    have l_he330 := hwf30 _ _ he3
    refine m_pop (y := yiJ5_append_2) dJ5_append_2_33 rfl ?_
    refine m_goto (y := yiJ5_append_2) 48 dJ5_append_2_34 (by decide) ?_
    refine m_aload_n (y := yiJ5_append_2) dJ5_append_2_48 rfl ?_
    refine j_iload_n (y := yiJ5_append_2) dJ5_append_2_49 rfl ?_
    refine m_putfS (y := yiJ5_append_2) kc_20 3 (by decide) dJ5_append_2_50 q285 rfl hq2 rfl rfl (hp_put fun g1 g1H => ?_)
    have he3 : g1.2.2 e2 = some (true, ba K cap2 (GcA f2 (n + dgc v) v)) := (g1H.2.2.2 _ (by omega)).trans he3
    have hq2 : g1.2.2 q = some (true, .inr (20, [(.ref e2), (vi 0), (vi ml), (vi (n + (dgc v)))])) := g1H.2.2.1
    have g11 := g1H.1
    have g12 := g1H.2.1
    refine m_aload_n (y := yiJ5_append_2) dJ5_append_2_53 rfl ?_
    subst hQ; exact m_aret (y := yiJ5_append_2) (x := (some q)) dJ5_append_2_54 rfl (Or.inl ⟨_, rfl⟩) ⟨q, rfl, ⟨rfl, e2, cap2, ml, 0, _, hml, Or.inl rfl, hq2, he3, GcA_b p7, (hB.cp p4 p6).num0 hn.1 hv ⟨by omega, by omega⟩, p1, by omega, by omega, fun b hb => (g1H.2.2.2 b hb.2.1).trans ((q30.2.2.2 b (by omega)).trans (p8 b ⟨hb.1, hb.2.1⟩))⟩⟩
  · have hb1 := hb.2 rfl
    refine mt_ofQ (by decide) (Nat.le_of_ble_eq_true rfl) (fun Q hQ => ?_)
    show MW K yiJ5_append_2 d h 0 [some (.ref q), some (vi v), none, none] [] Q
    refine mw_wf (fun hwf => ?_)
    have l_hq := hwf _ _ hq
    have l_he := hwf _ _ he
    refine m_aload_n (y := yiJ5_append_2) dJ5_append_2_0 rfl ?_
    refine m_getfS (y := yiJ5_append_2) kc_20 3 (by decide) dJ5_append_2_1 q285 hq rfl ?_
    refine j_istore_n (y := yiJ5_append_2) [some (.ref q), some (vi v), some (vi n), none] dJ5_append_2_4 (by decide) rfl rfl ?_
    refine j_iload_n (y := yiJ5_append_2) dJ5_append_2_5 rfl ?_
    refine j_iload_n (y := yiJ5_append_2) dJ5_append_2_6 rfl ?_
    refine m_invS (y := yiJ5_append_2) [(vi v)] dJ5_append_2_7 q490 q491 q151 q492 (c_J25_stringSize (d := 0) v hv) pdJ25_stringSize ⟨Nat.le_of_ble_eq_true rfl, by decide, by omega⟩ (kk_z fun r7 h7 q7 => ?_) kx_z
    obtain ⟨rfl, rfl⟩ := q7
    refine mw_top (x' := dgc v) rfl ?_
    refine j_iadd (y := yiJ5_append_2) dJ5_append_2_10 ?_
    refine j_istore_n (y := yiJ5_append_2) [some (.ref q), some (vi v), some (vi n), some (vi (n + (dgc v)))] dJ5_append_2_11 (by decide) rfl rfl ?_
    refine m_aload_n (y := yiJ5_append_2) dJ5_append_2_12 rfl ?_
    refine j_iload_n (y := yiJ5_append_2) dJ5_append_2_13 rfl ?_
    refine m_invP (y := yiJ5_append_2) (rB := (RJ6, TJ6, 4)) [(vi (n + (dgc v)))] dJ5_append_2_14 hq rfl q374 q3657 q264 q375 ⟨rfl, rfl⟩ q376 q129 q377 (c_J5_ensure (d := 3) (n + dgc v) (by omega) (Or.inr rfl) hq he hf ⟨fun h9 => by omega, fun _ => by omega⟩ ⟨by omega, by omega⟩ ⟨by omega, by omega⟩) pdJ5_ensureCapacityInternal ⟨Nat.le_of_ble_eq_true rfl, by decide, by omega⟩ (kk_v fun h14 q14 => ?_) kx_v
    obtain ⟨e2, cap2, f2, p1, hq2, he2, p4, p5, p6, p7, y7, z7, p8⟩ := q14
    refine mw_wf (fun hwf14 => ?_)
    have l_hq214 := hwf14 _ _ hq2
    have l_he214 := hwf14 _ _ he2
    have hqe2 : q ≠ e2 := ne_oa hq2 he2
    have p4a := p4.2.2 rfl
    have p5a := p5.2 rfl
    refine m_aload_n (y := yiJ5_append_2) dJ5_append_2_17 rfl ?_
    refine m_invU (y := yiJ5_append_2) (rB := (RJ6, TJ6, 4)) [] dJ5_append_2_18 hq2 rfl q409 q411 q412 q410 q129 q413 rfl (by show _ = some 0; decide +kernel) (c_J5_isLatin1 (d := 0) hK (Or.inr rfl) hq2) pdJ5_isLatin1 ⟨Nat.le_of_ble_eq_true rfl, by decide, by omega⟩ (kk_z fun r18 h18 q18 => ?_) kx_z
    obtain ⟨rfl, rfl⟩ := q18
    refine mw_top (x' := 0) (bz_f (by decide)).symm ?_
    refine j_if_eq (y := yiJ5_append_2) 37 dJ5_append_2_21 (by decide) ⟨by decide, by decide⟩ (fun _ => ?_) (fun c => absurd c (by decide))
    refine j_iload_n (y := yiJ5_append_2) dJ5_append_2_37 rfl ?_
    refine j_iload_n (y := yiJ5_append_2) dJ5_append_2_38 rfl ?_
    refine j_iload_n (y := yiJ5_append_2) dJ5_append_2_39 rfl ?_
    refine m_aload_n (y := yiJ5_append_2) dJ5_append_2_40 rfl ?_
    refine m_getfS (y := yiJ5_append_2) kc_20 0 (by decide) dJ5_append_2_41 q281 hq2 rfl ?_
    refine m_invS (y := yiJ5_append_2) [(vi v), (vi n), (vi (n + (dgc v))), (.ref e2)] dJ5_append_2_44 q500 q501 q132 q502 (c_J8_getChars (d := 3) v n (n + dgc v) (by omega) hK (hD.up (fun b c h9 => (p8 b (hDq b c h9)).trans h9)) he2 (by omega) hv ⟨by omega, rfl, by omega⟩) pdJ8_getChars ⟨Nat.le_of_ble_eq_true rfl, by decide, by omega⟩ (kk_z fun r44 h44 q44 => ?_) kx_z
    obtain ⟨e44, q44⟩ := q44
    have he3 := q44.2.2.1
    have y44 := q44.1
    have z44 := q44.2.1
    have hq2 : h44.2.2 q = some (true, .inr (20, [(.ref e2), (vi 1), (vi ml), (vi n)])) := (q44.2.2.2 _ (by omega)).trans hq2
    refine mw_wf (fun hwf44 => ?_)
    have l_he344 := hwf44 _ _ he3
    refine m_pop (y := yiJ5_append_2) dJ5_append_2_47 rfl ?_
    refine m_aload_n (y := yiJ5_append_2) dJ5_append_2_48 rfl ?_
    refine j_iload_n (y := yiJ5_append_2) dJ5_append_2_49 rfl ?_
    refine m_putfS (y := yiJ5_append_2) kc_20 3 (by decide) dJ5_append_2_50 q285 rfl hq2 rfl rfl (hp_put fun g1 g1H => ?_)
    have he3 : g1.2.2 e2 = some (true, ba K cap2 (GwA f2 (n + dgc v) v)) := (g1H.2.2.2 _ (by omega)).trans he3
    have hq2 : g1.2.2 q = some (true, .inr (20, [(.ref e2), (vi 1), (vi ml), (vi (n + (dgc v)))])) := g1H.2.2.1
    have g11 := g1H.1
    have g12 := g1H.2.1
    refine m_aload_n (y := yiJ5_append_2) dJ5_append_2_53 rfl ?_
    subst hQ; exact m_aret (y := yiJ5_append_2) (x := (some q)) dJ5_append_2_54 rfl (Or.inl ⟨_, rfl⟩) ⟨q, rfl, ⟨rfl, e2, cap2, ml, 1, _, hml, Or.inr rfl, hq2, he3, GwA_b hv p7, (hB.cp p4 p6).num1 hn.1 hv ⟨by omega, by omega⟩, p1, by omega, by omega, fun b hb => (g1H.2.2.2 b hb.2.1).trans ((q44.2.2.2 b (by omega)).trans (p8 b ⟨hb.1, hb.2.1⟩))⟩⟩
theorem c_J6_append_2 {e cap : Nat} {ml cd : Int} {f : Int → Int} (v : Int) (hd : 7 ≤ d) (hK : KTx K) (hD : DgA K h) (hml : ml = 0 ∨ ml = 1) (hcd : cd = 0 ∨ cd = 1) (hq : h.2.2 q = some (true, .inr (20, [.ref e, vi cd, vi ml, vi n]))) (he : h.2.2 e = some (true, ba K cap f)) (hf : ∀ i, -128 ≤ f i ∧ f i ≤ 127) (hB : BtA cd n t cap f) (hn : 0 ≤ n ∧ n + dgc v ≤ 80) (hv : 0 ≤ v ∧ v ≤ 9999) (hz : h.1 + 4 ≤ kC K ∧ h.2.1 + 10000 ≤ kS K) (hwf : ∀ b e, h.2.2 b = some e → b < h.1) : Mt K yiJ6_append_2 d [.ref q, vi v] h (Rr fun r h' => q = r ∧ TxQ K h h' q e (n + dgc v) (tnA t n (dgc v) v (-1))) := by
  refine mt_ofQ (by decide) (Nat.le_of_ble_eq_true rfl) (fun Q hQ => ?_)
  show MW K yiJ6_append_2 d h 0 [some (.ref q), some (vi v)] [] Q
  refine mw_wf (fun hwf => ?_)
  have l_hq := hwf _ _ hq
  refine m_aload_n (y := yiJ6_append_2) dJ6_append_2_0 rfl ?_
  refine j_iload_n (y := yiJ6_append_2) dJ6_append_2_1 rfl ?_
  refine m_invSU (y := yiJ6_append_2) (rB := (RJ6, TJ6, 4)) [(vi v)] dJ6_append_2_2 hq rfl q487 q3662 q294 q488 q129 q489 (by decide) (c_J5_append_2 (d := 6) v (by omega) hK hD hml hcd hq he hf hB hn hv hz hwf) pdJ5_append_2 ⟨Nat.le_of_ble_eq_true rfl, by decide, by omega⟩ (kk_r fun r2 h2 q2 => ?_) kx_r
  obtain ⟨rfl, e2, cap2, ml2, cd2, f2, s1, s2, s3, s4, s5, s6, s7, s8, s9, s10⟩ := q2
  refine mw_wf (fun hwf2 => ?_)
  refine m_pop (y := yiJ6_append_2) dJ6_append_2_5 rfl ?_
  refine m_aload_n (y := yiJ6_append_2) dJ6_append_2_6 rfl ?_
  subst hQ; exact m_aret (y := yiJ6_append_2) (x := (some q)) dJ6_append_2_7 rfl (Or.inl ⟨_, rfl⟩) ⟨q, rfl, ⟨rfl, e2, cap2, ml2, cd2, f2, s1, s2, s3, s4, s5, s6, s7, s8, s9, s10⟩⟩
end APN
section TYN
variable (K : KT) (d : Nat) (own : Nat → Nat) (h : MH) (z x : Nat) (sg : TS)
theorem u_typeNumber (v : Int) (hd : 9 ≤ d) (hT : TB sg) (hD : DgA K h) (hV2 : (kV K 2).category ≠ 2) (hW : WorldO own K h z x sg) (hz1 : z ≤ h.1) (hv : In v) (hz : h.1 + 25000 ≤ kC K ∧ h.2.1 + 304000 ≤ kS K) : Mt K yiX1_typeNumber d [.ref x, vi v] h (Rw [RJ12, RJ13] fun th r h' => (¬ (0 ≤ v ∧ v ≤ 9999) ∧ th = 1 ∧ QFr h h') ∨ ((0 ≤ v ∧ v ≤ 9999) ∧ 80 < sg.1 19 + dgc v ∧ th = 2 ∧ QFr h h') ∨ ((0 ≤ v ∧ v ≤ 9999) ∧ sg.1 19 + dgc v ≤ 80 ∧ th = 0 ∧ MutQ K own h h' z x (ovr sg [(19, sg.1 19 + dgc v)] [(20, tnA (sg.2 20) (sg.1 19) (dgc v) v (-1))]) ∧ r = sg.1 19 + dgc v)) := by
  have f19 := of19 (hT.1 19)
  have := hv.1; have := hv.2
  have hW0 : World K h z x sg := ⟨own, hW⟩
  obtain ⟨e0, cc, ch, wk, sv, tr, lt, ws, tx, se, te, we, kp, sp, tp, wp, T, hKt, hEt, hIt, hxt, hcht, hwkt, hsvt, htrt, hltt, hwst, htxt, hkpt, hR0⟩ := id hW
  obtain ⟨hx, hxz, -⟩ := tg_at hxt
  obtain ⟨hch, hchz, -⟩ := tg_at hcht
  have hxo := hR0.own hxt
  have hcho := hR0.own hcht
  have hE1 := hEt.1
  obtain ⟨hE2, hE2z, -⟩ := tg_at hEt.2
  obtain ⟨k0, k1, k3, k4, k5, k8, k9, k10, k11, k12⟩ := id hKt
  have hwk := And.intro hwkt.1.C hwkt.2
  have hsv := hsvt
  have htr := htrt
  have hlt := hltt
  have hws := hwst
  have htx := htxt
  have k0tx : KTx K := hKt.tx hV2
  obtain ⟨et, capt, mlt, cdt, ft, hml, hcd, hnt, htx0, hte0, htf, htB⟩ := id htxt
  obtain ⟨htq, htqz, -⟩ := tg_at htx0
  obtain ⟨htq2, htq2z, -⟩ := tg_at hte0
  have htqo := hR0.own htx0
  have hteo := hR0.own hte0
  have n1 : x ≠ tx := ne_oo hx htq (by decide)
  have n2 : x ≠ et := ne_oa hx htq2
  have hdg : (v ≤ 9 → dgc v = 1) ∧ (9 < v → v ≤ 99 → dgc v = 2) ∧ (99 < v → v ≤ 999 → dgc v = 3) ∧ (999 < v → dgc v = 4) := by
    unfold dgc
    (repeat' split) <;> omega
  refine mt_ofQ (by decide) (Nat.le_of_ble_eq_true rfl) (fun Q hQ => ?_)
  show MW K yiX1_typeNumber d h 0 [some (.ref x), some (vi v), none] [] Q
  refine mw_wf (fun hwf => ?_)
  have l_hx := hwf _ _ hx
  have l_htq := hwf _ _ htq
  refine j_iload_n (y := yiX1_typeNumber) dX1_typeNumber_0 rfl ?_
  refine j_iconst (y := yiX1_typeNumber) dX1_typeNumber_1 ?_
  refine j_sipush (y := yiX1_typeNumber) dX1_typeNumber_2 (by decide) ?_
  refine m_invS (y := yiX1_typeNumber) [(vi v), (vi 0), (vi 9999)] dX1_typeNumber_5 q850 q851 q123 q852 (c_X1_isBetween K 0 h v 0 9999 ⟨by omega, by omega⟩ ⟨by omega, by omega⟩ ⟨by omega, by omega⟩) pdX1_isBetween ⟨Nat.le_of_ble_eq_true rfl, by decide, by omega⟩ (kk_z fun r5 h5 q5 => ?_) kx_z
  obtain ⟨rfl, rfl⟩ := q5
  refine mw_top (x' := bz (0 ≤ v ∧ v ≤ 9999)) rfl ?_
  by_cases c8 : (0 ≤ v ∧ v ≤ 9999)
  · refine mw_top (x' := 1) ((bz_t c8).symm) ?_
    refine m_invS (y := yiX1_typeNumber) [(vi 1)] dX1_typeNumber_8 q853 q854 q123 q855 (c_X1_require_1 K 0 h) pdX1_require ⟨Nat.le_of_ble_eq_true rfl, by decide, by omega⟩ (kk_v fun h8 q8 => ?_) kx_v
    obtain rfl := q8
    have J43 : MW K yiX1_typeNumber d h 43 [some (.ref x), some (vi v), none] [(vi (dgc v))] Q := by
      refine j_istore_n (y := yiX1_typeNumber) [some (.ref x), some (vi v), some (vi (dgc v))] dX1_typeNumber_43 (by decide) rfl rfl ?_
      refine m_aload_n (y := yiX1_typeNumber) dX1_typeNumber_44 rfl ?_
      refine m_getfS (y := yiX1_typeNumber) kc_0 7 (by decide) dX1_typeNumber_45 q305 hx rfl ?_
      refine m_invV (y := yiX1_typeNumber) (rB := (RJ6, TJ6, 4)) [] dX1_typeNumber_48 htq rfl q341 q342 q343 q130 q344 rfl (c_J6_length (d := 1) (by omega) htq) pdJ6_length ⟨Nat.le_of_ble_eq_true rfl, by decide, by omega⟩ (kk_z fun r48 h48 q48 => ?_) kx_z
      obtain ⟨rfl, rfl⟩ := q48
      refine mw_top (x' := (sg.1 19)) rfl ?_
      refine j_iload_n (y := yiX1_typeNumber) dX1_typeNumber_51 rfl ?_
      refine j_iadd (y := yiX1_typeNumber) dX1_typeNumber_52 ?_
      refine j_bipush (y := yiX1_typeNumber) dX1_typeNumber_53 (by decide) ?_
      refine j_icmp_gt (y := yiX1_typeNumber) 62 dX1_typeNumber_55 (by decide) ⟨⟨by omega, by omega⟩, ⟨by omega, by omega⟩⟩ (fun c55 => ?_) (fun c55 => ?_)
      · refine j_iconst (y := yiX1_typeNumber) dX1_typeNumber_62 ?_
        refine m_invS (y := yiX1_typeNumber) [(vi 0)] dX1_typeNumber_63 q861 q862 q123 q863 (c_X1_requireState_0 K 6 h (by omega) ⟨by omega, by omega⟩) pdX1_requireState ⟨Nat.le_of_ble_eq_true rfl, by decide, by omega⟩ kk_t (kx_t fun q63 h63 x63 => ?_)
        subst hQ; exact mx_ret rfl (Or.inr ⟨1, RJ13, q63, rfl, rfl, fun _ => Or.inr (Or.inl ⟨c8, by omega, rfl, QFr.th x63 ⟨by omega, by omega⟩ ⟨by omega, by omega⟩ (fun _ _ => rfl)⟩)⟩)
      · refine j_iconst (y := yiX1_typeNumber) dX1_typeNumber_58 ?_
        refine m_goto (y := yiX1_typeNumber) 63 dX1_typeNumber_59 (by decide) ?_
        refine m_invS (y := yiX1_typeNumber) [(vi 1)] dX1_typeNumber_63 q861 q862 q123 q863 (c_X1_requireState_1 K 0 h) pdX1_requireState ⟨Nat.le_of_ble_eq_true rfl, by decide, by omega⟩ (kk_v fun h63 q63 => ?_) kx_v
        obtain rfl := q63
        refine m_aload_n (y := yiX1_typeNumber) dX1_typeNumber_66 rfl ?_
        refine m_getfS (y := yiX1_typeNumber) kc_0 7 (by decide) dX1_typeNumber_67 q305 hx rfl ?_
        refine j_iload_n (y := yiX1_typeNumber) dX1_typeNumber_70 rfl ?_
        refine m_invV (y := yiX1_typeNumber) (rB := (RJ6, TJ6, 4)) [(vi v)] dX1_typeNumber_71 htq rfl q1286 q484 q485 q130 q486 rfl (c_J6_append_2 (d := 7) (t := sg.2 20) v (by omega) k0tx hD hml hcd htq htq2 htf htB ⟨by omega, by omega⟩ c8 ⟨by omega, by omega⟩ hwf) pdJ6_append_2 ⟨Nat.le_of_ble_eq_true rfl, by decide, by omega⟩ (kk_r fun r71 h71 q71 => ?_) kx_r
        obtain ⟨rfl, e2, cap2, ml2, cd2, f2, s1, s2, s3, s4, s5, s6, s7, s8, s9, s10⟩ := q71
        have hx : h71.2.2 x = some (true, .inr (0, [(.ref ch), (.ref wk), (vi (sg.1 1)), (.ref sv), (.ref tr), (.ref lt), (.ref ws), (.ref tx), (vi (sg.1 21)), (va_rf kp)])) := (s10 _ (by omega)).trans hx
        refine mw_wf (fun hwf71 => ?_)
        have l_s371 := hwf71 _ _ s3
        refine m_pop (y := yiX1_typeNumber) dX1_typeNumber_74 rfl ?_
        refine m_aload_n (y := yiX1_typeNumber) dX1_typeNumber_75 rfl ?_
        refine m_getfS (y := yiX1_typeNumber) kc_0 7 (by decide) dX1_typeNumber_76 q305 hx rfl ?_
        refine m_invV (y := yiX1_typeNumber) (rB := (RJ6, TJ6, 4)) [] dX1_typeNumber_79 s3 rfl q341 q342 q343 q130 q344 rfl (c_J6_length (d := 1) (by omega) s3) pdJ6_length ⟨Nat.le_of_ble_eq_true rfl, by decide, by omega⟩ (kk_z fun r79 h79 q79 => ?_) kx_z
        obtain ⟨rfl, rfl⟩ := q79
        refine mw_top (x' := (sg.1 19 + dgc v)) rfl ?_
        have eJ : ∀ b, b < z → own b ≠ 8 → h71.2.2 b = h.2.2 b := fun b hb hn => s10 b ⟨by omega, fun e9 => hn (by rw [e9]; exact htqo), fun e9 => hn (by rw [e9]; exact hteo)⟩
        have U := upO (j := 8) (by decide) (show z ≤ h71.1 by omega) eJ
        have hnew : TxA K (tg (ownJ own z 8) h71.1 8 h71) tx (sg.1 19 + dgc v) (tnA (sg.2 20) (sg.1 19) (dgc v) v (-1)) := ⟨e2, cap2, ml2, cd2, f2, s1, s2, ⟨by omega, by omega⟩, tg_mk s3 (by omega) (Or.inl ((if_pos htqz).trans htqo)), tg_mk s4 (hwf71 _ _ s4) (by { unfold ownJ; by_cases e9 : e2 < z; { rw [if_pos e9]; rcases s7 with h9 | h9; { rw [h9]; exact Or.inl hteo }; { omega } }; { rw [if_neg e9]; exact Or.inl rfl } }), s5, s6⟩
        subst hQ; exact j_wret (y := yiX1_typeNumber) dX1_typeNumber_82 rfl (Or.inr (Or.inr ⟨c8, by omega, rfl, ⟨ownJ own z 8, fun b hb => if_pos hb, ⟨e0, cc, ch, wk, sv, tr, lt, ws, tx, se, te, we, kp, sp, tp, wp, T, hKt, (by rw [U 0 (by decide)]; exact hEt), (by rw [U 0 (by decide)]; exact hIt), (by rw [U 1 (by decide)]; exact hxt), (by rw [U 2 (by decide)]; exact hcht), (by rw [U 3 (by decide)]; exact hwkt), ⟨by rw [U 4 (by decide)]; exact hsvt.1, fun s a b => by rw [U (100 + s.toNat) (by have b9 : s < sg.1 6 := b; omega)]; exact hsvt.2 s a b⟩, ⟨by rw [U 5 (by decide)]; exact htrt.1, fun t a b => by rw [U (200 + t.toNat) (by have b9 : t < sg.1 8 := b; omega)]; exact htrt.2 t a b⟩, (by rw [U 6 (by decide)]; exact hltt), ⟨by rw [U 7 (by decide)]; exact hwst.1, fun w a b => by rw [U 7 (by decide)]; exact hwst.2 w a b⟩, hnew, (by rw [U 9 (by decide)]; exact hkpt), hR0.up (J := fun q => q = 8) (fun b hb => if_pos hb) (fun b hb => if_neg (by omega)) (by decide) eJ⟩, fun b hb h10 => eJ b hb (by omega), by omega, by omega⟩, rfl⟩))
    refine j_iload_n (y := yiX1_typeNumber) dX1_typeNumber_11 rfl ?_
    refine j_sipush (y := yiX1_typeNumber) dX1_typeNumber_12 (by decide) ?_
    refine j_icmp_le (y := yiX1_typeNumber) 22 dX1_typeNumber_15 (by decide) ⟨⟨by omega, by omega⟩, ⟨by omega, by omega⟩⟩ (fun c15 => ?_) (fun c15 => ?_)
    · refine j_iload_n (y := yiX1_typeNumber) dX1_typeNumber_22 rfl ?_
      refine j_bipush (y := yiX1_typeNumber) dX1_typeNumber_23 (by decide) ?_
      refine j_icmp_le (y := yiX1_typeNumber) 32 dX1_typeNumber_25 (by decide) ⟨⟨by omega, by omega⟩, ⟨by omega, by omega⟩⟩ (fun c25 => ?_) (fun c25 => ?_)
      · refine j_iload_n (y := yiX1_typeNumber) dX1_typeNumber_32 rfl ?_
        refine j_bipush (y := yiX1_typeNumber) dX1_typeNumber_33 (by decide) ?_
        refine j_icmp_le (y := yiX1_typeNumber) 42 dX1_typeNumber_35 (by decide) ⟨⟨by omega, by omega⟩, ⟨by omega, by omega⟩⟩ (fun c35 => ?_) (fun c35 => ?_)
        · refine j_iconst (y := yiX1_typeNumber) dX1_typeNumber_42 ?_
          refine mw_top (x' := dgc v) (by omega) ?_
          exact J43  
        · refine j_iconst (y := yiX1_typeNumber) dX1_typeNumber_38 ?_
          refine m_goto (y := yiX1_typeNumber) 43 dX1_typeNumber_39 (by decide) ?_
          refine mw_top (x' := dgc v) (by omega) ?_
          exact J43  
      · refine j_iconst (y := yiX1_typeNumber) dX1_typeNumber_28 ?_
        refine m_goto (y := yiX1_typeNumber) 43 dX1_typeNumber_29 (by decide) ?_
        refine mw_top (x' := dgc v) (by omega) ?_
        exact J43  
    · refine j_iconst (y := yiX1_typeNumber) dX1_typeNumber_18 ?_
      refine m_goto (y := yiX1_typeNumber) 43 dX1_typeNumber_19 (by decide) ?_
      refine mw_top (x' := dgc v) (by omega) ?_
      exact J43  
  · refine mw_top (x' := 0) ((bz_f c8).symm) ?_
    refine m_invS (y := yiX1_typeNumber) [(vi 0)] dX1_typeNumber_8 q853 q854 q123 q855 (c_X1_require_0 K 6 h (by omega) ⟨by omega, by omega⟩) pdX1_require ⟨Nat.le_of_ble_eq_true rfl, by decide, by omega⟩ kk_t (kx_t fun q8 h8 x8 => ?_)
    subst hQ; exact mx_ret rfl (Or.inr ⟨0, RJ12, q8, rfl, rfl, fun _ => Or.inl ⟨c8, rfl, QFr.th x8 ⟨by omega, by omega⟩ ⟨by omega, by omega⟩ (fun _ _ => rfl)⟩⟩)
end TYN
