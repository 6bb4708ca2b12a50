/-! java.lang.StringBuilder: append a sign -/
section APP
variable {K : KT} {d : Nat} {h : MH} {q : Nat} {n : Int} {t : Int → Int}
theorem BtA.add0 {t : Int → Int} {n c : Int} {cap cap' : Nat} {f f' : Int → Int} (H : BtA 0 n t cap f) (hn : 0 ≤ n) (hc : 0 ≤ c ∧ c ≤ 255) (hcap : n + 1 ≤ (cap' : Int) ∧ cap' ≤ 400) (hf : ∀ i, 0 ≤ i → i < (cap : Int) → f' i = f i) : BtA 0 (n + 1) (upz t n c) cap' (upz f' n (sb c)) := by
  rcases H with ⟨-, h1, h2⟩ | ⟨h9, -⟩
  · refine Or.inl ⟨rfl, hcap, fun i a b => ?_⟩
    unfold upz
    by_cases e : i = n
    · rw [if_pos e, if_pos e]; exact ⟨⟨by omega, by omega⟩, rfl⟩
    · rw [if_neg e, if_neg e, hf i a (by omega)]; exact h2 i a (by omega)
  · exact absurd h9 (by decide)
theorem BtA.add1 {t : Int → Int} {n c : Int} {cap cap' : Nat} {f f' : Int → Int} (H : BtA 1 n t cap f) (hn : 0 ≤ n) (hc : 0 ≤ c ∧ c ≤ 65535) (hcap : 2 * (n + 1) ≤ (cap' : Int) ∧ cap' ≤ 800) (hf : ∀ i, 0 ≤ i → i < (cap : Int) → f' i = f i) : BtA 1 (n + 1) (upz t n c) cap' (upz (upz f' (2 * n) (sb c)) (2 * n + 1) (sb (c / 256))) := by
  rcases H with ⟨h9, -⟩ | ⟨-, h1, h2⟩
  · exact absurd h9 (by decide)
  · refine Or.inr ⟨rfl, hcap, fun i a b => ?_⟩
    unfold upz
    by_cases e : i = n
    · rw [e, if_pos rfl, if_neg (by omega), if_pos rfl, if_pos rfl]; exact ⟨⟨by omega, by omega⟩, rfl, rfl⟩
    · rw [if_neg e, if_neg (by omega), if_neg (by omega), if_neg (by omega), if_neg (by omega), hf _ (by omega) (by omega), hf _ (by omega) (by omega)]; exact h2 i a (by omega)
theorem upz_rng {f : Int → Int} {i x : Int} (hf : ∀ i, -128 ≤ f i ∧ f i ≤ 127) (hx : -128 ≤ x ∧ x ≤ 127) : ∀ j, -128 ≤ upz f i x j ∧ upz f i x j ≤ 127 := fun j => by
  unfold upz
  split
  · exact hx
  · exact hf j
/-- what a change of the text leaves -/
def TxQ (K : KT) (h h' : MH) (q e0 : Nat) (n : Int) (t : Int → Int) : Prop := ∃ (e cap : Nat) (ml cd : Int) (f : Int → Int), (ml = 0 ∨ ml = 1) ∧ (cd = 0 ∨ cd = 1) ∧ h'.2.2 q = some (true, .inr (20, [.ref e, vi cd, vi ml, vi n])) ∧ h'.2.2 e = some (true, ba K cap f) ∧ (∀ i, -128 ≤ f i ∧ f i ≤ 127) ∧ BtA cd n t cap f ∧ (e = e0 ∨ h.1 ≤ e) ∧ (h.1 ≤ h'.1 ∧ h'.1 ≤ h.1 + 4) ∧ (h.2.1 ≤ h'.2.1 ∧ h'.2.1 ≤ h.2.1 + 10000) ∧ ∀ b, (b < h.1 ∧ b ≠ q ∧ b ≠ e0) → h'.2.2 b = h.2.2 b
theorem BtA.b {cd n : Int} {t : Int → Int} {cap : Nat} {f : Int → Int} (H : BtA cd n t cap f) : (cd = 0 → n ≤ (cap : Int) ∧ cap ≤ 400) ∧ (cd = 1 → 2 * n ≤ (cap : Int) ∧ cap ≤ 800) := by
  rcases H with ⟨h1, h2, -⟩ | ⟨h1, h2, -⟩
  · exact ⟨fun _ => h2, fun h9 => absurd (h1.symm.trans h9) (by decide)⟩
  · exact ⟨fun h9 => absurd (h1.symm.trans h9) (by decide), fun _ => h2⟩
theorem BtA.cp {cd n : Int} {t : Int → Int} {cap cap' : Nat} {f f' : Int → Int} (H : BtA cd n t cap f) (hc : cap ≤ cap' ∧ (cd = 0 → cap' ≤ 400) ∧ (cd = 1 → cap' ≤ 800)) (hf : ∀ i, 0 ≤ i → i < (cap : Int) → f' i = f i) : BtA cd n t cap' f' := by
  rcases H with ⟨h1, h2, h3⟩ | ⟨h1, h2, h3⟩
  · exact Or.inl ⟨h1, ⟨by omega, hc.2.1 h1⟩, fun i a b => by rw [hf i a (by omega)]; exact h3 i a b⟩
  · exact Or.inr ⟨h1, ⟨by omega, hc.2.2 h1⟩, fun i a b => by rw [hf _ (by omega) (by omega), hf _ (by omega) (by omega)]; exact h3 i a b⟩
theorem c_J8_putCharSB {e cap : Nat} {f : Int → Int} (i c : Int) (hd : 3 ≤ d) (hK : KTx K) (he : h.2.2 e = some (true, ba K cap f)) (hc : cap ≤ 100000) (hi : 0 ≤ i ∧ 2 * i + 1 < (cap : Int)) (hch : 0 ≤ c ∧ c ≤ 65535) : Mt K yiJ8_putCharSB d [.ref e, vi i, vi c] h (Rv fun h' => Hp h h' e (true, ba K cap (upz (upz f (2 * i) (sb c)) (2 * i + 1) (sb (c / 256)))) 0 0) := by
  refine mt_ofQ (by decide) (Nat.le_of_ble_eq_true rfl) (fun Q hQ => ?_)
  show MW K yiJ8_putCharSB d h 0 [some (.ref e), some (vi i), some (vi c)] [] Q
  refine mw_wf (fun hwf => ?_)
  have l_he := hwf _ _ he
  refine j_iload_n (y := yiJ8_putCharSB) dJ8_putCharSB_0 rfl ?_
  refine m_aload_n (y := yiJ8_putCharSB) dJ8_putCharSB_1 rfl ?_
  refine m_invS (y := yiJ8_putCharSB) [(vi i), (.ref e)] dJ8_putCharSB_2 q1272 q1273 q132 q1274 (c_J8_checkIndex (d := 2) i (by omega) hK.2.2.2.2 he hc hi) pdJ8_checkIndex ⟨Nat.le_of_ble_eq_true rfl, by decide, by omega⟩ (kk_v fun h2 q2 => ?_) kx_v
  obtain rfl := q2
  refine m_aload_n (y := yiJ8_putCharSB) dJ8_putCharSB_5 rfl ?_
  refine j_iload_n (y := yiJ8_putCharSB) dJ8_putCharSB_6 rfl ?_
  refine j_iload_n (y := yiJ8_putCharSB) dJ8_putCharSB_7 rfl ?_
  refine m_invS (y := yiJ8_putCharSB) [(.ref e), (vi i), (vi c)] dJ8_putCharSB_8 q431 q432 q132 q433 (c_J8_putChar (d := 0) i c hK he hc hi hch) pdJ8_putChar ⟨Nat.le_of_ble_eq_true rfl, by decide, by omega⟩ (kk_v fun h8 q8 => ?_) kx_v
  obtain q8 := q8
  refine mw_wf (fun hwf8 => ?_)
  subst hQ; exact j_vret (y := yiJ8_putCharSB) dJ8_putCharSB_11 rfl q8
theorem c_J5_append_3 {e cap : Nat} {ml cd : Int} {f : Int → Int} (c : Int) (hd : 6 ≤ d) (hK : KTx K) (hml : ml = 0 ∨ ml = 1) (hcd : cd = 0 ∨ cd = 1) (hq : h.2.2 q = some (true, .inr (20, [.ref e, vi cd, vi ml, vi n]))) (he : h.2.2 e = some (true, ba K cap f)) (hf : ∀ i, -128 ≤ f i ∧ f i ≤ 127) (hB : BtA cd n t cap f) (hn : 0 ≤ n ∧ n ≤ 79) (hc : 0 ≤ c ∧ c ≤ 65535) (hz : h.1 + 4 ≤ kC K ∧ h.2.1 + 10000 ≤ kS K) : Mt K yiJ5_append_3 d [.ref q, vi c] h (Rr fun r h' => q = r ∧ TxQ K h h' q e (n + 1) (upz t n c)) := by
  have hb := hB.b
  have sbc := sby_b c
  rcases hcd with rfl | rfl
  · have hb0 := hb.1 rfl
    refine mt_ofQ (by decide) (Nat.le_of_ble_eq_true rfl) (fun Q hQ => ?_)
    show MW K yiJ5_append_3 d h 0 [some (.ref q), some (vi c)] [] Q
    refine mw_wf (fun hwf => ?_)
    have l_hq := hwf _ _ hq
    have l_he := hwf _ _ he
    have fR : ∀ b, (b < h.1 ∧ b ≠ q ∧ b ≠ e) → h.2.2 b = h.2.2 b := fun _ _ => rfl
    refine m_aload_n (y := yiJ5_append_3) dJ5_append_3_0 rfl ?_
    refine m_aload_n (y := yiJ5_append_3) dJ5_append_3_1 rfl ?_
    refine m_getfS (y := yiJ5_append_3) kc_20 3 (by decide) dJ5_append_3_2 q285 hq rfl ?_
    refine j_iconst (y := yiJ5_append_3) dJ5_append_3_5 ?_
    refine j_iadd (y := yiJ5_append_3) dJ5_append_3_6 ?_
    refine m_invP (y := yiJ5_append_3) (rB := (RJ6, TJ6, 4)) [(vi (n + 1))] dJ5_append_3_7 hq rfl q374 q3657 q264 q375 ⟨rfl, rfl⟩ q376 q129 q377 (c_J5_ensure (d := 3) (n + 1) (by omega) (Or.inl rfl) hq he hf ⟨fun _ => by omega, fun h9 => by omega⟩ ⟨by omega, by omega⟩ ⟨by omega, by omega⟩) pdJ5_ensureCapacityInternal ⟨Nat.le_of_ble_eq_true rfl, by decide, by omega⟩ (kk_v fun h7 q7 => ?_) kx_v
    obtain ⟨e2, cap2, f2, p1, hq2, he2, p4, p5, p6, p7, y7, z7, p8⟩ := q7
    have fR : ∀ b, (b < h.1 ∧ b ≠ q ∧ b ≠ e) → h7.2.2 b = h.2.2 b := fun b hb => (p8 b (by omega)).trans (fR b hb)
    refine mw_wf (fun hwf7 => ?_)
    have l_hq27 := hwf7 _ _ hq2
    have l_he27 := hwf7 _ _ he2
    have hqe2 : q ≠ e2 := ne_oa hq2 he2
    have p4a := p4.2.1 rfl
    have p5a := p5.1 rfl
    have hwf7' := hwf7
    refine m_aload_n (y := yiJ5_append_3) dJ5_append_3_10 rfl ?_
    refine m_invU (y := yiJ5_append_3) (rB := (RJ6, TJ6, 4)) [] dJ5_append_3_11 hq2 rfl q409 q411 q412 q410 q129 q413 rfl (by show _ = some 0; decide +kernel) (c_J5_isLatin1 (d := 0) hK (Or.inl rfl) hq2) pdJ5_isLatin1 ⟨Nat.le_of_ble_eq_true rfl, by decide, by omega⟩ (kk_z fun r11 h11 q11 => ?_) kx_z
    obtain ⟨rfl, rfl⟩ := q11
    refine mw_top (x' := 1) (bz_t rfl).symm ?_
    refine j_if_eq (y := yiJ5_append_3) 45 dJ5_append_3_14 (by decide) ⟨by decide, by decide⟩ (fun c => absurd c (by decide)) (fun _ => ?_)
    refine j_iload_n (y := yiJ5_append_3) dJ5_append_3_17 rfl ?_
    refine m_invS (y := yiJ5_append_3) [(vi c)] dJ5_append_3_18 q1266 q1267 q149 q1268 (c_J23_canEncode (d := 0) c ⟨by omega, by omega⟩) pdJ23_canEncode ⟨Nat.le_of_ble_eq_true rfl, by decide, by omega⟩ (kk_z fun r18 h18 q18 => ?_) kx_z
    obtain ⟨rfl, rfl⟩ := q18
    refine mw_top (x' := bz (c ≤ 255)) rfl ?_
    refine j_bz_eq (y := yiJ5_append_3) 45 dJ5_append_3_21 (by decide) (fun c21 => ?_) (fun c21 => ?_)
    · refine m_aload_n (y := yiJ5_append_3) dJ5_append_3_45 rfl ?_
      refine m_invU (y := yiJ5_append_3) (rB := (RJ6, TJ6, 4)) [] dJ5_append_3_46 hq2 rfl q409 q411 q412 q410 q129 q413 rfl (by show _ = some 0; decide +kernel) (c_J5_isLatin1 (d := 0) hK (Or.inl rfl) hq2) pdJ5_isLatin1 ⟨Nat.le_of_ble_eq_true rfl, by decide, by omega⟩ (kk_z fun r46 h46 q46 => ?_) kx_z
      obtain ⟨rfl, rfl⟩ := q46
      refine mw_top (x' := 1) (bz_t rfl).symm ?_
      refine j_if_eq (y := yiJ5_append_3) 56 dJ5_append_3_49 (by decide) ⟨by decide, by decide⟩ (fun c => absurd c (by decide)) (fun _ => ?_)
      refine m_aload_n (y := yiJ5_append_3) dJ5_append_3_52 rfl ?_
      have hB2 : BtA 0 n t cap2 f2 := hB.cp p4 p6
      have hB3 : ∀ i, 0 ≤ i → i < n → (0 ≤ t i ∧ t i < 256) ∧ f2 i = sb (t i) := by { rcases hB2 with ⟨-, -, h9⟩ | ⟨h9, -⟩; { exact h9 }; { exact absurd h9 (by decide) } }
      refine m_invP (y := yiJ5_append_3) (rB := (RJ6, TJ6, 4)) [] dJ5_append_3_53 hq2 rfl q458 q3661 q264 q459 ⟨rfl, rfl⟩ q460 q129 q461 (c_J5_inflate (d := 5) (t := t) (by omega) hK hq2 he2 ⟨by omega, by omega, by omega⟩ hB3 ⟨by omega, by omega⟩) pdJ5_inflate ⟨Nat.le_of_ble_eq_true rfl, by decide, by omega⟩ (kk_v fun h53 q53 => ?_) kx_v
      obtain ⟨g', hq3, he3, s3, s4, y53, z53, s7⟩ := q53
      have fR : ∀ b, (b < h.1 ∧ b ≠ q ∧ b ≠ e) → h53.2.2 b = h.2.2 b := fun b hb => (s7 b (by omega)).trans (fR b hb)
      refine mw_wf (fun hwf53 => ?_)
      have l_hq353 := hwf53 _ _ hq3
      have l_he353 := hwf53 _ _ he3
      refine m_aload_n (y := yiJ5_append_3) dJ5_append_3_56 rfl ?_
      refine m_getfS (y := yiJ5_append_3) kc_20 0 (by decide) dJ5_append_3_57 q281 hq3 rfl ?_
      refine m_aload_n (y := yiJ5_append_3) dJ5_append_3_60 rfl ?_
      refine m_dup (y := yiJ5_append_3) dJ5_append_3_61 rfl ?_
      refine m_getfS (y := yiJ5_append_3) kc_20 3 (by decide) dJ5_append_3_62 q285 hq3 rfl ?_
      refine m_dup_x1 (y := yiJ5_append_3) dJ5_append_3_65 rfl rfl ?_
      refine j_iconst (y := yiJ5_append_3) dJ5_append_3_66 ?_
      refine j_iadd (y := yiJ5_append_3) dJ5_append_3_67 ?_
      refine m_putfS (y := yiJ5_append_3) kc_20 3 (by decide) dJ5_append_3_68 q285 rfl hq3 rfl rfl (hp_put fun g1 g1H => ?_)
      have he3 : g1.2.2 h7.1 = some (true, ba K (2 * cap2) g') := (g1H.2.2.2 _ (by omega)).trans he3
      have fR : ∀ b, (b < h.1 ∧ b ≠ q ∧ b ≠ e) → g1.2.2 b = h.2.2 b := fun b hb => (g1H.2.2.2 b (by omega)).trans (fR b hb)
      have hq3 : g1.2.2 q = some (true, .inr (20, [(.ref h7.1), (vi 1), (vi ml), (vi (n + 1))])) := g1H.2.2.1
      have g11 := g1H.1
      have g12 := g1H.2.1
      have hqe3 : q ≠ h7.1 := ne_oa hq3 he3
      refine j_iload_n (y := yiJ5_append_3) dJ5_append_3_71 rfl ?_
      refine m_invS (y := yiJ5_append_3) [(.ref h7.1), (vi n), (vi c)] dJ5_append_3_72 q1269 q1270 q132 q1271 (c_J8_putCharSB (d := 3) n c (by omega) hK he3 (by omega) ⟨by omega, by omega⟩ hc) pdJ8_putCharSB ⟨Nat.le_of_ble_eq_true rfl, by decide, by omega⟩ (kk_v fun h72 q72 => ?_) kx_v
      obtain q72 := q72
      have he3' := q72.2.2.1
      have y72 := q72.1
      have z72 := q72.2.1
      have hq3 : h72.2.2 q = some (true, .inr (20, [(.ref h7.1), (vi 1), (vi ml), (vi (n + 1))])) := (q72.2.2.2 _ (by omega)).trans hq3
      have fR : ∀ b, (b < h.1 ∧ b ≠ q ∧ b ≠ e) → h72.2.2 b = h.2.2 b := fun b hb => (q72.2.2.2 b (by omega)).trans (fR b hb)
      refine mw_wf (fun hwf72 => ?_)
      have l_he3'72 := hwf72 _ _ he3'
      have hfinB : TxQ K h h72 q e (n + 1) (upz t n c) := ⟨h7.1, 2 * cap2, ml, 1, _, hml, Or.inr rfl, hq3, he3', upz_rng (upz_rng s3 (sby_b c)) (sby_b (c / 256)), (show BtA 1 n t (2 * cap2) g' from Or.inr ⟨rfl, ⟨by omega, by omega⟩, fun i a b => ⟨by have := (hB3 i a b).1; omega, s4 i a b⟩⟩).add1 hn.1 hc ⟨by omega, by omega⟩ (fun i _ _ => rfl), Or.inr (by omega), by omega, by omega, fR⟩
      refine m_aload_n (y := yiJ5_append_3) dJ5_append_3_75 rfl ?_
      subst hQ; exact m_aret (y := yiJ5_append_3) (x := (some q)) dJ5_append_3_76 rfl (Or.inl ⟨_, rfl⟩) ⟨q, rfl, ⟨rfl, hfinB⟩⟩
    · refine m_aload_n (y := yiJ5_append_3) dJ5_append_3_24 rfl ?_
      refine m_getfS (y := yiJ5_append_3) kc_20 0 (by decide) dJ5_append_3_25 q281 hq2 rfl ?_
      refine m_aload_n (y := yiJ5_append_3) dJ5_append_3_28 rfl ?_
      refine m_dup (y := yiJ5_append_3) dJ5_append_3_29 rfl ?_
      refine m_getfS (y := yiJ5_append_3) kc_20 3 (by decide) dJ5_append_3_30 q285 hq2 rfl ?_
      refine m_dup_x1 (y := yiJ5_append_3) dJ5_append_3_33 rfl rfl ?_
      refine j_iconst (y := yiJ5_append_3) dJ5_append_3_34 ?_
      refine j_iadd (y := yiJ5_append_3) dJ5_append_3_35 ?_
      refine m_putfS (y := yiJ5_append_3) kc_20 3 (by decide) dJ5_append_3_36 q285 rfl hq2 rfl rfl (hp_put fun g2 g2H => ?_)
      have he2 : g2.2.2 e2 = some (true, ba K cap2 f2) := (g2H.2.2.2 _ (by omega)).trans he2
      have fR : ∀ b, (b < h.1 ∧ b ≠ q ∧ b ≠ e) → g2.2.2 b = h.2.2 b := fun b hb => (g2H.2.2.2 b (by omega)).trans (fR b hb)
      have hq2 : g2.2.2 q = some (true, .inr (20, [(.ref e2), (vi 0), (vi ml), (vi (n + 1))])) := g2H.2.2.1
      have g21 := g2H.1
      have g22 := g2H.2.1
      refine j_iload_n (y := yiJ5_append_3) dJ5_append_3_39 rfl ?_
      refine j_i2b (y := yiJ5_append_3) dJ5_append_3_40 ⟨by omega, by omega⟩ ?_
      refine j_bastB (y := yiJ5_append_3) dJ5_append_3_41 he2 (by omega) ⟨by omega, by omega⟩ ⟨by omega, by omega⟩ (hp_put fun g3 g3H => ?_)
      have hq2 : g3.2.2 q = some (true, .inr (20, [(.ref e2), (vi 0), (vi ml), (vi (n + 1))])) := (g3H.2.2.2 _ (by omega)).trans hq2
      have fR : ∀ b, (b < h.1 ∧ b ≠ q ∧ b ≠ e) → g3.2.2 b = h.2.2 b := fun b hb => (g3H.2.2.2 b (by omega)).trans (fR b hb)
      have he2 : g3.2.2 e2 = some (true, ba K cap2 (upz f2 n (sb c))) := g3H.2.2.1
      have g31 := g3H.1
      have g32 := g3H.2.1
      have hfinA : TxQ K h g3 q e (n + 1) (upz t n c) := ⟨e2, cap2, ml, 0, _, hml, Or.inl rfl, hq2, he2, upz_rng p7 (sby_b c), hB.add0 hn.1 ⟨hc.1, by omega⟩ ⟨by omega, by omega⟩ p6, p1, by omega, by omega, fR⟩
      refine m_goto (y := yiJ5_append_3) 75 dJ5_append_3_42 (by decide) ?_
      refine m_aload_n (y := yiJ5_append_3) dJ5_append_3_75 rfl ?_
      subst hQ; exact m_aret (y := yiJ5_append_3) (x := (some q)) dJ5_append_3_76 rfl (Or.inl ⟨_, rfl⟩) ⟨q, rfl, ⟨rfl, hfinA⟩⟩
  · have hb1 := hb.2 rfl
    refine mt_ofQ (by decide) (Nat.le_of_ble_eq_true rfl) (fun Q hQ => ?_)
    show MW K yiJ5_append_3 d h 0 [some (.ref q), some (vi c)] [] Q
    refine mw_wf (fun hwf => ?_)
    have l_hq := hwf _ _ hq
    have l_he := hwf _ _ he
    have fR : ∀ b, (b < h.1 ∧ b ≠ q ∧ b ≠ e) → h.2.2 b = h.2.2 b := fun _ _ => rfl
    refine m_aload_n (y := yiJ5_append_3) dJ5_append_3_0 rfl ?_
    refine m_aload_n (y := yiJ5_append_3) dJ5_append_3_1 rfl ?_
    refine m_getfS (y := yiJ5_append_3) kc_20 3 (by decide) dJ5_append_3_2 q285 hq rfl ?_
    refine j_iconst (y := yiJ5_append_3) dJ5_append_3_5 ?_
    refine j_iadd (y := yiJ5_append_3) dJ5_append_3_6 ?_
    refine m_invP (y := yiJ5_append_3) (rB := (RJ6, TJ6, 4)) [(vi (n + 1))] dJ5_append_3_7 hq rfl q374 q3657 q264 q375 ⟨rfl, rfl⟩ q376 q129 q377 (c_J5_ensure (d := 3) (n + 1) (by omega) (Or.inr rfl) hq he hf ⟨fun h9 => by omega, fun _ => by omega⟩ ⟨by omega, by omega⟩ ⟨by omega, by omega⟩) pdJ5_ensureCapacityInternal ⟨Nat.le_of_ble_eq_true rfl, by decide, by omega⟩ (kk_v fun h7 q7 => ?_) kx_v
    obtain ⟨e2, cap2, f2, p1, hq2, he2, p4, p5, p6, p7, y7, z7, p8⟩ := q7
    have fR : ∀ b, (b < h.1 ∧ b ≠ q ∧ b ≠ e) → h7.2.2 b = h.2.2 b := fun b hb => (p8 b (by omega)).trans (fR b hb)
    refine mw_wf (fun hwf7 => ?_)
    have l_hq27 := hwf7 _ _ hq2
    have l_he27 := hwf7 _ _ he2
    have hqe2 : q ≠ e2 := ne_oa hq2 he2
    have p4a := p4.2.2 rfl
    have p5a := p5.2 rfl
    refine m_aload_n (y := yiJ5_append_3) dJ5_append_3_10 rfl ?_
    refine m_invU (y := yiJ5_append_3) (rB := (RJ6, TJ6, 4)) [] dJ5_append_3_11 hq2 rfl q409 q411 q412 q410 q129 q413 rfl (by show _ = some 0; decide +kernel) (c_J5_isLatin1 (d := 0) hK (Or.inr rfl) hq2) pdJ5_isLatin1 ⟨Nat.le_of_ble_eq_true rfl, by decide, by omega⟩ (kk_z fun r11 h11 q11 => ?_) kx_z
    obtain ⟨rfl, rfl⟩ := q11
    refine mw_top (x' := 0) (bz_f (by decide)).symm ?_
    refine j_if_eq (y := yiJ5_append_3) 45 dJ5_append_3_14 (by decide) ⟨by decide, by decide⟩ (fun _ => ?_) (fun c => absurd c (by decide))
    refine m_aload_n (y := yiJ5_append_3) dJ5_append_3_45 rfl ?_
    refine m_invU (y := yiJ5_append_3) (rB := (RJ6, TJ6, 4)) [] dJ5_append_3_46 hq2 rfl q409 q411 q412 q410 q129 q413 rfl (by show _ = some 0; decide +kernel) (c_J5_isLatin1 (d := 0) hK (Or.inr rfl) hq2) pdJ5_isLatin1 ⟨Nat.le_of_ble_eq_true rfl, by decide, by omega⟩ (kk_z fun r46 h46 q46 => ?_) kx_z
    obtain ⟨rfl, rfl⟩ := q46
    refine mw_top (x' := 0) (bz_f (by decide)).symm ?_
    refine j_if_eq (y := yiJ5_append_3) 56 dJ5_append_3_49 (by decide) ⟨by decide, by decide⟩ (fun _ => ?_) (fun c => absurd c (by decide))
    refine m_aload_n (y := yiJ5_append_3) dJ5_append_3_56 rfl ?_
    refine m_getfS (y := yiJ5_append_3) kc_20 0 (by decide) dJ5_append_3_57 q281 hq2 rfl ?_
    refine m_aload_n (y := yiJ5_append_3) dJ5_append_3_60 rfl ?_
    refine m_dup (y := yiJ5_append_3) dJ5_append_3_61 rfl ?_
    refine m_getfS (y := yiJ5_append_3) kc_20 3 (by decide) dJ5_append_3_62 q285 hq2 rfl ?_
    refine m_dup_x1 (y := yiJ5_append_3) dJ5_append_3_65 rfl rfl ?_
    refine j_iconst (y := yiJ5_append_3) dJ5_append_3_66 ?_
    refine j_iadd (y := yiJ5_append_3) dJ5_append_3_67 ?_
    refine m_putfS (y := yiJ5_append_3) kc_20 3 (by decide) dJ5_append_3_68 q285 rfl hq2 rfl rfl (hp_put fun g1 g1H => ?_)
    have he2 : g1.2.2 e2 = some (true, ba K cap2 f2) := (g1H.2.2.2 _ (by omega)).trans he2
    have fR : ∀ b, (b < h.1 ∧ b ≠ q ∧ b ≠ e) → g1.2.2 b = h.2.2 b := fun b hb => (g1H.2.2.2 b (by omega)).trans (fR b hb)
    have hq2 : g1.2.2 q = some (true, .inr (20, [(.ref e2), (vi 1), (vi ml), (vi (n + 1))])) := g1H.2.2.1
    have g11 := g1H.1
    have g12 := g1H.2.1
    refine j_iload_n (y := yiJ5_append_3) dJ5_append_3_71 rfl ?_
    refine m_invS (y := yiJ5_append_3) [(.ref e2), (vi n), (vi c)] dJ5_append_3_72 q1269 q1270 q132 q1271 (c_J8_putCharSB (d := 3) n c (by omega) hK he2 (by omega) ⟨by omega, by omega⟩ hc) pdJ8_putCharSB ⟨Nat.le_of_ble_eq_true rfl, by decide, by omega⟩ (kk_v fun h72 q72 => ?_) kx_v
    obtain q72 := q72
    have he3' := q72.2.2.1
    have y72 := q72.1
    have z72 := q72.2.1
    have hq2 : h72.2.2 q = some (true, .inr (20, [(.ref e2), (vi 1), (vi ml), (vi (n + 1))])) := (q72.2.2.2 _ (by omega)).trans hq2
    have fR : ∀ b, (b < h.1 ∧ b ≠ q ∧ b ≠ e) → h72.2.2 b = h.2.2 b := fun b hb => (q72.2.2.2 b (by omega)).trans (fR b hb)
    refine mw_wf (fun hwf72 => ?_)
    have l_he3'72 := hwf72 _ _ he3'
    refine m_aload_n (y := yiJ5_append_3) dJ5_append_3_75 rfl ?_
    subst hQ; exact m_aret (y := yiJ5_append_3) (x := (some q)) dJ5_append_3_76 rfl (Or.inl ⟨_, rfl⟩) ⟨q, rfl, ⟨rfl, e2, cap2, ml, 1, _, hml, Or.inr rfl, hq2, he3', upz_rng (upz_rng p7 (sby_b c)) (sby_b (c / 256)), hB.add1 hn.1 hc ⟨by omega, by omega⟩ p6, p1, by omega, by omega, fR⟩⟩
theorem c_J6_append_3 {e cap : Nat} {ml cd : Int} {f : Int → Int} (c : Int) (hd : 7 ≤ d) (hK : KTx K) (hml : ml = 0 ∨ ml = 1) (hcd : cd = 0 ∨ cd = 1) (hq : h.2.2 q = some (true, .inr (20, [.ref e, vi cd, vi ml, vi n]))) (he : h.2.2 e = some (true, ba K cap f)) (hf : ∀ i, -128 ≤ f i ∧ f i ≤ 127) (hB : BtA cd n t cap f) (hn : 0 ≤ n ∧ n ≤ 79) (hc : 0 ≤ c ∧ c ≤ 65535) (hz : h.1 + 4 ≤ kC K ∧ h.2.1 + 10000 ≤ kS K) : Mt K yiJ6_append_3 d [.ref q, vi c] h (Rr fun r h' => q = r ∧ TxQ K h h' q e (n + 1) (upz t n c)) := by
  refine mt_ofQ (by decide) (Nat.le_of_ble_eq_true rfl) (fun Q hQ => ?_)
  show MW K yiJ6_append_3 d h 0 [some (.ref q), some (vi c)] [] Q
  refine mw_wf (fun hwf => ?_)
  have l_hq := hwf _ _ hq
  refine m_aload_n (y := yiJ6_append_3) dJ6_append_3_0 rfl ?_
  refine j_iload_n (y := yiJ6_append_3) dJ6_append_3_1 rfl ?_
  refine m_invSU (y := yiJ6_append_3) (rB := (RJ6, TJ6, 4)) [(vi c)] dJ6_append_3_2 hq rfl q1263 q3665 q294 q1264 q129 q1265 (by decide) (c_J5_append_3 (d := 6) c (by omega) hK hml hcd hq he hf hB hn hc hz) pdJ5_append_3 ⟨Nat.le_of_ble_eq_true rfl, by decide, by omega⟩ (kk_r fun r2 h2 q2 => ?_) kx_r
  obtain ⟨rfl, e2, cap2, ml2, cd2, f2, s1, s2, s3, s4, s5, s6, s7, s8, s9, s10⟩ := q2
  refine mw_wf (fun hwf2 => ?_)
  refine m_pop (y := yiJ6_append_3) dJ6_append_3_5 rfl ?_
  refine m_aload_n (y := yiJ6_append_3) dJ6_append_3_6 rfl ?_
  subst hQ; exact m_aret (y := yiJ6_append_3) (x := (some q)) dJ6_append_3_7 rfl (Or.inl ⟨_, rfl⟩) ⟨q, rfl, ⟨rfl, e2, cap2, ml2, cd2, f2, s1, s2, s3, s4, s5, s6, s7, s8, s9, s10⟩⟩
theorem c_J5_setLength0 {e cap : Nat} {ml cd : Int} {f : Int → Int} (hd : 4 ≤ d) (hml : ml = 0 ∨ ml = 1) (hcd : cd = 0 ∨ cd = 1) (hq : h.2.2 q = some (true, .inr (20, [.ref e, vi cd, vi ml, vi n]))) (he : h.2.2 e = some (true, ba K cap f)) (hf : ∀ i, -128 ≤ f i ∧ f i ≤ 127) (hB : BtA cd n t cap f) (hn : 0 ≤ n ∧ n ≤ 80) (hz : h.1 + 4 ≤ kC K ∧ h.2.1 + 10000 ≤ kS K) : Mt K yiJ5_setLength d [.ref q, vi 0] h (Rv fun h' => TxQ K h h' q e 0 t) := by
  have hb := hB.b
  refine mt_ofQ (by decide) (Nat.le_of_ble_eq_true rfl) (fun Q hQ => ?_)
  show MW K yiJ5_setLength d h 0 [some (.ref q), some (vi 0)] [] Q
  refine mw_wf (fun hwf => ?_)
  have l_hq := hwf _ _ hq
  have l_he := hwf _ _ he
  have fR : ∀ b, (b < h.1 ∧ b ≠ q ∧ b ≠ e) → h.2.2 b = h.2.2 b := fun _ _ => rfl
  refine j_iload_n (y := yiJ5_setLength) dJ5_setLength_0 rfl ?_
  refine j_if_ge (y := yiJ5_setLength) 13 dJ5_setLength_1 (by decide) ⟨by decide, by decide⟩ (fun _ => ?_) (fun c => absurd c (by decide))
  refine m_aload_n (y := yiJ5_setLength) dJ5_setLength_13 rfl ?_
  refine j_iload_n (y := yiJ5_setLength) dJ5_setLength_14 rfl ?_
  refine m_invP (y := yiJ5_setLength) (rB := (RJ6, TJ6, 4)) [(vi 0)] dJ5_setLength_15 hq rfl q374 q3657 q264 q375 ⟨rfl, rfl⟩ q376 q129 q377 (c_J5_ensure (d := 3) 0 (by omega) hcd hq he hf ⟨fun h9 => (hb.1 h9).2, fun h9 => (hb.2 h9).2⟩ ⟨by omega, by omega⟩ ⟨by omega, by omega⟩) pdJ5_ensureCapacityInternal ⟨Nat.le_of_ble_eq_true rfl, by decide, by omega⟩ (kk_v fun h15 q15 => ?_) kx_v
  obtain ⟨e2, cap2, f2, p1, hq2, he2, p4, p5, p6, p7, y7, z7, p8⟩ := q15
  have fR : ∀ b, (b < h.1 ∧ b ≠ q ∧ b ≠ e) → h15.2.2 b = h.2.2 b := fun b hb => (p8 b (by omega)).trans (fR b hb)
  refine mw_wf (fun hwf15 => ?_)
  have l_hq215 := hwf15 _ _ hq2
  have l_he215 := hwf15 _ _ he2
  have hqe2 : q ≠ e2 := ne_oa hq2 he2
  refine m_aload_n (y := yiJ5_setLength) dJ5_setLength_18 rfl ?_
  refine m_getfS (y := yiJ5_setLength) kc_20 3 (by decide) dJ5_setLength_19 q285 hq2 rfl ?_
  refine j_iload_n (y := yiJ5_setLength) dJ5_setLength_22 rfl ?_
  refine j_icmp_ge (y := yiJ5_setLength) 63 dJ5_setLength_23 (by decide) ⟨⟨by omega, by omega⟩, ⟨by omega, by omega⟩⟩ (fun c23 => ?_) (fun c23 => False.elim (by omega))
  refine m_aload_n (y := yiJ5_setLength) dJ5_setLength_63 rfl ?_
  refine m_getfS (y := yiJ5_setLength) kc_20 3 (by decide) dJ5_setLength_64 q285 hq2 rfl ?_
  refine j_iload_n (y := yiJ5_setLength) dJ5_setLength_67 rfl ?_
  refine j_icmp_le (y := yiJ5_setLength) 76 dJ5_setLength_68 (by decide) ⟨⟨by omega, by omega⟩, ⟨by omega, by omega⟩⟩ (fun c68 => ?_) (fun c68 => ?_)
  · refine m_aload_n (y := yiJ5_setLength) dJ5_setLength_76 rfl ?_
    refine j_iload_n (y := yiJ5_setLength) dJ5_setLength_77 rfl ?_
    refine m_putfS (y := yiJ5_setLength) kc_20 3 (by decide) dJ5_setLength_78 q285 rfl hq2 rfl rfl (hp_put fun g1 g1H => ?_)
    have he2 : g1.2.2 e2 = some (true, ba K cap2 f2) := (g1H.2.2.2 _ (by omega)).trans he2
    have fR : ∀ b, (b < h.1 ∧ b ≠ q ∧ b ≠ e) → g1.2.2 b = h.2.2 b := fun b hb => (g1H.2.2.2 b (by omega)).trans (fR b hb)
    have hq2 : g1.2.2 q = some (true, .inr (20, [(.ref e2), (vi cd), (vi ml), (vi 0)])) := g1H.2.2.1
    have g11 := g1H.1
    have g12 := g1H.2.1
    have hB0 : BtA cd 0 t cap2 f2 := by { rcases hcd with h9 | h9; { exact Or.inl ⟨h9, ⟨by omega, p4.2.1 h9⟩, fun i a b => by omega⟩ }; { exact Or.inr ⟨h9, ⟨by omega, p4.2.2 h9⟩, fun i a b => by omega⟩ } }
    subst hQ; exact j_vret (y := yiJ5_setLength) dJ5_setLength_81 rfl (⟨e2, cap2, ml, cd, f2, hml, hcd, hq2, he2, p7, hB0, p1, by omega, by omega, fR⟩)
  · refine m_aload_n (y := yiJ5_setLength) dJ5_setLength_71 rfl ?_
    refine j_iconst (y := yiJ5_setLength) dJ5_setLength_72 ?_
    refine m_putfS (y := yiJ5_setLength) kc_20 2 (by decide) dJ5_setLength_73 q283 rfl hq2 rfl rfl (hp_put fun g2 g2H => ?_)
    have he2 : g2.2.2 e2 = some (true, ba K cap2 f2) := (g2H.2.2.2 _ (by omega)).trans he2
    have fR : ∀ b, (b < h.1 ∧ b ≠ q ∧ b ≠ e) → g2.2.2 b = h.2.2 b := fun b hb => (g2H.2.2.2 b (by omega)).trans (fR b hb)
    have hq2 : g2.2.2 q = some (true, .inr (20, [(.ref e2), (vi cd), (vi 1), (vi n)])) := g2H.2.2.1
    have g21 := g2H.1
    have g22 := g2H.2.1
    refine m_aload_n (y := yiJ5_setLength) dJ5_setLength_76 rfl ?_
    refine j_iload_n (y := yiJ5_setLength) dJ5_setLength_77 rfl ?_
    refine m_putfS (y := yiJ5_setLength) kc_20 3 (by decide) dJ5_setLength_78 q285 rfl hq2 rfl rfl (hp_put fun g3 g3H => ?_)
    have he2 : g3.2.2 e2 = some (true, ba K cap2 f2) := (g3H.2.2.2 _ (by omega)).trans he2
    have fR : ∀ b, (b < h.1 ∧ b ≠ q ∧ b ≠ e) → g3.2.2 b = h.2.2 b := fun b hb => (g3H.2.2.2 b (by omega)).trans (fR b hb)
    have hq2 : g3.2.2 q = some (true, .inr (20, [(.ref e2), (vi cd), (vi 1), (vi 0)])) := g3H.2.2.1
    have g31 := g3H.1
    have g32 := g3H.2.1
    have hB0 : BtA cd 0 t cap2 f2 := by { rcases hcd with h9 | h9; { exact Or.inl ⟨h9, ⟨by omega, p4.2.1 h9⟩, fun i a b => by omega⟩ }; { exact Or.inr ⟨h9, ⟨by omega, p4.2.2 h9⟩, fun i a b => by omega⟩ } }
    subst hQ; exact j_vret (y := yiJ5_setLength) dJ5_setLength_81 rfl (⟨e2, cap2, 1, cd, f2, (Or.inr rfl), hcd, hq2, he2, p7, hB0, p1, by omega, by omega, fR⟩)
theorem c_J6_setLength0 {e cap : Nat} {ml cd : Int} {f : Int → Int} (hd : 5 ≤ d) (hml : ml = 0 ∨ ml = 1) (hcd : cd = 0 ∨ cd = 1) (hq : h.2.2 q = some (true, .inr (20, [.ref e, vi cd, vi ml, vi n]))) (he : h.2.2 e = some (true, ba K cap f)) (hf : ∀ i, -128 ≤ f i ∧ f i ≤ 127) (hB : BtA cd n t cap f) (hn : 0 ≤ n ∧ n ≤ 80) (hz : h.1 + 4 ≤ kC K ∧ h.2.1 + 10000 ≤ kS K) : Mt K yiJ6_setLength d [.ref q, vi 0] h (Rv fun h' => TxQ K h h' q e 0 t) := by
  refine mt_ofQ (by decide) (Nat.le_of_ble_eq_true rfl) (fun Q hQ => ?_)
  show MW K yiJ6_setLength d h 0 [some (.ref q), some (vi 0)] [] Q
  refine mw_wf (fun hwf => ?_)
  have l_hq := hwf _ _ hq
  refine m_aload_n (y := yiJ6_setLength) dJ6_setLength_0 rfl ?_
  refine j_iload_n (y := yiJ6_setLength) dJ6_setLength_1 rfl ?_
  refine m_invSU (y := yiJ6_setLength) (rB := (RJ6, TJ6, 4)) [(vi 0)] dJ6_setLength_2 hq rfl q352 q3654 q294 q353 q129 q354 (by decide) (c_J5_setLength0 (d := 4) (by omega) hml hcd hq he hf hB hn hz) pdJ5_setLength ⟨Nat.le_of_ble_eq_true rfl, by decide, by omega⟩ (kk_v fun h2 q2 => ?_) kx_v
  obtain ⟨e2, cap2, ml2, cd2, f2, s1, s2, s3, s4, s5, s6, s7, s8, s9, s10⟩ := q2
  refine mw_wf (fun hwf2 => ?_)
  subst hQ; exact j_vret (y := yiJ6_setLength) dJ6_setLength_5 rfl (⟨e2, cap2, ml2, cd2, f2, s1, s2, s3, s4, s5, s6, s7, s8, s9, s10⟩)
end APP
