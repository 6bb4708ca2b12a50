/-! java.util.TreeSet of Integers -/
theorem c_J3_init (K : KT) (d : Nat) (h : MH) (a : Nat) (hd : 1 ≤ d) : Mt K yiJ3_init d [.ref a] h (Rv fun h' => h = h') := by
  refine mt_ofQ (by decide) (Nat.le_of_ble_eq_true rfl) (fun Q hQ => ?_)
  show MW K yiJ3_init d h 0 [some (.ref a)] [] Q
  refine mw_wf (fun hwf => ?_)
  refine m_aload_n (y := yiJ3_init) dJ3_init_0 rfl ?_
  refine m_objInit (y := yiJ3_init) dJ3_init_1 q238 q195 q196 ⟨Nat.le_of_ble_eq_true rfl, by omega⟩ ?_
  subst hQ; exact j_vret (y := yiJ3_init) dJ3_init_4 rfl rfl
theorem c_J4_init (K : KT) (d : Nat) (h : MH) (m : Nat) (hd : 2 ≤ d) (hm : h.2.2 m = some (true, .inr (17, [.null, .null, .null, .null, vi 0, vi 0, .null, .null, .null]))) : Mt K yiJ4_init d [.ref m] h (Rv fun h' => Hp h h' m (true, .inr (17, [.null, .null, .null, .null, vi 0, vi 0, .null, .null, .null])) 0 0) := by
  refine mt_ofQ (by decide) (Nat.le_of_ble_eq_true rfl) (fun Q hQ => ?_)
  show MW K yiJ4_init d h 0 [some (.ref m)] [] Q
  refine mw_wf (fun hwf => ?_)
  have l_hm := hwf _ _ hm
  have fR : ∀ b, (b ≠ m) → h.2.2 b = h.2.2 b := fun _ _ => rfl
  refine m_aload_n (y := yiJ4_init) dJ4_init_0 rfl ?_
  refine m_invI (y := yiJ4_init) [] dJ4_init_1 q235 q236 q127 q237 rfl rfl (c_J3_init K 1 h m (by omega)) pdJ3_init ⟨Nat.le_of_ble_eq_true rfl, by decide, by omega⟩ (kk_v fun h1 q1 => ?_) kx_v
  obtain rfl := q1
  refine m_aload_n (y := yiJ4_init) dJ4_init_4 rfl ?_
  refine j_iconst (y := yiJ4_init) dJ4_init_5 ?_
  refine m_putfS (y := yiJ4_init) kc_17 4 (by decide) dJ4_init_6 q241 rfl hm rfl rfl (hp_put fun g1 g1H => ?_)
  have fR : ∀ b, (b ≠ m) → g1.2.2 b = h.2.2 b := fun b hb => (g1H.2.2.2 b (by omega)).trans (fR b hb)
  have hm : g1.2.2 m = some (true, .inr (17, [.null, .null, .null, .null, (vi 0), (vi 0), .null, .null, .null])) := g1H.2.2.1
  have g11 := g1H.1
  have g12 := g1H.2.1
  refine m_aload_n (y := yiJ4_init) dJ4_init_9 rfl ?_
  refine j_iconst (y := yiJ4_init) dJ4_init_10 ?_
  refine m_putfS (y := yiJ4_init) kc_17 5 (by decide) dJ4_init_11 q242 rfl hm rfl rfl (hp_put fun g2 g2H => ?_)
  have fR : ∀ b, (b ≠ m) → g2.2.2 b = h.2.2 b := fun b hb => (g2H.2.2.2 b (by omega)).trans (fR b hb)
  have hm : g2.2.2 m = some (true, .inr (17, [.null, .null, .null, .null, (vi 0), (vi 0), .null, .null, .null])) := g2H.2.2.1
  have g21 := g2H.1
  have g22 := g2H.2.1
  refine m_aload_n (y := yiJ4_init) dJ4_init_14 rfl ?_
  refine m_null (y := yiJ4_init) dJ4_init_15 ?_
  refine m_putfF (y := yiJ4_init) kc_17 2 (by decide) dJ4_init_16 q239 rfl rfl rfl hm rfl rfl (hp_put fun g3 g3H => ?_)
  have fR : ∀ b, (b ≠ m) → g3.2.2 b = h.2.2 b := fun b hb => (g3H.2.2.2 b (by omega)).trans (fR b hb)
  have hm : g3.2.2 m = some (true, .inr (17, [.null, .null, .null, .null, (vi 0), (vi 0), .null, .null, .null])) := g3H.2.2.1
  have g31 := g3H.1
  have g32 := g3H.2.1
  subst hQ; exact j_vret (y := yiJ4_init) dJ4_init_19 rfl (⟨by omega, by omega, hm, fR⟩)
theorem c_J42_init (K : KT) (d : Nat) (h : MH) (a : Nat) (hd : 2 ≤ d) : Mt K yiJ42_init d [.ref a] h (Rv fun h' => h = h') := by
  refine mt_ofQ (by decide) (Nat.le_of_ble_eq_true rfl) (fun Q hQ => ?_)
  show MW K yiJ42_init d h 0 [some (.ref a)] [] Q
  refine mw_wf (fun hwf => ?_)
  refine m_aload_n (y := yiJ42_init) dJ42_init_0 rfl ?_
  refine m_invI (y := yiJ42_init) [] dJ42_init_1 q2534 q208 q124 q209 rfl rfl (c_J0_init K 1 h a (by omega)) pdJ0_init ⟨Nat.le_of_ble_eq_true rfl, by decide, by omega⟩ (kk_v fun h1 q1 => ?_) kx_v
  obtain rfl := q1
  subst hQ; exact j_vret (y := yiJ42_init) dJ42_init_4 rfl rfl
theorem c_J43_init_2 (K : KT) (d : Nat) (h : MH) (t m : Nat) (hd : 3 ≤ d) (ht : h.2.2 t = some (true, .inr (19, [.null]))) : Mt K yiJ43_init_2 d [.ref t, .ref m] h (Rv fun h' => Hp h h' t (true, .inr (19, [.ref m])) 0 0) := by
  refine mt_ofQ (by decide) (Nat.le_of_ble_eq_true rfl) (fun Q hQ => ?_)
  show MW K yiJ43_init_2 d h 0 [some (.ref t), some (.ref m)] [] Q
  refine mw_wf (fun hwf => ?_)
  have l_ht := hwf _ _ ht
  have fR : ∀ b, (b ≠ t) → h.2.2 b = h.2.2 b := fun _ _ => rfl
  refine m_aload_n (y := yiJ43_init_2) dJ43_init_2_0 rfl ?_
  refine m_invI (y := yiJ43_init_2) [] dJ43_init_2_1 q2531 q2532 q181 q2533 rfl rfl (c_J42_init K 2 h t (by omega)) pdJ42_init ⟨Nat.le_of_ble_eq_true rfl, by decide, by omega⟩ (kk_v fun h1 q1 => ?_) kx_v
  obtain rfl := q1
  refine m_aload_n (y := yiJ43_init_2) dJ43_init_2_4 rfl ?_
  refine m_aload_n (y := yiJ43_init_2) dJ43_init_2_5 rfl ?_
  refine m_putfS (y := yiJ43_init_2) kc_19 0 (by decide) dJ43_init_2_6 q2535 rfl ht rfl rfl (hp_put fun g1 g1H => ?_)
  have fR : ∀ b, (b ≠ t) → g1.2.2 b = h.2.2 b := fun b hb => (g1H.2.2.2 b (by omega)).trans (fR b hb)
  have ht : g1.2.2 t = some (true, .inr (19, [(.ref m)])) := g1H.2.2.1
  have g11 := g1H.1
  have g12 := g1H.2.1
  subst hQ; exact j_vret (y := yiJ43_init_2) dJ43_init_2_9 rfl (⟨by omega, by omega, ht, fR⟩)
/-- a set t of ints: entries L, their keys -/
def TsA (h : MH) (t m : Nat) (L : List Nat) (key : Nat → Int) : Prop := ∃ (ko : Nat → Nat) (vl lf rt pa : Nat → Option Nat) (co lo hi : Nat → Int) (root : Option Nat) (mc : Int), h.2.2 t = some (true, .inr (19, [.ref m])) ∧ TmF h m L ko vl lf rt pa co root (L.length : Int) mc ∧ TmK h L ko key ∧ TmI L key lf rt pa lo hi root (-1) 10000 ∧ TmB co root
theorem c_J43_init (K : KT) (d : Nat) (h : MH) (t : Nat) (hd : 4 ≤ d) (ht : h.2.2 t = some (true, .inr (19, [.null]))) (hz : h.1 + 1 ≤ kC K ∧ h.2.1 + 9 ≤ kS K) : Mt K yiJ43_init d [.ref t] h (Rv fun h' => TsA h' t h.1 [] (fun _ => 0) ∧ h'.1 = h.1 + 1 ∧ h'.2.1 = h.2.1 + 9 ∧ ∀ b, (b < h.1 ∧ b ≠ t) → h'.2.2 b = h.2.2 b) := by
  refine mt_ofQ (by decide) (Nat.le_of_ble_eq_true rfl) (fun Q hQ => ?_)
  show MW K yiJ43_init d h 0 [some (.ref t)] [] Q
  refine mw_wf (fun hwf => ?_)
  have l_ht := hwf _ _ ht
  have fR : ∀ b, (b < h.1 ∧ b ≠ t) → h.2.2 b = h.2.2 b := fun _ _ => rfl
  refine m_aload_n (y := yiJ43_init) dJ43_init_0 rfl ?_
  refine m_new (y := yiJ43_init) kc_17 9 dJ43_init_1 q2526 q231 q128 _ rfl ⟨by omega, by omega⟩ (hp_new fun g1 g1H => ?_)
  have ht : g1.2.2 t = some (true, .inr (19, [.null])) := (g1H.2.2.2 _ (by omega)).trans ht
  have fR : ∀ b, (b < h.1 ∧ b ≠ t) → g1.2.2 b = h.2.2 b := fun b hb => (g1H.2.2.2 b (by omega)).trans (fR b hb)
  have fg1 : g1.2.2 h.1 = some (true, .inr (17, [.null, .null, .null, .null, (vi 0), (vi 0), .null, .null, .null])) := g1H.2.2.1
  have g11 := g1H.1
  have g12 := g1H.2.1
  refine m_dup (y := yiJ43_init) dJ43_init_4 rfl ?_
  refine m_invI (y := yiJ43_init) [] dJ43_init_5 q2527 q233 q128 q234 rfl rfl (c_J4_init K 2 g1 h.1 (by omega) fg1) pdJ4_init ⟨Nat.le_of_ble_eq_true rfl, by decide, by omega⟩ (kk_v fun h5 q5 => ?_) kx_v
  obtain q5 := q5
  have y5 := q5.1
  have z5 := q5.2.1
  have fm := q5.2.2.1
  have ht : h5.2.2 t = some (true, .inr (19, [.null])) := (q5.2.2.2 _ (by omega)).trans ht
  have fR : ∀ b, (b < h.1 ∧ b ≠ t) → h5.2.2 b = h.2.2 b := fun b hb => (q5.2.2.2 b (by omega)).trans (fR b hb)
  refine mw_wf (fun hwf5 => ?_)
  have l_fm5 := hwf5 _ _ fm
  refine m_invI (y := yiJ43_init) [(.ref h.1)] dJ43_init_8 q2528 q2529 q182 q2530 rfl rfl (c_J43_init_2 K 3 h5 t h.1 (by omega) ht) pdJ43_init_2 ⟨Nat.le_of_ble_eq_true rfl, by decide, by omega⟩ (kk_v fun h8 q8 => ?_) kx_v
  obtain q8 := q8
  have y8 := q8.1
  have z8 := q8.2.1
  have ht := q8.2.2.1
  have fm : h8.2.2 h.1 = some (true, .inr (17, [.null, .null, .null, .null, (vi 0), (vi 0), .null, .null, .null])) := (q8.2.2.2 _ (by omega)).trans fm
  have fR : ∀ b, (b < h.1 ∧ b ≠ t) → h8.2.2 b = h.2.2 b := fun b hb => (q8.2.2.2 b (by omega)).trans (fR b hb)
  refine mw_wf (fun hwf8 => ?_)
  have l_ht8 := hwf8 _ _ ht
  subst hQ; exact j_vret (y := yiJ43_init) dJ43_init_11 rfl (⟨⟨fun _ => 0, fun _ => none, fun _ => none, fun _ => none, fun _ => none, fun _ => 0, fun _ => 0, fun _ => 0, none, 0, ht, ⟨fm, fun a h9 => (nomatch h9), fun a h9 => (nomatch h9)⟩, fun a h9 => (nomatch h9), ⟨TmS.nil, TmL.nil⟩, fun r h9 => (nomatch h9)⟩, by omega, by omega, fR⟩)
theorem TsA.nin {h : MH} {t m : Nat} {L : List Nat} {key : Nat → Int} (H : TsA h t m L key) {b ci : Nat} {w : Bool} {fs : List Value} (hb : h.2.2 b = some (w, .inr (ci, fs))) (h1 : ci ≠ 18) (h2 : ci ≠ 17) : b ∉ L ∧ b ≠ m := by
  obtain ⟨ko, vl, lf, rt, pa, co, lo, hi, root, mc, r1, r2, r3, r4, r5⟩ := H
  exact ⟨fun h9 => ne_oo hb (r2.2.1 b h9) h1 rfl, fun h9 => ne_oo hb r2.1 h2 h9⟩
theorem TsA.nia {h : MH} {t m : Nat} {L : List Nat} {key : Nat → Int} (H : TsA h t m L key) {b : Nat} {w : Bool} {x : ClassId × vp_A} (hb : h.2.2 b = some (w, .inl x)) : b ∉ L ∧ b ≠ m := by
  obtain ⟨ko, vl, lf, rt, pa, co, lo, hi, root, mc, r1, r2, r3, r4, r5⟩ := H
  exact ⟨fun h9 => ne_oa (r2.2.1 b h9) hb h9, fun h9 => ne_oa r2.1 hb h9.symm⟩
theorem TsA.keys {h : MH} {t m : Nat} {L : List Nat} {key : Nat → Int} (H : TsA h t m L key) : ∀ a, a ∈ L → -1 < key a ∧ key a < 10000 := fun a ha => by
  obtain ⟨ko, vl, lf, rt, pa, co, lo, hi, root, mc, r1, r2, r3, r4, r5⟩ := H
  have := r4.1.bd ha; omega
/-- what a change leaves -/
def TsQ (h h' : MH) (t m : Nat) (L : List Nat) (S : Int → Prop) (n : Nat) : Prop := ∃ (L' : List Nat) (key' : Nat → Int), TsA h' t m L' key' ∧ (∀ v, (∃ a, a ∈ L' ∧ key' a = v) ↔ S v) ∧ L'.length ≤ n ∧ (∀ a, a ∈ L' → a ∈ L ∨ h.1 ≤ a) ∧ (h.1 ≤ h'.1 ∧ h'.1 ≤ h.1 + 1) ∧ (h.2.1 ≤ h'.2.1 ∧ h'.2.1 ≤ h.2.1 + 6) ∧ ∀ b, (b < h.1 ∧ b ∉ L ∧ b ≠ m) → h'.2.2 b = h.2.2 b
section TSET
variable {K : KT} {d : Nat} {h : MH} {t m : Nat} {L : List Nat} {key : Nat → Int}
theorem PutQ.ts {ko : Nat → Nat} {vl lf rt pa : Nat → Option Nat} {co lo hi : Nat → Int} {root : Option Nat} {mc : Int} {h' : MH} {q v : Nat} {r : Option Nat} {k : Int} (hwf : ∀ b e, h.2.2 b = some e → b < h.1) (r1 : h.2.2 t = some (true, .inr (19, [.ref m]))) (r2 : TmF h m L ko vl lf rt pa co root (L.length : Int) mc) (r3 : TmK h L ko key) (hq : IgA h q k) (P : PutQ h h' m L key ko vl (L.length : Int) mc (-1) 10000 k q v r) : TsQ h h' t m L (fun v => v = k ∨ ∃ a, a ∈ L ∧ key a = v) (L.length + 1) := by
  have hL : ∀ a, a ∈ L → a < h.1 := fun a ha => hwf _ _ (r2.2.1 a ha)
  have nb : ∀ {b ci : Nat} {w : Bool} {fs : List Value}, h.2.2 b = some (w, .inr (ci, fs)) → ci ≠ 18 → ci ≠ 17 → b < h.1 ∧ b ∉ L ∧ b ≠ m := fun hb h1 h2 => ⟨hwf _ _ hb, fun h9 => ne_oo hb (r2.2.1 _ h9) h1 rfl, fun h9 => ne_oo hb r2.1 h2 h9⟩
  rcases P with ⟨a, a1, a2, -, T, lf', rt', pa', co', lo', hi', root', F, I, B⟩ | ⟨hno, -, ⟨⟨p1, p2⟩, ⟨p3, p4⟩, p5⟩, lf', rt', pa', co', lo', hi', root', F, I, B⟩
  · refine ⟨L, key, ⟨ko, _, lf', rt', pa', co', lo', hi', root', mc, (T.2.2 t (nb r1 (by decide) (by decide)).2).trans r1, F, fun b hb => ?_, I, B⟩, fun v => ⟨fun e => Or.inr e, fun e => e.elim (fun e => ⟨a, a1, a2.trans e.symm⟩) id⟩, by omega, fun b hb => Or.inl hb, ⟨by have := T.1; omega, by have := T.1; omega⟩, ⟨by have := T.2.1; omega, by have := T.2.1; omega⟩, fun b hb => T.2.2 b hb.2⟩
    obtain ⟨w, hw⟩ := r3 b hb
    exact ⟨w, (T.2.2 _ (nb hw (by decide) (by decide)).2).trans hw⟩
  · have hxL : h.1 ∉ L := fun h9 => Nat.lt_irrefl _ (hL _ h9)
    refine ⟨h.1 :: L, upI key h.1 k, ⟨_, _, lf', rt', pa', co', lo', hi', root', mc + 1, (p5 t (nb r1 (by decide) (by decide))).trans r1, by rw [List.length_cons, Int.natCast_add]; exact F, fun b hb => ?_, I, B⟩, fun v => ⟨?_, ?_⟩, by rw [List.length_cons]; exact Nat.le_refl _, fun b hb => (List.mem_cons.mp hb).elim (fun e => Or.inr (by omega)) Or.inl, ⟨p1, p2⟩, ⟨p3, p4⟩, p5⟩
    · rcases List.mem_cons.mp hb with e | e
      · subst e
        obtain ⟨w, hw⟩ := hq
        rw [upI_at, show upN ko h.1 q h.1 = q from if_pos rfl]
        exact ⟨w, (p5 _ (nb hw (by decide) (by decide))).trans hw⟩
      · have n : b ≠ h.1 := fun e9 => hxL (by rw [← e9]; exact e)
        obtain ⟨w, hw⟩ := r3 b e
        rw [upI_ne n, show upN ko h.1 q b = ko b from if_neg n]
        exact ⟨w, (p5 _ (nb hw (by decide) (by decide))).trans hw⟩
    · rintro ⟨a, a1, a2⟩
      rcases List.mem_cons.mp a1 with e | e
      · rw [e, upI_at] at a2; exact Or.inl a2.symm
      · rw [upI_ne (fun e9 => hxL (by rw [← e9]; exact e))] at a2; exact Or.inr ⟨a, e, a2⟩
    · rintro (e | ⟨a, a1, a2⟩)
      · exact ⟨h.1, List.mem_cons_self, by rw [upI_at, e]⟩
      · exact ⟨a, List.mem_cons_of_mem _ a1, by rw [upI_ne (fun e9 => hxL (by rw [← e9]; exact a1))]; exact a2⟩
theorem c_J43_add {q pr : Nat} {k : Int} (hd : 7 ≤ d) (hpr : kV K 13 = .ref pr) (H : TsA h t m L key) (hq : IgA h q k) (hk : 0 ≤ k ∧ k ≤ 9000) (hz : h.1 + 1 ≤ kC K ∧ h.2.1 + 6 ≤ kS K) : Mt K yiJ43_add d [.ref t, .ref q] h (Rz fun r h' => TsQ h h' t m L (fun v => v = k ∨ ∃ a, a ∈ L ∧ key a = v) (L.length + 1)) := by
  obtain ⟨ko, vl, lf, rt, pa, co, lo, hi, root, mc, r1, r2, r3, r4, r5⟩ := H
  have hm := r2.1
  obtain ⟨wq, hq9⟩ := id hq
  refine mt_ofQ (by decide) (Nat.le_of_ble_eq_true rfl) (fun Q hQ => ?_)
  show MW K yiJ43_add d h 0 [some (.ref t), some (.ref q)] [] Q
  refine mw_wf (fun hwf => ?_)
  have l_r1 := hwf _ _ r1
  have l_hm := hwf _ _ hm
  have l_hq9 := hwf _ _ hq9
  refine m_aload_n (y := yiJ43_add) dJ43_add_0 rfl ?_
  refine m_getfS (y := yiJ43_add) kc_19 0 (by decide) dJ43_add_1 q2535 r1 rfl ?_
  refine m_aload_n (y := yiJ43_add) dJ43_add_4 rfl ?_
  refine m_gets (y := yiJ43_add) (ref := "") 13 rfl dJ43_add_5 q2543 hpr ?_
  have P9 := fun (h' : MH) (r : Option Nat) (P : PutQ h h' m L key ko vl (L.length : Int) mc (-1) 10000 k q pr r) => PutQ.ts hwf r1 r2 r3 hq P
  refine m_invFU (y := yiJ43_add) (J := "java/util/Map") (rB := (RJ4, TJ4, 9)) [(.ref q), (.ref pr)] dJ43_add_8 hm rfl qn2 q2547 q2546 qn3 rfl q2548 q1745 q2550 q2549 q2284 q128 q1747 ⟨⟨by decide, by decide⟩, ⟨by decide, by decide⟩, by decide⟩ (by show _ = some 2; decide +kernel) (c_J4_put (d := 6) (by omega) r2 r3 r4 r5 ⟨by omega, by omega⟩ hq9 ⟨by omega, by omega⟩ hz) pdJ4_put ⟨Nat.le_of_ble_eq_true rfl, by decide, by omega⟩ (kk_q fun r8 h8 q8 => ?_) kx_q
  obtain q8 := q8
  refine mw_wf (fun hwf8 => ?_)
  have P8 := P9 _ _ q8
  refine m_ifnonnull (y := yiJ43_add) 20 dJ43_add_13 (by decide) (fun a13 c13 => ?_) (fun c13 => ?_)
  · subst c13
    refine j_iconst (y := yiJ43_add) dJ43_add_20 ?_
    subst hQ; exact j_zret (y := yiJ43_add) dJ43_add_21 rfl (by omega) P8
  · subst c13
    refine j_iconst (y := yiJ43_add) dJ43_add_16 ?_
    refine m_goto (y := yiJ43_add) 21 dJ43_add_17 (by decide) ?_
    subst hQ; exact j_zret (y := yiJ43_add) dJ43_add_21 rfl (by omega) P8
theorem c_J3_isEmpty {n mc : Int} {root : Option Nat} (hd : 1 ≤ d) (hn : 0 ≤ n ∧ n ≤ 100000) (hm : h.2.2 m = some (true, .inr (17, [.null, .null, .null, va_rf root, vi n, vi mc, .null, .null, .null]))) : Mt K yiJ3_isEmpty d [.ref m] h (Rz fun v h' => h = h' ∧ bz (n = 0) = v) := by
  refine mt_ofQ (by decide) (Nat.le_of_ble_eq_true rfl) (fun Q hQ => ?_)
  show MW K yiJ3_isEmpty d h 0 [some (.ref m)] [] Q
  refine mw_wf (fun hwf => ?_)
  have l_hm := hwf _ _ hm
  refine m_aload_n (y := yiJ3_isEmpty) dJ3_isEmpty_0 rfl ?_
  refine m_invA (y := yiJ3_isEmpty) (owner := "java/util/AbstractMap") (rB := (RJ4, TJ4, 9)) [] dJ3_isEmpty_1 hm rfl q2563 q2565 q2567 q2566 q695 q128 q697 ⟨by decide, by decide, by show _ = some 0; decide +kernel⟩ (c_J4_size K 0 h m root n mc hm) ⟨Nat.le_of_ble_eq_true rfl, by decide, by omega⟩ (kk_z fun r1 h1 q1 => ?_) kx_z
  obtain ⟨rfl, rfl⟩ := q1
  refine mw_top (x' := n) rfl ?_
  refine j_if_ne (y := yiJ3_isEmpty) 11 dJ3_isEmpty_4 (by decide) ⟨by omega, by omega⟩ (fun c4 => ?_) (fun c4 => ?_)
  · refine j_iconst (y := yiJ3_isEmpty) dJ3_isEmpty_11 ?_
    subst hQ; exact j_zret (y := yiJ3_isEmpty) dJ3_isEmpty_12 rfl (by omega) (⟨rfl, by { unfold bz; split <;> omega }⟩)
  · refine j_iconst (y := yiJ3_isEmpty) dJ3_isEmpty_7 ?_
    refine m_goto (y := yiJ3_isEmpty) 12 dJ3_isEmpty_8 (by decide) ?_
    subst hQ; exact j_zret (y := yiJ3_isEmpty) dJ3_isEmpty_12 rfl (by omega) (⟨rfl, by { unfold bz; split <;> omega }⟩)
theorem c_J43_isEmpty (hd : 2 ≤ d) (H : TsA h t m L key) (hn : L.length ≤ 100000) : Mt K yiJ43_isEmpty d [.ref t] h (Rz fun v h' => h = h' ∧ bz ((L.length : Int) = 0) = v) := by
  obtain ⟨ko, vl, lf, rt, pa, co, lo, hi, root, mc, r1, r2, r3, r4, r5⟩ := H
  have hm := r2.1
  refine mt_ofQ (by decide) (Nat.le_of_ble_eq_true rfl) (fun Q hQ => ?_)
  show MW K yiJ43_isEmpty d h 0 [some (.ref t)] [] Q
  refine mw_wf (fun hwf => ?_)
  have l_r1 := hwf _ _ r1
  have l_hm := hwf _ _ hm
  refine m_aload_n (y := yiJ43_isEmpty) dJ43_isEmpty_0 rfl ?_
  refine m_getfS (y := yiJ43_isEmpty) kc_19 0 (by decide) dJ43_isEmpty_1 q2535 r1 rfl ?_
  refine m_invFU (y := yiJ43_isEmpty) (J := "java/util/Map") (rB := (RJ4, TJ4, 9)) [] dJ43_isEmpty_4 hm rfl qn4 q2557 q2556 qn5 rfl q2558 q2560 q2561 q2559 q2284 q127 q2562 ⟨⟨by decide, by decide⟩, ⟨by decide, by decide⟩, by decide⟩ (by show _ = some 0; decide +kernel) (c_J3_isEmpty (d := 1) (by omega) ⟨by omega, by omega⟩ hm) pdJ3_isEmpty ⟨Nat.le_of_ble_eq_true rfl, by decide, by omega⟩ (kk_z fun r4 h4 q4 => ?_) kx_z
  obtain ⟨rfl, rfl⟩ := q4
  refine mw_top (x' := bz ((L.length : Int) = 0)) rfl ?_
  subst hQ; exact j_zret (y := yiJ43_isEmpty) dJ43_isEmpty_9 rfl (bz01 _) (⟨rfl, rfl⟩)
theorem c_J33_getKey {a : Nat} {v0 v1 v2 v3 v4 : Value} {kq : Nat} {c : Int} (ha : h.2.2 a = some (true, .inr (18, [.ref kq, v1, v2, v3, v4, vi c]))) : Mt K yiJ33_getKey d [.ref a] h (Rr fun r h' => h = h' ∧ kq = r) := by
  refine mt_ofQ (by decide) (Nat.le_of_ble_eq_true rfl) (fun Q hQ => ?_)
  show MW K yiJ33_getKey d h 0 [some (.ref a)] [] Q
  refine mw_wf (fun hwf => ?_)
  have l_ha := hwf _ _ ha
  refine m_aload_n (y := yiJ33_getKey) dJ33_getKey_0 rfl ?_
  refine m_getfS (y := yiJ33_getKey) kc_18 0 (by decide) dJ33_getKey_1 q1766 ha rfl ?_
  subst hQ; exact m_aret (y := yiJ33_getKey) (x := (some kq)) dJ33_getKey_4 rfl (Or.inl ⟨_, rfl⟩) ⟨kq, rfl, ⟨rfl, rfl⟩⟩
theorem c_J33_getValue {a : Nat} {v0 v2 v3 v4 : Value} {kq : Nat} {v1 : Option Nat} {c : Int} (ha : h.2.2 a = some (true, .inr (18, [.ref kq, va_rf v1, v2, v3, v4, vi c]))) : Mt K yiJ33_getValue d [.ref a] h (Rq fun r h' => h = h' ∧ v1 = r) := by
  refine mt_ofQ (by decide) (Nat.le_of_ble_eq_true rfl) (fun Q hQ => ?_)
  show MW K yiJ33_getValue d h 0 [some (.ref a)] [] Q
  refine mw_wf (fun hwf => ?_)
  have l_ha := hwf _ _ ha
  refine m_aload_n (y := yiJ33_getValue) dJ33_getValue_0 rfl ?_
  refine m_getfS (y := yiJ33_getValue) kc_18 1 (by decide) dJ33_getValue_1 q1768 ha rfl ?_
  subst hQ; exact m_aret (y := yiJ33_getValue) (x := v1) dJ33_getValue_4 rfl (Or.inl ⟨_, rfl⟩) ⟨v1, rfl, ⟨rfl, rfl⟩⟩
theorem c_J45_init {a s kq : Nat} {v1 : Option Nat} {v2 v3 v4 : Value} {c : Int} (hd : 2 ≤ d) (hs : h.2.2 s = some (true, .inr (25, [.null, .null]))) (ha : h.2.2 a = some (true, .inr (18, [.ref kq, va_rf v1, v2, v3, v4, vi c]))) : Mt K yiJ45_init d [.ref s, .ref a] h (Rv fun h' => Hp h h' s (true, .inr (25, [.ref kq, va_rf v1])) 0 0) := by
  have nsa : s ≠ a := ne_oo hs ha (by decide)
  refine mt_ofQ (by decide) (Nat.le_of_ble_eq_true rfl) (fun Q hQ => ?_)
  show MW K yiJ45_init d h 0 [some (.ref s), some (.ref a)] [] Q
  refine mw_wf (fun hwf => ?_)
  have l_hs := hwf _ _ hs
  have l_ha := hwf _ _ ha
  have fR : ∀ b, (b ≠ s) → h.2.2 b = h.2.2 b := fun _ _ => rfl
  refine m_aload_n (y := yiJ45_init) dJ45_init_0 rfl ?_
  refine m_objInit (y := yiJ45_init) dJ45_init_1 q2593 q195 q196 ⟨Nat.le_of_ble_eq_true rfl, by omega⟩ ?_
  refine m_aload_n (y := yiJ45_init) dJ45_init_4 rfl ?_
  refine m_aload_n (y := yiJ45_init) dJ45_init_5 rfl ?_
  refine m_invF (y := yiJ45_init) (rB := (RJ33, TJ33, 6)) [] dJ45_init_6 ha rfl q2595 q2597 q2596 rfl q2605 q2607 q2608 q2606 q2604 q166 q2609 ⟨by decide, by decide⟩ (by show _ = some 0; decide +kernel) (c_J33_getKey (d := 0) (v0 := .null) ha) pdJ33_getKey ⟨Nat.le_of_ble_eq_true rfl, by decide, by omega⟩ (kk_r fun r6 h6 q6 => ?_) kx_r
  obtain ⟨rfl, rfl⟩ := q6
  refine m_putfF (y := yiJ45_init) kc_25 0 (by decide) dJ45_init_11 q2624 rfl rfl rfl hs rfl rfl (hp_put fun g1 g1H => ?_)
  have ha : g1.2.2 a = some (true, .inr (18, [(.ref kq), (va_rf v1), v2, v3, v4, (vi c)])) := (g1H.2.2.2 _ (by omega)).trans ha
  have fR : ∀ b, (b ≠ s) → g1.2.2 b = h.2.2 b := fun b hb => (g1H.2.2.2 b (by omega)).trans (fR b hb)
  have hs : g1.2.2 s = some (true, .inr (25, [(.ref kq), .null])) := g1H.2.2.1
  have g11 := g1H.1
  have g12 := g1H.2.1
  refine m_aload_n (y := yiJ45_init) dJ45_init_14 rfl ?_
  refine m_aload_n (y := yiJ45_init) dJ45_init_15 rfl ?_
  refine m_invF (y := yiJ45_init) (rB := (RJ33, TJ33, 6)) [] dJ45_init_16 ha rfl q2611 q2613 q2612 rfl q2619 q2621 q2622 q2620 q2604 q166 q2623 ⟨by decide, by decide⟩ (by show _ = some 0; decide +kernel) (c_J33_getValue (d := 0) (v0 := .null) ha) pdJ33_getValue ⟨Nat.le_of_ble_eq_true rfl, by decide, by omega⟩ (kk_q fun r16 h16 q16 => ?_) kx_q
  obtain ⟨rfl, rfl⟩ := q16
  refine m_putfF (y := yiJ45_init) kc_25 1 (by decide) dJ45_init_21 q2625 rfl rfl rfl hs (by cases v1 <;> rfl) (by cases v1 <;> rfl) (hp_put fun g2 g2H => ?_)
  have ha : g2.2.2 a = some (true, .inr (18, [(.ref kq), (va_rf v1), v2, v3, v4, (vi c)])) := (g2H.2.2.2 _ (by omega)).trans ha
  have fR : ∀ b, (b ≠ s) → g2.2.2 b = h.2.2 b := fun b hb => (g2H.2.2.2 b (by omega)).trans (fR b hb)
  have hs : g2.2.2 s = some (true, .inr (25, [(.ref kq), (va_rf v1)])) := g2H.2.2.1
  have g21 := g2H.1
  have g22 := g2H.2.1
  subst hQ; exact j_vret (y := yiJ45_init) dJ45_init_24 rfl (⟨by omega, by omega, hs, fR⟩)
theorem c_J4_exportEntry {a kq : Nat} {v1 : Option Nat} {v2 v3 v4 : Value} {c : Int} (hd : 3 ≤ d) (ha : h.2.2 a = some (true, .inr (18, [.ref kq, va_rf v1, v2, v3, v4, vi c]))) (hz : h.1 + 1 ≤ kC K ∧ h.2.1 + 2 ≤ kS K) : Mt K yiJ4_exportEntry d [.ref a] h (Rr fun r h' => h.1 = r ∧ Hp h h' h.1 (true, .inr (25, [.ref kq, va_rf v1])) 1 2) := by
  refine mt_ofQ (by decide) (Nat.le_of_ble_eq_true rfl) (fun Q hQ => ?_)
  show MW K yiJ4_exportEntry d h 0 [some (.ref a)] [] Q
  refine mw_wf (fun hwf => ?_)
  have l_ha := hwf _ _ ha
  have fR : ∀ b, (b ≠ h.1) → h.2.2 b = h.2.2 b := fun _ _ => rfl
  refine m_aload_n (y := yiJ4_exportEntry) dJ4_exportEntry_0 rfl ?_
  refine m_ifnonnull (y := yiJ4_exportEntry) (x := (some a)) 8 dJ4_exportEntry_1 (by decide) (fun _ _ => ?_) (fun h9 => nomatch h9)
  refine m_new (y := yiJ4_exportEntry) kc_25 2 dJ4_exportEntry_8 q2588 q2589 q184 _ rfl ⟨by omega, by omega⟩ (hp_new fun g1 g1H => ?_)
  have ha : g1.2.2 a = some (true, .inr (18, [(.ref kq), (va_rf v1), v2, v3, v4, (vi c)])) := (g1H.2.2.2 _ (by omega)).trans ha
  have fR : ∀ b, (b ≠ h.1) → g1.2.2 b = h.2.2 b := fun b hb => (g1H.2.2.2 b (by omega)).trans (fR b hb)
  have fg1 : g1.2.2 h.1 = some (true, .inr (25, [.null, .null])) := g1H.2.2.1
  have g11 := g1H.1
  have g12 := g1H.2.1
  refine m_dup (y := yiJ4_exportEntry) dJ4_exportEntry_11 rfl ?_
  refine m_aload_n (y := yiJ4_exportEntry) dJ4_exportEntry_12 rfl ?_
  refine m_invI (y := yiJ4_exportEntry) [(.ref a)] dJ4_exportEntry_13 q2590 q2591 q184 q2592 rfl rfl (c_J45_init (d := 2) (by omega) fg1 ha) pdJ45_init ⟨Nat.le_of_ble_eq_true rfl, by decide, by omega⟩ (kk_v fun h13 q13 => ?_) kx_v
  obtain q13 := q13
  have y13 := q13.1
  have z13 := q13.2.1
  have fn := q13.2.2.1
  have ha : h13.2.2 a = some (true, .inr (18, [(.ref kq), (va_rf v1), v2, v3, v4, (vi c)])) := (q13.2.2.2 _ (by omega)).trans ha
  have fR : ∀ b, (b ≠ h.1) → h13.2.2 b = h.2.2 b := fun b hb => (q13.2.2.2 b (by omega)).trans (fR b hb)
  refine mw_wf (fun hwf13 => ?_)
  have l_fn13 := hwf13 _ _ fn
  subst hQ; exact m_aret (y := yiJ4_exportEntry) (x := (some h.1)) dJ4_exportEntry_16 rfl (Or.inl ⟨_, rfl⟩) ⟨h.1, rfl, ⟨rfl, by omega, by omega, fn, fR⟩⟩
theorem TmF.fr {ko : Nat → Nat} {vl lf rt pa : Nat → Option Nat} {co : Nat → Int} {root : Option Nat} {sz mc : Int} {g : MH} (H : TmF h m L ko vl lf rt pa co root sz mc) (hwf : ∀ b e, h.2.2 b = some e → b < h.1) (fr : ∀ b, b < h.1 → g.2.2 b = h.2.2 b) : TmF g m L ko vl lf rt pa co root sz mc := ⟨(fr _ (hwf _ _ H.1)).trans H.1, fun a ha => (fr _ (hwf _ _ (H.2.1 a ha))).trans (H.2.1 a ha), H.2.2⟩
theorem c_J4_pollLastEntry {ko : Nat → Nat} {vl lf rt pa : Nat → Option Nat} {co lo hi : Nat → Int} {root : Option Nat} {sz mc LO HI : Int} (hd : 4 ≤ d) (hF : TmF h m L ko vl lf rt pa co root sz mc) (hI : TmI L key lf rt pa lo hi root LO HI) (hB : TmB co root) (hne : L ≠ []) (hz : h.1 + 1 ≤ kC K ∧ h.2.1 + 2 ≤ kS K) : Mt K yiJ4_pollLastEntry d [.ref m] h (Rr fun r h' => h.1 = r ∧ ∃ (a : Nat) (g : MH), (a ∈ L ∧ ∀ b, b ∈ L → key b ≤ key a) ∧ Hp h g h.1 (true, .inr (25, [.ref (ko a), va_rf (vl a)])) 1 2 ∧ DelQ g h' m L key ko vl sz mc LO HI a) := by
  obtain ⟨r0, hr0⟩ : ∃ r0, root = some r0 := by
    cases e : root with
    | none => exact absurd (hI.1.2.1.mp e) hne
    | some r => exact ⟨r, rfl⟩
  have hm := hF.1
  refine mt_ofQ (by decide) (Nat.le_of_ble_eq_true rfl) (fun Q hQ => ?_)
  show MW K yiJ4_pollLastEntry d h 0 [some (.ref m), none, none] [] Q
  refine mw_wf (fun hwf => ?_)
  have l_hm := hwf _ _ hm
  refine m_aload_n (y := yiJ4_pollLastEntry) dJ4_pollLastEntry_0 rfl ?_
  refine m_invV (y := yiJ4_pollLastEntry) (rB := (RJ4, TJ4, 9)) [] dJ4_pollLastEntry_1 hm rfl q2581 q2582 q2583 q128 q2584 rfl (c_J4_getLastEntry hF hI hr0) pdJ4_getLastEntry ⟨Nat.le_of_ble_eq_true rfl, by decide, by omega⟩ (kk_r fun r1 h1 q1 => ?_) kx_r
  obtain ⟨rfl, haL, hmax⟩ := q1
  have hca := hF.2.1 r1 haL
  refine m_astore_n (y := yiJ4_pollLastEntry) dJ4_pollLastEntry_4 (by decide) rfl ?_
  show MW K yiJ4_pollLastEntry d h 5 [some (.ref m), some (.ref r1), none] [] Q
  refine m_aload_n (y := yiJ4_pollLastEntry) dJ4_pollLastEntry_5 rfl ?_
  refine m_invS (y := yiJ4_pollLastEntry) [(.ref r1)] dJ4_pollLastEntry_6 q2585 q2586 q128 q2587 (c_J4_exportEntry (d := 3) (by omega) hca hz) pdJ4_exportEntry ⟨Nat.le_of_ble_eq_true rfl, by decide, by omega⟩ (kk_r fun r6 h6 q6 => ?_) kx_r
  obtain ⟨rfl, q6⟩ := q6
  have y6 := q6.1
  have z6 := q6.2.1
  have hm : h6.2.2 m = some (true, .inr (17, [.null, .null, .null, (va_rf root), (vi sz), (vi mc), .null, .null, .null])) := ((fun b hb => q6.2.2.2 b hb) _ (by omega)).trans hm
  refine mw_wf (fun hwf6 => ?_)
  refine m_astore_n (y := yiJ4_pollLastEntry) dJ4_pollLastEntry_9 (by decide) rfl ?_
  show MW K yiJ4_pollLastEntry d h6 10 [some (.ref m), some (.ref r1), some (.ref h.1)] [] Q
  refine m_aload_n (y := yiJ4_pollLastEntry) dJ4_pollLastEntry_10 rfl ?_
  refine m_ifnull (y := yiJ4_pollLastEntry) (x := (some r1)) 19 dJ4_pollLastEntry_11 (by decide) (fun h9 => nomatch h9) (fun _ _ => ?_)
  have hF6 := hF.fr hwf (fun b hb => q6.2.2.2 b (by omega))
  refine m_aload_n (y := yiJ4_pollLastEntry) dJ4_pollLastEntry_14 rfl ?_
  refine m_aload_n (y := yiJ4_pollLastEntry) dJ4_pollLastEntry_15 rfl ?_
  refine m_invV (y := yiJ4_pollLastEntry) (rB := (RJ4, TJ4, 9)) [(.ref r1)] dJ4_pollLastEntry_16 hm rfl q1824 q1826 qs28 q128 q1827 rfl (c_J4_deleteEntry (d := 3) (p := r1) (by omega) hF6 hI haL hB) pdJ4_deleteEntry ⟨Nat.le_of_ble_eq_true rfl, by decide, by omega⟩ (kk_v fun h16 q16 => ?_) kx_v
  obtain q16 := q16
  refine mw_wf (fun hwf16 => ?_)
  refine m_aload_n (y := yiJ4_pollLastEntry) dJ4_pollLastEntry_19 rfl ?_
  subst hQ; exact m_aret (y := yiJ4_pollLastEntry) (x := (some h.1)) dJ4_pollLastEntry_20 rfl (Or.inl ⟨_, rfl⟩) ⟨h.1, rfl, ⟨rfl, r1, _, ⟨haL, hmax⟩, q6, q16⟩⟩
theorem c_J45_getKey {a kq : Nat} {v1 : Value} (ha : h.2.2 a = some (true, .inr (25, [.ref kq, v1]))) : Mt K yiJ45_getKey d [.ref a] h (Rr fun r h' => h = h' ∧ kq = r) := by
  refine mt_ofQ (by decide) (Nat.le_of_ble_eq_true rfl) (fun Q hQ => ?_)
  show MW K yiJ45_getKey d h 0 [some (.ref a)] [] Q
  refine mw_wf (fun hwf => ?_)
  have l_ha := hwf _ _ ha
  refine m_aload_n (y := yiJ45_getKey) dJ45_getKey_0 rfl ?_
  refine m_getfS (y := yiJ45_getKey) kc_25 0 (by decide) dJ45_getKey_1 q2624 ha rfl ?_
  subst hQ; exact m_aret (y := yiJ45_getKey) (x := (some kq)) dJ45_getKey_4 rfl (Or.inl ⟨_, rfl⟩) ⟨kq, rfl, ⟨rfl, rfl⟩⟩
theorem c_J43_pollLast (hd : 5 ≤ d) (H : TsA h t m L key) (hne : L ≠ []) (hz : h.1 + 1 ≤ kC K ∧ h.2.1 + 2 ≤ kS K) : Mt K yiJ43_pollLast d [.ref t] h (Rr fun r h' => ∃ k : Int, IgA h' r k ∧ ((∃ a, a ∈ L ∧ key a = k) ∧ ∀ a, a ∈ L → key a ≤ k) ∧ TsQ h h' t m L (fun v => v ≠ k ∧ ∃ a, a ∈ L ∧ key a = v) (L.length - 1)) := by
  obtain ⟨ko, vl, lf, rt, pa, co, lo, hi, root, mc, r1, r2, r3, r4, r5⟩ := H
  have hm := r2.1
  refine mt_ofQ (by decide) (Nat.le_of_ble_eq_true rfl) (fun Q hQ => ?_)
  show MW K yiJ43_pollLast d h 0 [some (.ref t), none] [] Q
  refine mw_wf (fun hwf => ?_)
  have l_r1 := hwf _ _ r1
  have l_hm := hwf _ _ hm
  refine m_aload_n (y := yiJ43_pollLast) dJ43_pollLast_0 rfl ?_
  refine m_getfS (y := yiJ43_pollLast) kc_19 0 (by decide) dJ43_pollLast_1 q2535 r1 rfl ?_
  refine m_invF (y := yiJ43_pollLast) (rB := (RJ4, TJ4, 9)) [] dJ43_pollLast_4 hm rfl q2573 q2575 q2574 rfl q2576 q2578 q2579 q2577 q2284 q128 q2580 ⟨by decide, by decide⟩ (by show _ = some 0; decide +kernel) (c_J4_pollLastEntry (d := 4) (by omega) r2 r4 r5 hne hz) pdJ4_pollLastEntry ⟨Nat.le_of_ble_eq_true rfl, by decide, by omega⟩ (kk_r fun r4 h4 q4 => ?_) kx_r
  obtain ⟨rfl, a, g, ⟨haL, hmax⟩, G, hT9, L', key', ko', vl', lf', rt', pa', co', lo', hi', root', F9, I9, B9, sub9, len9, to9, fr9⟩ := q4
  refine mw_wf (fun hwf4 => ?_)
  have hL : ∀ b, b ∈ L → b < h.1 := fun b hb => hwf _ _ (r2.2.1 b hb)
  have nb : ∀ {b ci : Nat} {w : Bool} {fs : List Value}, h.2.2 b = some (w, .inr (ci, fs)) → ci ≠ 18 → ci ≠ 17 → b < h.1 ∧ b ∉ L ∧ b ≠ m := fun hb h1 h2 => ⟨hwf _ _ hb, fun h9 => ne_oo hb (r2.2.1 _ h9) h1 rfl, fun h9 => ne_oo hb r2.1 h2 h9⟩
  have fr8 : ∀ b, (b < h.1 ∧ b ∉ L ∧ b ≠ m) → h4.2.2 b = h.2.2 b := fun b hb => (hT9.2.2 b hb.2).trans (G.2.2.2 b (by omega))
  have hcr : h4.2.2 h.1 = some (true, .inr (25, [.ref (ko a), va_rf (vl a)])) := (hT9.2.2 _ ⟨fun h9 => Nat.lt_irrefl _ (hL _ h9), fun h9 => by { have := hwf _ _ hm; omega }⟩).trans G.2.2.1
  refine m_astore_n (y := yiJ43_pollLast) dJ43_pollLast_9 (by decide) rfl ?_
  show MW K yiJ43_pollLast d h4 10 [some (.ref t), some (.ref h.1)] [] Q
  refine m_aload_n (y := yiJ43_pollLast) dJ43_pollLast_10 rfl ?_
  refine m_ifnonnull (y := yiJ43_pollLast) (x := (some h.1)) 18 dJ43_pollLast_11 (by decide) (fun _ _ => ?_) (fun h9 => nomatch h9)
  refine m_aload_n (y := yiJ43_pollLast) dJ43_pollLast_18 rfl ?_
  have hcr : h4.2.2 h.1 = some (true, .inr (25, [(.ref (ko a)), (va_rf (vl a))])) := hcr
  have l_hcr := hwf4 _ _ hcr
  refine m_invF (y := yiJ43_pollLast) (rB := (RJ45, TJ45, 2)) [] dJ43_pollLast_19 hcr rfl q2632 q2597 q2596 rfl q2599 q2601 q2602 q2600 q2598 q184 q2603 ⟨by decide, by decide⟩ (by show _ = some 0; decide +kernel) (c_J45_getKey (d := 0) hcr) pdJ45_getKey ⟨Nat.le_of_ble_eq_true rfl, by decide, by omega⟩ (kk_r fun r19 h19 q19 => ?_) kx_r
  obtain ⟨rfl, rfl⟩ := q19
  subst hQ; exact m_aret (y := yiJ43_pollLast) (x := (some (ko a))) dJ43_pollLast_24 rfl (Or.inl ⟨_, rfl⟩) ⟨(ko a), rfl, (by { obtain ⟨w, hw⟩ := r3 a haL; have y9 := G.1; have z9 := G.2.1; have y8 := hT9.1; have z8 := hT9.2.1; exact ⟨key a, ⟨w, (fr8 _ (nb hw (by decide) (by decide))).trans hw⟩, ⟨⟨a, haL, rfl⟩, hmax⟩, L', key', ⟨ko', vl', lf', rt', pa', co', lo', hi', root', mc + 1, (fr8 _ (nb r1 (by decide) (by decide))).trans r1, (by have e9 : ((L'.length : Nat) : Int) = (L.length : Int) - 1 := by omega; rw [e9]; exact F9), fun b hb => (by obtain ⟨c, c1, c2, c3, c4, c5⟩ := to9 b hb; obtain ⟨w2, hw2⟩ := r3 c c1; rw [c3, c5]; exact ⟨w2, (fr8 _ (nb hw2 (by decide) (by decide))).trans hw2⟩), I9, B9⟩, fun v => ⟨fun ⟨b, b1, b2⟩ => (by obtain ⟨c, c1, c2, c3, -, -⟩ := to9 b b1; exact ⟨fun e => c2 (r4.1.2.2.2.2.2.2.2.2.2.2 c a c1 haL (by omega)), c, c1, by omega⟩), fun ⟨e1, b, b1, b2⟩ => (by obtain ⟨c, c1, c2, -, -⟩ := fr9 b b1 (fun e => e1 (by rw [← b2, e])); exact ⟨c, c1, by omega⟩)⟩, by omega, fun b hb => Or.inl (sub9 b hb), ⟨by omega, by omega⟩, ⟨by omega, by omega⟩, fr8⟩ })⟩
end TSET
