/-! the sort: its own object and its stack of runs -/
theorem c_J35_pushRun (K : KT) (d : Nat) (h : MH) (o e t rb rl nb nl : Nat) (mg tb tl ss x n : Int) (fb fl : Int → Int) (ho : h.2.2 o = some (true, .inr (26, [.ref e, vi mg, .ref t, vi tb, vi tl, vi ss, .ref rb, .ref rl]))) (hrb : h.2.2 rb = some (true, ia K nb fb)) (hrl : h.2.2 rl = some (true, ia K nl fl)) (hbl : rb ≠ rl) (hs : (0 ≤ ss ∧ ss < (nb : Int) ∧ ss < (nl : Int)) ∧ nb ≤ 100 ∧ nl ≤ 100) : Mt K yiJ35_pushRun d [.ref o, vi x, vi n] h (Rv fun h' => (h.1 = h'.1 ∧ h.2.1 = h'.2.1) ∧ h'.2.2 o = some (true, .inr (26, [.ref e, vi mg, .ref t, vi tb, vi tl, vi (ss + 1), .ref rb, .ref rl])) ∧ h'.2.2 rb = some (true, ia K nb (upz fb ss x)) ∧ h'.2.2 rl = some (true, ia K nl (upz fl ss n)) ∧ ∀ q, q ≠ o ∧ q ≠ rb ∧ q ≠ rl → h'.2.2 q = h.2.2 q) := by
  have n1 : o ≠ rb := ne_oa ho hrb
  have n2 : o ≠ rl := ne_oa ho hrl
  refine mt_ofQ (by decide) (Nat.le_of_ble_eq_true rfl) (fun Q hQ => ?_)
  show MW K yiJ35_pushRun d h 0 [some (.ref o), some (vi x), some (vi n)] [] Q
  refine mw_wf (fun hwf => ?_)
  have l_ho := hwf _ _ ho
  have l_hrb := hwf _ _ hrb
  have l_hrl := hwf _ _ hrl
  have fR : ∀ b, (b ≠ o ∧ b ≠ rb ∧ b ≠ rl) → h.2.2 b = h.2.2 b := fun _ _ => rfl
  refine m_aload_n (y := yiJ35_pushRun) dJ35_pushRun_0 rfl ?_
  refine m_getfS (y := yiJ35_pushRun) kc_26 6 (by decide) dJ35_pushRun_1 q2018 ho rfl ?_
  refine m_aload_n (y := yiJ35_pushRun) dJ35_pushRun_4 rfl ?_
  refine m_getfS (y := yiJ35_pushRun) kc_26 5 (by decide) dJ35_pushRun_5 q2017 ho rfl ?_
  refine j_iload_n (y := yiJ35_pushRun) dJ35_pushRun_8 rfl ?_
  refine j_iast (y := yiJ35_pushRun) dJ35_pushRun_9 hrb (by omega) ⟨by omega, by omega⟩ (hp_put fun g1 g1H => ?_)
  have ho : g1.2.2 o = some (true, .inr (26, [(.ref e), (vi mg), (.ref t), (vi tb), (vi tl), (vi ss), (.ref rb), (.ref rl)])) := (g1H.2.2.2 _ (by omega)).trans ho
  have hrl : g1.2.2 rl = some (true, ia K nl fl) := (g1H.2.2.2 _ (by omega)).trans hrl
  have fR : ∀ b, (b ≠ o ∧ b ≠ rb ∧ b ≠ rl) → g1.2.2 b = h.2.2 b := fun b hb => (g1H.2.2.2 b (by omega)).trans (fR b hb)
  have hrb : g1.2.2 rb = some (true, ia K nb (upz fb ss x)) := g1H.2.2.1
  have g11 := g1H.1
  have g12 := g1H.2.1
  refine m_aload_n (y := yiJ35_pushRun) dJ35_pushRun_10 rfl ?_
  refine m_getfS (y := yiJ35_pushRun) kc_26 7 (by decide) dJ35_pushRun_11 q2019 ho rfl ?_
  refine m_aload_n (y := yiJ35_pushRun) dJ35_pushRun_14 rfl ?_
  refine m_getfS (y := yiJ35_pushRun) kc_26 5 (by decide) dJ35_pushRun_15 q2017 ho rfl ?_
  refine j_iload_n (y := yiJ35_pushRun) dJ35_pushRun_18 rfl ?_
  refine j_iast (y := yiJ35_pushRun) dJ35_pushRun_19 hrl (by omega) ⟨by omega, by omega⟩ (hp_put fun g2 g2H => ?_)
  have ho : g2.2.2 o = some (true, .inr (26, [(.ref e), (vi mg), (.ref t), (vi tb), (vi tl), (vi ss), (.ref rb), (.ref rl)])) := (g2H.2.2.2 _ (by omega)).trans ho
  have hrb : g2.2.2 rb = some (true, ia K nb (upz fb ss x)) := (g2H.2.2.2 _ (by omega)).trans hrb
  have fR : ∀ b, (b ≠ o ∧ b ≠ rb ∧ b ≠ rl) → g2.2.2 b = h.2.2 b := fun b hb => (g2H.2.2.2 b (by omega)).trans (fR b hb)
  have hrl : g2.2.2 rl = some (true, ia K nl (upz fl ss n)) := g2H.2.2.1
  have g21 := g2H.1
  have g22 := g2H.2.1
  refine m_aload_n (y := yiJ35_pushRun) dJ35_pushRun_20 rfl ?_
  refine m_dup (y := yiJ35_pushRun) dJ35_pushRun_21 rfl ?_
  refine m_getfS (y := yiJ35_pushRun) kc_26 5 (by decide) dJ35_pushRun_22 q2017 ho rfl ?_
  refine j_iconst (y := yiJ35_pushRun) dJ35_pushRun_25 ?_
  refine j_iadd (y := yiJ35_pushRun) dJ35_pushRun_26 ?_
  refine m_putfS (y := yiJ35_pushRun) kc_26 5 (by decide) dJ35_pushRun_27 q2017 rfl ho rfl rfl (hp_put fun g3 g3H => ?_)
  have hrb : g3.2.2 rb = some (true, ia K nb (upz fb ss x)) := (g3H.2.2.2 _ (by omega)).trans hrb
  have hrl : g3.2.2 rl = some (true, ia K nl (upz fl ss n)) := (g3H.2.2.2 _ (by omega)).trans hrl
  have fR : ∀ b, (b ≠ o ∧ b ≠ rb ∧ b ≠ rl) → g3.2.2 b = h.2.2 b := fun b hb => (g3H.2.2.2 b (by omega)).trans (fR b hb)
  have ho : g3.2.2 o = some (true, .inr (26, [(.ref e), (vi mg), (.ref t), (vi tb), (vi tl), (vi (ss + 1)), (.ref rb), (.ref rl)])) := g3H.2.2.1
  have g31 := g3H.1
  have g32 := g3H.2.1
  subst hQ; exact j_vret (y := yiJ35_pushRun) dJ35_pushRun_30 rfl (⟨⟨by omega, by omega⟩, ho, hrb, hrl, fR⟩)
theorem c_J35_init (K : KT) (d : Nat) (h : MH) (o e cap : Nat) (w : Bool) (f : Int → Option Nat) (hd : 1 ≤ d) (ho : h.2.2 o = some (true, .inr (26, [.null, vi 0, .null, vi 0, vi 0, vi 0, .null, .null]))) (he : h.2.2 e = some (w, oaE K cap f)) (hc : cap < 120) (hz : h.1 + 3 ≤ kC K ∧ h.2.1 + 80 ≤ kS K) : Mt K yiJ35_init d [.ref o, .ref e, .null, vi 0, vi 0] h (Rv fun h' => ∃ (tl t rb rl : Nat), (h'.1 = h.1 + 3 ∧ h.2.1 ≤ h'.2.1 ∧ h'.2.1 ≤ h.2.1 + 80) ∧ (h.1 ≤ t ∧ t < rb ∧ rb < rl) ∧ (tl : Int) = (cap : Int) / 2 ∧ h'.2.2 o = some (true, .inr (26, [.ref e, vi 7, .ref t, vi 0, vi (tl : Int), vi 0, .ref rb, .ref rl])) ∧ h'.2.2 t = some (true, oaE K tl (fun _ => none)) ∧ h'.2.2 rb = some (true, ia K 5 (fun _ => 0)) ∧ h'.2.2 rl = some (true, ia K 5 (fun _ => 0)) ∧ ∀ q, q < h.1 ∧ q ≠ o → h'.2.2 q = h.2.2 q) := by
  have n1 : o ≠ e := ne_oa ho he
  refine mt_ofQ (by decide) (Nat.le_of_ble_eq_true rfl) (fun Q hQ => ?_)
  show MW K yiJ35_init d h 0 [some (.ref o), some (.ref e), some .null, some (vi 0), some (vi 0), none, none, none] [] Q
  refine mw_wf (fun hwf => ?_)
  have l_ho := hwf _ _ ho
  have l_he := hwf _ _ he
  have fR : ∀ b, (b < h.1 ∧ b ≠ o) → h.2.2 b = h.2.2 b := fun _ _ => rfl
  refine m_aload_n (y := yiJ35_init) dJ35_init_0 rfl ?_
  refine m_objInit (y := yiJ35_init) dJ35_init_1 q2009 q195 q196 ⟨Nat.le_of_ble_eq_true rfl, by omega⟩ ?_
  refine m_aload_n (y := yiJ35_init) dJ35_init_4 rfl ?_
  refine j_bipush (y := yiJ35_init) dJ35_init_5 (by decide) ?_
  refine m_putfS (y := yiJ35_init) kc_26 1 (by decide) dJ35_init_7 q2013 rfl ho rfl rfl (hp_put fun g1 g1H => ?_)
  have he : g1.2.2 e = some (w, oaE K cap f) := (g1H.2.2.2 _ (by omega)).trans he
  have fR : ∀ b, (b < h.1 ∧ b ≠ o) → g1.2.2 b = h.2.2 b := fun b hb => (g1H.2.2.2 b (by omega)).trans (fR b hb)
  have ho : g1.2.2 o = some (true, .inr (26, [.null, (vi 7), .null, (vi 0), (vi 0), (vi 0), .null, .null])) := g1H.2.2.1
  have g11 := g1H.1
  have g12 := g1H.2.1
  refine m_aload_n (y := yiJ35_init) dJ35_init_10 rfl ?_
  refine j_iconst (y := yiJ35_init) dJ35_init_11 ?_
  refine m_putfS (y := yiJ35_init) kc_26 5 (by decide) dJ35_init_12 q2017 rfl ho rfl rfl (hp_put fun g2 g2H => ?_)
  have he : g2.2.2 e = some (w, oaE K cap f) := (g2H.2.2.2 _ (by omega)).trans he
  have fR : ∀ b, (b < h.1 ∧ b ≠ o) → g2.2.2 b = h.2.2 b := fun b hb => (g2H.2.2.2 b (by omega)).trans (fR b hb)
  have ho : g2.2.2 o = some (true, .inr (26, [.null, (vi 7), .null, (vi 0), (vi 0), (vi 0), .null, .null])) := g2H.2.2.1
  have g21 := g2H.1
  have g22 := g2H.2.1
  refine m_aload_n (y := yiJ35_init) dJ35_init_15 rfl ?_
  refine m_aload_n (y := yiJ35_init) dJ35_init_16 rfl ?_
  refine m_putfF (y := yiJ35_init) kc_26 0 (by decide) dJ35_init_17 q2012 rfl rfl rfl ho rfl rfl (hp_put fun g3 g3H => ?_)
  have he : g3.2.2 e = some (w, oaE K cap f) := (g3H.2.2.2 _ (by omega)).trans he
  have fR : ∀ b, (b < h.1 ∧ b ≠ o) → g3.2.2 b = h.2.2 b := fun b hb => (g3H.2.2.2 b (by omega)).trans (fR b hb)
  have ho : g3.2.2 o = some (true, .inr (26, [(.ref e), (vi 7), .null, (vi 0), (vi 0), (vi 0), .null, .null])) := g3H.2.2.1
  have g31 := g3H.1
  have g32 := g3H.2.1
  refine m_aload_n (y := yiJ35_init) dJ35_init_20 rfl ?_
  refine h_alen (y := yiJ35_init) 5 (by decide) dJ35_init_21 he ?_
  refine j_istore (y := yiJ35_init) [some (.ref o), some (.ref e), some .null, some (vi 0), some (vi 0), some (vi ((cap : Nat) : Int)), none, none] dJ35_init_22 (by decide) rfl rfl ?_
  refine j_iload (y := yiJ35_init) dJ35_init_24 rfl ?_
  refine j_sipush (y := yiJ35_init) dJ35_init_26 (by decide) ?_
  refine j_icmp_ge (y := yiJ35_init) 39 dJ35_init_29 (by decide) ⟨⟨by omega, by omega⟩, ⟨by omega, by omega⟩⟩ (fun c29 => False.elim (by omega)) (fun c29 => ?_)
  refine j_iload (y := yiJ35_init) dJ35_init_32 rfl ?_
  refine j_iconst (y := yiJ35_init) dJ35_init_34 ?_
  refine j_iushr1 (y := yiJ35_init) dJ35_init_35 ⟨by omega, by omega⟩ ?_
  refine m_goto (y := yiJ35_init) 42 dJ35_init_36 (by decide) ?_
  refine j_istore (y := yiJ35_init) [some (.ref o), some (.ref e), some .null, some (vi 0), some (vi 0), some (vi ((cap : Nat) : Int)), some (vi (((cap : Nat) : Int) / 2)), none] dJ35_init_42 (by decide) rfl rfl ?_
  refine m_aload_nN (y := yiJ35_init) dJ35_init_44 rfl ?_
  refine m_ifnull (y := yiJ35_init) (x := none) 64 dJ35_init_45 (by decide) (fun _ => ?_) (fun _ h9 => nomatch h9)
  refine m_aload_n (y := yiJ35_init) dJ35_init_64 rfl ?_
  refine j_iload (y := yiJ35_init) dJ35_init_65 rfl ?_
  refine h_anewO (y := yiJ35_init) dJ35_init_67 q2010 ⟨by omega, by omega⟩ ⟨by omega, by omega⟩ (hp_new fun g4 g4H => ?_)
  have ho : g4.2.2 o = some (true, .inr (26, [(.ref e), (vi 7), .null, (vi 0), (vi 0), (vi 0), .null, .null])) := (g4H.2.2.2 _ (by omega)).trans ho
  have he : g4.2.2 e = some (w, oaE K cap f) := (g4H.2.2.2 _ (by omega)).trans he
  have fR : ∀ b, (b < h.1 ∧ b ≠ o) → g4.2.2 b = h.2.2 b := fun b hb => (g4H.2.2.2 b (by omega)).trans (fR b hb)
  have fg4 : g4.2.2 g3.1 = some (true, oaE K (((((cap : Nat) : Int) / 2) : Int).toNat) (fun _ => none)) := g4H.2.2.1
  have g41 := g4H.1
  have g42 := g4H.2.1
  refine m_putfS (y := yiJ35_init) kc_26 2 (by decide) dJ35_init_70 q2014 rfl ho rfl rfl (hp_put fun g5 g5H => ?_)
  have he : g5.2.2 e = some (w, oaE K cap f) := (g5H.2.2.2 _ (by omega)).trans he
  have fg4 : g5.2.2 g3.1 = some (true, oaE K (((((cap : Nat) : Int) / 2) : Int).toNat) (fun _ => none)) := (g5H.2.2.2 _ (by omega)).trans fg4
  have fR : ∀ b, (b < h.1 ∧ b ≠ o) → g5.2.2 b = h.2.2 b := fun b hb => (g5H.2.2.2 b (by omega)).trans (fR b hb)
  have ho : g5.2.2 o = some (true, .inr (26, [(.ref e), (vi 7), (.ref g3.1), (vi 0), (vi 0), (vi 0), .null, .null])) := g5H.2.2.1
  have g51 := g5H.1
  have g52 := g5H.2.1
  refine m_aload_n (y := yiJ35_init) dJ35_init_73 rfl ?_
  refine j_iconst (y := yiJ35_init) dJ35_init_74 ?_
  refine m_putfS (y := yiJ35_init) kc_26 3 (by decide) dJ35_init_75 q2015 rfl ho rfl rfl (hp_put fun g6 g6H => ?_)
  have he : g6.2.2 e = some (w, oaE K cap f) := (g6H.2.2.2 _ (by omega)).trans he
  have fg4 : g6.2.2 g3.1 = some (true, oaE K (((((cap : Nat) : Int) / 2) : Int).toNat) (fun _ => none)) := (g6H.2.2.2 _ (by omega)).trans fg4
  have fR : ∀ b, (b < h.1 ∧ b ≠ o) → g6.2.2 b = h.2.2 b := fun b hb => (g6H.2.2.2 b (by omega)).trans (fR b hb)
  have ho : g6.2.2 o = some (true, .inr (26, [(.ref e), (vi 7), (.ref g3.1), (vi 0), (vi 0), (vi 0), .null, .null])) := g6H.2.2.1
  have g61 := g6H.1
  have g62 := g6H.2.1
  refine m_aload_n (y := yiJ35_init) dJ35_init_78 rfl ?_
  refine j_iload (y := yiJ35_init) dJ35_init_79 rfl ?_
  refine m_putfS (y := yiJ35_init) kc_26 4 (by decide) dJ35_init_81 q2016 rfl ho rfl rfl (hp_put fun g7 g7H => ?_)
  have he : g7.2.2 e = some (w, oaE K cap f) := (g7H.2.2.2 _ (by omega)).trans he
  have fg4 : g7.2.2 g3.1 = some (true, oaE K (((((cap : Nat) : Int) / 2) : Int).toNat) (fun _ => none)) := (g7H.2.2.2 _ (by omega)).trans fg4
  have fR : ∀ b, (b < h.1 ∧ b ≠ o) → g7.2.2 b = h.2.2 b := fun b hb => (g7H.2.2.2 b (by omega)).trans (fR b hb)
  have ho : g7.2.2 o = some (true, .inr (26, [(.ref e), (vi 7), (.ref g3.1), (vi 0), (vi (((cap : Nat) : Int) / 2)), (vi 0), .null, .null])) := g7H.2.2.1
  have g71 := g7H.1
  have g72 := g7H.2.1
  refine m_goto (y := yiJ35_init) 103 dJ35_init_84 (by decide) ?_
  refine j_iload (y := yiJ35_init) dJ35_init_103 rfl ?_
  refine j_bipush (y := yiJ35_init) dJ35_init_105 (by decide) ?_
  refine j_icmp_ge (y := yiJ35_init) 114 dJ35_init_107 (by decide) ⟨⟨by omega, by omega⟩, ⟨by omega, by omega⟩⟩ (fun c107 => False.elim (by omega)) (fun c107 => ?_)
  refine j_iconst (y := yiJ35_init) dJ35_init_110 ?_
  refine m_goto (y := yiJ35_init) 141 dJ35_init_111 (by decide) ?_
  refine j_istore (y := yiJ35_init) [some (.ref o), some (.ref e), some .null, some (vi 0), some (vi 0), some (vi ((cap : Nat) : Int)), some (vi (((cap : Nat) : Int) / 2)), some (vi 5)] dJ35_init_141 (by decide) rfl rfl ?_
  refine m_aload_n (y := yiJ35_init) dJ35_init_143 rfl ?_
  refine j_iload (y := yiJ35_init) dJ35_init_144 rfl ?_
  refine h_newa0 (y := yiJ35_init) dJ35_init_146 q229 ⟨by omega, by omega⟩ ⟨by omega, by omega⟩ (hp_new fun g8 g8H => ?_)
  have ho : g8.2.2 o = some (true, .inr (26, [(.ref e), (vi 7), (.ref g3.1), (vi 0), (vi (((cap : Nat) : Int) / 2)), (vi 0), .null, .null])) := (g8H.2.2.2 _ (by omega)).trans ho
  have he : g8.2.2 e = some (w, oaE K cap f) := (g8H.2.2.2 _ (by omega)).trans he
  have fg4 : g8.2.2 g3.1 = some (true, oaE K (((((cap : Nat) : Int) / 2) : Int).toNat) (fun _ => none)) := (g8H.2.2.2 _ (by omega)).trans fg4
  have fR : ∀ b, (b < h.1 ∧ b ≠ o) → g8.2.2 b = h.2.2 b := fun b hb => (g8H.2.2.2 b (by omega)).trans (fR b hb)
  have fg8 : g8.2.2 g7.1 = some (true, ia K ((5 : Int).toNat) (fun _ => 0)) := g8H.2.2.1
  have g81 := g8H.1
  have g82 := g8H.2.1
  refine m_putfF (y := yiJ35_init) kc_26 6 (by decide) dJ35_init_148 q2018 rfl rfl rfl ho rfl rfl (hp_put fun g9 g9H => ?_)
  have he : g9.2.2 e = some (w, oaE K cap f) := (g9H.2.2.2 _ (by omega)).trans he
  have fg4 : g9.2.2 g3.1 = some (true, oaE K (((((cap : Nat) : Int) / 2) : Int).toNat) (fun _ => none)) := (g9H.2.2.2 _ (by omega)).trans fg4
  have fg8 : g9.2.2 g7.1 = some (true, ia K ((5 : Int).toNat) (fun _ => 0)) := (g9H.2.2.2 _ (by omega)).trans fg8
  have fR : ∀ b, (b < h.1 ∧ b ≠ o) → g9.2.2 b = h.2.2 b := fun b hb => (g9H.2.2.2 b (by omega)).trans (fR b hb)
  have ho : g9.2.2 o = some (true, .inr (26, [(.ref e), (vi 7), (.ref g3.1), (vi 0), (vi (((cap : Nat) : Int) / 2)), (vi 0), (.ref g7.1), .null])) := g9H.2.2.1
  have g91 := g9H.1
  have g92 := g9H.2.1
  refine m_aload_n (y := yiJ35_init) dJ35_init_151 rfl ?_
  refine j_iload (y := yiJ35_init) dJ35_init_152 rfl ?_
  refine h_newa0 (y := yiJ35_init) dJ35_init_154 q229 ⟨by omega, by omega⟩ ⟨by omega, by omega⟩ (hp_new fun g10 g10H => ?_)
  have ho : g10.2.2 o = some (true, .inr (26, [(.ref e), (vi 7), (.ref g3.1), (vi 0), (vi (((cap : Nat) : Int) / 2)), (vi 0), (.ref g7.1), .null])) := (g10H.2.2.2 _ (by omega)).trans ho
  have he : g10.2.2 e = some (w, oaE K cap f) := (g10H.2.2.2 _ (by omega)).trans he
  have fg4 : g10.2.2 g3.1 = some (true, oaE K (((((cap : Nat) : Int) / 2) : Int).toNat) (fun _ => none)) := (g10H.2.2.2 _ (by omega)).trans fg4
  have fg8 : g10.2.2 g7.1 = some (true, ia K ((5 : Int).toNat) (fun _ => 0)) := (g10H.2.2.2 _ (by omega)).trans fg8
  have fR : ∀ b, (b < h.1 ∧ b ≠ o) → g10.2.2 b = h.2.2 b := fun b hb => (g10H.2.2.2 b (by omega)).trans (fR b hb)
  have fg10 : g10.2.2 g9.1 = some (true, ia K ((5 : Int).toNat) (fun _ => 0)) := g10H.2.2.1
  have g101 := g10H.1
  have g102 := g10H.2.1
  refine m_putfF (y := yiJ35_init) kc_26 7 (by decide) dJ35_init_156 q2019 rfl rfl rfl ho rfl rfl (hp_put fun g11 g11H => ?_)
  have he : g11.2.2 e = some (w, oaE K cap f) := (g11H.2.2.2 _ (by omega)).trans he
  have fg4 : g11.2.2 g3.1 = some (true, oaE K (((((cap : Nat) : Int) / 2) : Int).toNat) (fun _ => none)) := (g11H.2.2.2 _ (by omega)).trans fg4
  have fg8 : g11.2.2 g7.1 = some (true, ia K ((5 : Int).toNat) (fun _ => 0)) := (g11H.2.2.2 _ (by omega)).trans fg8
  have fg10 : g11.2.2 g9.1 = some (true, ia K ((5 : Int).toNat) (fun _ => 0)) := (g11H.2.2.2 _ (by omega)).trans fg10
  have fR : ∀ b, (b < h.1 ∧ b ≠ o) → g11.2.2 b = h.2.2 b := fun b hb => (g11H.2.2.2 b (by omega)).trans (fR b hb)
  have ho : g11.2.2 o = some (true, .inr (26, [(.ref e), (vi 7), (.ref g3.1), (vi 0), (vi (((cap : Nat) : Int) / 2)), (vi 0), (.ref g7.1), (.ref g9.1)])) := g11H.2.2.1
  have g111 := g11H.1
  have g112 := g11H.2.1
  subst hQ; exact j_vret (y := yiJ35_init) dJ35_init_159 rfl (⟨((cap : Int) / 2).toNat, _, _, _, ⟨by omega, by omega, by omega⟩, ⟨by omega, by omega, by omega⟩, by omega, (by { rw [show ((((cap : Int) / 2).toNat : Nat) : Int) = (cap : Int) / 2 by omega]; exact ho }), fg4, fg8, fg10, fR⟩)
