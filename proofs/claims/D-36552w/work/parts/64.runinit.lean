/-! Lastbus.Run's constructor; Labels.copy -/
/-- the arrivals and departures of a run: late from call lc on by lm -/
def rnA (fa : Int → Int) (sh lc lm : Int) : Int → Int := fun c => fa c + 1440 * sh + (if lc < c then lm else 0)
def rnD (fd : Int → Int) (sh lc lm : Int) : Int → Int := fun c => fd c + 1440 * sh + (if lc ≤ c then lm else 0)
def rsq (q lo : Nat) (h : MH) : MH := (0, 0, fun b => if b = q ∨ lo ≤ b then h.2.2 b else none)
theorem rsq_at {q lo : Nat} {h : MH} {b : Nat} {c : Bool × va_E} (e : (rsq q lo h).2.2 b = some c) : h.2.2 b = some c ∧ (b = q ∨ lo ≤ b) := by
  unfold rsq at e
  dsimp only at e
  by_cases hb : b = q ∨ lo ≤ b
  · rw [if_pos hb] at e; exact ⟨e, hb⟩
  · rw [if_neg hb] at e; cases e
theorem rsq_mk {q lo : Nat} {h : MH} {b : Nat} {c : Bool × va_E} (e : h.2.2 b = some c) (h1 : b = q ∨ lo ≤ b) : (rsq q lo h).2.2 b = some c := by
  unfold rsq
  dsimp only
  rw [if_pos h1]; exact e
def RniQ (K : KT) (h h' : MH) (num tr sh n lc lm : Int) (fs fa fd : Int → Int) (q : Nat) : Prop := (∃ f1 f2 f3, RunC K (rsq q h.1 h') num tr sh n.toNat f1 f2 f3 q ∧ ∀ c, 0 ≤ c → c < n → f1 c = fs c ∧ f2 c = rnA fa sh lc lm c ∧ f3 c = rnD fd sh lc lm c) ∧ h'.1 = h.1 + 3 ∧ h'.2.1 = h.2.1 + 3 * n.toNat ∧ ∀ b, (b < h.1 ∧ b ≠ q) → h'.2.2 b = h.2.2 b
theorem rn_s {fs fa fd f1 f2 f3 : Int → Int} {sh lc lm k s va vd : Int} (hk : 0 ≤ k) (h : ∀ c, 0 ≤ c → c < k → f1 c = fs c ∧ f2 c = rnA fa sh lc lm c ∧ f3 c = rnD fd sh lc lm c) (h1 : s = fs k) (h2 : va = (if lc < k then lm else 0)) (h3 : vd = (if lc ≤ k then lm else 0)) : ∀ c, 0 ≤ c → c < k + 1 → upz f1 k s c = fs c ∧ upz f2 k (fa k + 1440 * sh + va) c = rnA fa sh lc lm c ∧ upz f3 k (fd k + 1440 * sh + vd) c = rnD fd sh lc lm c := by
  intro c c0 c1
  unfold upz
  by_cases e : c = k
  · rw [if_pos e, if_pos e, if_pos e, e, h1, h2, h3]; exact ⟨rfl, rfl, rfl⟩
  · rw [if_neg e, if_neg e, if_neg e]; exact h c c0 (by omega)
theorem cpq_0 {f g : Int → Int} {i n : Int} (h0 : 0 ≤ i) (h1 : i < n) : cpq f g 0 0 n i = f i := by
  unfold cpq; rw [if_pos (by omega)]; congr 1; omega
theorem c_X8_initN (K : KT) (d : Nat) (h : MH) (e0 : Nat) (q own : Nat) (num tr sh sv n lc lm : Int) (fs fa fd : Int → Int) (hd : 3 ≤ d) (hq : h.2.2 q = some (true, .inr (7, [vi 0, vi 0, vi 0, .null, .null, .null]))) (hT : TrpA K h e0 sv n fs fa fd own) (hlm : lm = 0) (hn : 1 ≤ n ∧ n ≤ 8) (hl : (-10 ≤ lc ∧ lc ≤ 100) ∧ 0 ≤ lm ∧ lm ≤ 200) (hz : h.1 + 3 ≤ kC K ∧ h.2.1 + 24 ≤ kS K) : Mt K yiX8_init d [.ref q, vi num, vi tr, vi sh, .ref own, .null] h (Rv fun h' => RniQ K h h' num tr sh n lc lm fs fa fd q) := by
  obtain ⟨l, e, p, ho, ⟨w, cap, mc, f, hlo, hle, hae, h0, hw, hcap, hf, hno⟩, hp⟩ := hT
  refine mt_ofQ (by decide) (Nat.le_of_ble_eq_true rfl) (fun Q hQ => ?_)
  show MW K yiX8_init d h 0 [some (.ref q), some (vi num), some (vi tr), some (vi sh), some (.ref own), some .null, none, none, none, none, none] [] Q
  refine mw_wf (fun hwf => ?_)
  have l_hq := hwf _ _ hq
  have l_ho := hwf _ _ ho
  have l_hlo := hwf _ _ hlo
  have l_hle := hwf _ _ hle
  have fR : ∀ b, (b < h.1 ∧ b ≠ q) → h.2.2 b = h.2.2 b := fun _ _ => rfl
  have hqp : ∀ c, 0 ≤ c → c < n → p c < h.1 ∧ p c ≠ q := fun c a b => ⟨hwf _ _ (hp c a b), ne_oo (hp c a b) hq (by decide)⟩
  have : q ≠ own := ne_oo hq ho (by decide)
  have : q ≠ l := ne_oo hq hlo (by decide)
  have : q ≠ e := ne_oa hq hle
  refine m_aload_n (y := yiX8_init) dX8_init_0 rfl ?_
  refine m_objInit (y := yiX8_init) dX8_init_1 q1886 q195 q196 ⟨Nat.le_of_ble_eq_true rfl, by omega⟩ ?_
  refine m_aload_n (y := yiX8_init) dX8_init_4 rfl ?_
  refine j_iload_n (y := yiX8_init) dX8_init_5 rfl ?_
  refine m_putfF (y := yiX8_init) kc_7 0 (by decide) dX8_init_6 q1895 rfl rfl rfl hq rfl rfl (hp_put fun g1 g1H => ?_)
  have ho : g1.2.2 own = some (true, .inr (2, [(vi sv), (.ref l)])) := (g1H.2.2.2 _ (by omega)).trans ho
  have hlo : g1.2.2 l = some (true, .inr (14, [(vi mc), (.ref e), (vi n)])) := (g1H.2.2.2 _ (by omega)).trans hlo
  have hle : g1.2.2 e = some (w, oaE K cap f) := (g1H.2.2.2 _ (by omega)).trans hle
  have fR : ∀ b, (b < h.1 ∧ b ≠ q) → g1.2.2 b = h.2.2 b := fun b hb => (g1H.2.2.2 b (by omega)).trans (fR b hb)
  have hq : g1.2.2 q = some (true, .inr (7, [(vi num), (vi 0), (vi 0), .null, .null, .null])) := g1H.2.2.1
  have g11 := g1H.1
  have g12 := g1H.2.1
  refine m_aload_n (y := yiX8_init) dX8_init_9 rfl ?_
  refine j_iload_n (y := yiX8_init) dX8_init_10 rfl ?_
  refine m_putfF (y := yiX8_init) kc_7 1 (by decide) dX8_init_11 q1899 rfl rfl rfl hq rfl rfl (hp_put fun g2 g2H => ?_)
  have ho : g2.2.2 own = some (true, .inr (2, [(vi sv), (.ref l)])) := (g2H.2.2.2 _ (by omega)).trans ho
  have hlo : g2.2.2 l = some (true, .inr (14, [(vi mc), (.ref e), (vi n)])) := (g2H.2.2.2 _ (by omega)).trans hlo
  have hle : g2.2.2 e = some (w, oaE K cap f) := (g2H.2.2.2 _ (by omega)).trans hle
  have fR : ∀ b, (b < h.1 ∧ b ≠ q) → g2.2.2 b = h.2.2 b := fun b hb => (g2H.2.2.2 b (by omega)).trans (fR b hb)
  have hq : g2.2.2 q = some (true, .inr (7, [(vi num), (vi tr), (vi 0), .null, .null, .null])) := g2H.2.2.1
  have g21 := g2H.1
  have g22 := g2H.2.1
  refine m_aload_n (y := yiX8_init) dX8_init_14 rfl ?_
  refine j_iload_n (y := yiX8_init) dX8_init_15 rfl ?_
  refine m_putfF (y := yiX8_init) kc_7 2 (by decide) dX8_init_16 q1901 rfl rfl rfl hq rfl rfl (hp_put fun g3 g3H => ?_)
  have ho : g3.2.2 own = some (true, .inr (2, [(vi sv), (.ref l)])) := (g3H.2.2.2 _ (by omega)).trans ho
  have hlo : g3.2.2 l = some (true, .inr (14, [(vi mc), (.ref e), (vi n)])) := (g3H.2.2.2 _ (by omega)).trans hlo
  have hle : g3.2.2 e = some (w, oaE K cap f) := (g3H.2.2.2 _ (by omega)).trans hle
  have fR : ∀ b, (b < h.1 ∧ b ≠ q) → g3.2.2 b = h.2.2 b := fun b hb => (g3H.2.2.2 b (by omega)).trans (fR b hb)
  have hq : g3.2.2 q = some (true, .inr (7, [(vi num), (vi tr), (vi sh), .null, .null, .null])) := g3H.2.2.1
  have g31 := g3H.1
  have g32 := g3H.2.1
  refine m_aload (y := yiX8_init) dX8_init_19 rfl ?_
  refine m_getfN (y := yiX8_init) kc_2 1 (by decide) dX8_init_21 q1145 ho rfl ?_
  refine m_invV (y := yiX8_init) (rB := (RJ2, TJ2, 3)) [] dX8_init_24 hlo rfl q1887 q334 q335 q126 q336 rfl (c_J2_size K 0 g3 _ _ _ _ hlo) pdJ2_size ⟨Nat.le_of_ble_eq_true rfl, by decide, by omega⟩ (kk_z fun r24 h24 q24 => ?_) kx_z
  obtain ⟨rfl, rfl⟩ := q24
  refine mw_top (x' := n) rfl ?_
  refine j_istore (y := yiX8_init) [some (.ref q), some (vi num), some (vi tr), some (vi sh), some (.ref own), some .null, some (vi n), none, none, none, none] dX8_init_27 (by decide) rfl rfl ?_
  refine m_aload_n (y := yiX8_init) dX8_init_29 rfl ?_
  refine j_iload (y := yiX8_init) dX8_init_30 rfl ?_
  refine h_newa0 (y := yiX8_init) dX8_init_32 q229 ⟨by omega, by omega⟩ ⟨by omega, by omega⟩ (hp_new fun g4 g4H => ?_)
  have hq : g4.2.2 q = some (true, .inr (7, [(vi num), (vi tr), (vi sh), .null, .null, .null])) := (g4H.2.2.2 _ (by omega)).trans hq
  have ho : g4.2.2 own = some (true, .inr (2, [(vi sv), (.ref l)])) := (g4H.2.2.2 _ (by omega)).trans ho
  have hlo : g4.2.2 l = some (true, .inr (14, [(vi mc), (.ref e), (vi n)])) := (g4H.2.2.2 _ (by omega)).trans hlo
  have hle : g4.2.2 e = some (w, oaE K cap f) := (g4H.2.2.2 _ (by omega)).trans hle
  have fR : ∀ b, (b < h.1 ∧ b ≠ q) → g4.2.2 b = h.2.2 b := fun b hb => (g4H.2.2.2 b (by omega)).trans (fR b hb)
  have fg4 : g4.2.2 g3.1 = some (true, ia K ((n : Int).toNat) (fun _ => 0)) := g4H.2.2.1
  have g41 := g4H.1
  have g42 := g4H.2.1
  refine m_putfF (y := yiX8_init) kc_7 3 (by decide) dX8_init_34 q1903 rfl rfl rfl hq rfl rfl (hp_put fun g5 g5H => ?_)
  have ho : g5.2.2 own = some (true, .inr (2, [(vi sv), (.ref l)])) := (g5H.2.2.2 _ (by omega)).trans ho
  have hlo : g5.2.2 l = some (true, .inr (14, [(vi mc), (.ref e), (vi n)])) := (g5H.2.2.2 _ (by omega)).trans hlo
  have hle : g5.2.2 e = some (w, oaE K cap f) := (g5H.2.2.2 _ (by omega)).trans hle
  have fg4 : g5.2.2 g3.1 = some (true, ia K ((n : Int).toNat) (fun _ => 0)) := (g5H.2.2.2 _ (by omega)).trans fg4
  have fR : ∀ b, (b < h.1 ∧ b ≠ q) → g5.2.2 b = h.2.2 b := fun b hb => (g5H.2.2.2 b (by omega)).trans (fR b hb)
  have hq : g5.2.2 q = some (true, .inr (7, [(vi num), (vi tr), (vi sh), (.ref g3.1), .null, .null])) := g5H.2.2.1
  have g51 := g5H.1
  have g52 := g5H.2.1
  refine m_aload_n (y := yiX8_init) dX8_init_37 rfl ?_
  refine j_iload (y := yiX8_init) dX8_init_38 rfl ?_
  refine h_newa0 (y := yiX8_init) dX8_init_40 q229 ⟨by omega, by omega⟩ ⟨by omega, by omega⟩ (hp_new fun g6 g6H => ?_)
  have hq : g6.2.2 q = some (true, .inr (7, [(vi num), (vi tr), (vi sh), (.ref g3.1), .null, .null])) := (g6H.2.2.2 _ (by omega)).trans hq
  have ho : g6.2.2 own = some (true, .inr (2, [(vi sv), (.ref l)])) := (g6H.2.2.2 _ (by omega)).trans ho
  have hlo : g6.2.2 l = some (true, .inr (14, [(vi mc), (.ref e), (vi n)])) := (g6H.2.2.2 _ (by omega)).trans hlo
  have hle : g6.2.2 e = some (w, oaE K cap f) := (g6H.2.2.2 _ (by omega)).trans hle
  have fg4 : g6.2.2 g3.1 = some (true, ia K ((n : Int).toNat) (fun _ => 0)) := (g6H.2.2.2 _ (by omega)).trans fg4
  have fR : ∀ b, (b < h.1 ∧ b ≠ q) → g6.2.2 b = h.2.2 b := fun b hb => (g6H.2.2.2 b (by omega)).trans (fR b hb)
  have fg6 : g6.2.2 g5.1 = some (true, ia K ((n : Int).toNat) (fun _ => 0)) := g6H.2.2.1
  have g61 := g6H.1
  have g62 := g6H.2.1
  refine m_putfF (y := yiX8_init) kc_7 4 (by decide) dX8_init_42 q1907 rfl rfl rfl hq rfl rfl (hp_put fun g7 g7H => ?_)
  have ho : g7.2.2 own = some (true, .inr (2, [(vi sv), (.ref l)])) := (g7H.2.2.2 _ (by omega)).trans ho
  have hlo : g7.2.2 l = some (true, .inr (14, [(vi mc), (.ref e), (vi n)])) := (g7H.2.2.2 _ (by omega)).trans hlo
  have hle : g7.2.2 e = some (w, oaE K cap f) := (g7H.2.2.2 _ (by omega)).trans hle
  have fg4 : g7.2.2 g3.1 = some (true, ia K ((n : Int).toNat) (fun _ => 0)) := (g7H.2.2.2 _ (by omega)).trans fg4
  have fg6 : g7.2.2 g5.1 = some (true, ia K ((n : Int).toNat) (fun _ => 0)) := (g7H.2.2.2 _ (by omega)).trans fg6
  have fR : ∀ b, (b < h.1 ∧ b ≠ q) → g7.2.2 b = h.2.2 b := fun b hb => (g7H.2.2.2 b (by omega)).trans (fR b hb)
  have hq : g7.2.2 q = some (true, .inr (7, [(vi num), (vi tr), (vi sh), (.ref g3.1), (.ref g5.1), .null])) := g7H.2.2.1
  have g71 := g7H.1
  have g72 := g7H.2.1
  refine m_aload_n (y := yiX8_init) dX8_init_45 rfl ?_
  refine j_iload (y := yiX8_init) dX8_init_46 rfl ?_
  refine h_newa0 (y := yiX8_init) dX8_init_48 q229 ⟨by omega, by omega⟩ ⟨by omega, by omega⟩ (hp_new fun g8 g8H => ?_)
  have hq : g8.2.2 q = some (true, .inr (7, [(vi num), (vi tr), (vi sh), (.ref g3.1), (.ref g5.1), .null])) := (g8H.2.2.2 _ (by omega)).trans hq
  have ho : g8.2.2 own = some (true, .inr (2, [(vi sv), (.ref l)])) := (g8H.2.2.2 _ (by omega)).trans ho
  have hlo : g8.2.2 l = some (true, .inr (14, [(vi mc), (.ref e), (vi n)])) := (g8H.2.2.2 _ (by omega)).trans hlo
  have hle : g8.2.2 e = some (w, oaE K cap f) := (g8H.2.2.2 _ (by omega)).trans hle
  have fg4 : g8.2.2 g3.1 = some (true, ia K ((n : Int).toNat) (fun _ => 0)) := (g8H.2.2.2 _ (by omega)).trans fg4
  have fg6 : g8.2.2 g5.1 = some (true, ia K ((n : Int).toNat) (fun _ => 0)) := (g8H.2.2.2 _ (by omega)).trans fg6
  have fR : ∀ b, (b < h.1 ∧ b ≠ q) → g8.2.2 b = h.2.2 b := fun b hb => (g8H.2.2.2 b (by omega)).trans (fR b hb)
  have fg8 : g8.2.2 g7.1 = some (true, ia K ((n : Int).toNat) (fun _ => 0)) := g8H.2.2.1
  have g81 := g8H.1
  have g82 := g8H.2.1
  refine m_putfF (y := yiX8_init) kc_7 5 (by decide) dX8_init_50 q1911 rfl rfl rfl hq rfl rfl (hp_put fun g9 g9H => ?_)
  have ho : g9.2.2 own = some (true, .inr (2, [(vi sv), (.ref l)])) := (g9H.2.2.2 _ (by omega)).trans ho
  have hlo : g9.2.2 l = some (true, .inr (14, [(vi mc), (.ref e), (vi n)])) := (g9H.2.2.2 _ (by omega)).trans hlo
  have hle : g9.2.2 e = some (w, oaE K cap f) := (g9H.2.2.2 _ (by omega)).trans hle
  have fg4 : g9.2.2 g3.1 = some (true, ia K ((n : Int).toNat) (fun _ => 0)) := (g9H.2.2.2 _ (by omega)).trans fg4
  have fg6 : g9.2.2 g5.1 = some (true, ia K ((n : Int).toNat) (fun _ => 0)) := (g9H.2.2.2 _ (by omega)).trans fg6
  have fg8 : g9.2.2 g7.1 = some (true, ia K ((n : Int).toNat) (fun _ => 0)) := (g9H.2.2.2 _ (by omega)).trans fg8
  have fR : ∀ b, (b < h.1 ∧ b ≠ q) → g9.2.2 b = h.2.2 b := fun b hb => (g9H.2.2.2 b (by omega)).trans (fR b hb)
  have hq : g9.2.2 q = some (true, .inr (7, [(vi num), (vi tr), (vi sh), (.ref g3.1), (.ref g5.1), (.ref g7.1)])) := g9H.2.2.1
  have g91 := g9H.1
  have g92 := g9H.2.1
  refine j_iconst (y := yiX8_init) dX8_init_53 ?_
  refine j_istore (y := yiX8_init) [some (.ref q), some (vi num), some (vi tr), some (vi sh), some (.ref own), some .null, some (vi n), some (vi 0), none, none, none] dX8_init_54 (by decide) rfl rfl ?_
  have L56 : ∀ (N : Nat) (k : Int) (f1 f2 f3 : Int → Int) (g : MH), (n - k).toNat = N → (g.2.2 q = some (true, .inr (7, [(vi num), (vi tr), (vi sh), (.ref g3.1), (.ref g5.1), (.ref g7.1)]))) → (g.2.2 own = some (true, .inr (2, [(vi sv), (.ref l)]))) → (g.2.2 l = some (true, .inr (14, [(vi mc), (.ref e), (vi n)]))) → (g.2.2 e = some (w, oaE K cap f)) → (g.2.2 g3.1 = some (true, ia K n.toNat f1)) → (g.2.2 g5.1 = some (true, ia K n.toNat f2)) → (g.2.2 g7.1 = some (true, ia K n.toNat f3)) → (∀ b, (b < h.1 ∧ b ≠ q) → g.2.2 b = h.2.2 b) → (0 ≤ k ∧ k ≤ n) → (∀ c, 0 ≤ c → c < k → f1 c = fs c ∧ f2 c = rnA fa sh lc lm c ∧ f3 c = rnD fd sh lc lm c) → (g.1 = h.1 + 3 ∧ g.2.1 = h.2.1 + 3 * n.toNat) → MW K yiX8_init d g 56 [some (.ref q), some (vi num), some (vi tr), some (vi sh), some (.ref own), some .null, some (vi n), some (vi k), none, none, none] [] Q := by
    intro N
    induction N using Nat.strongRecOn with
    | _ N ih56 =>
    intro k f1 f2 f3 g hN56 hq ho hlo hle m1 m2 m3 fR hk hv hs
    refine mw_wf (fun hwf56 => ?_)
    have l_hq56 := hwf56 _ _ hq
    have l_ho56 := hwf56 _ _ ho
    have l_hlo56 := hwf56 _ _ hlo
    have l_hle56 := hwf56 _ _ hle
    have l_m156 := hwf56 _ _ m1
    have l_m256 := hwf56 _ _ m2
    have l_m356 := hwf56 _ _ m3
    refine j_iload (y := yiX8_init) dX8_init_56 rfl ?_
    refine j_iload (y := yiX8_init) dX8_init_58 rfl ?_
    refine j_icmp_ge (y := yiX8_init) 206 dX8_init_60 (by decide) ⟨⟨by omega, by omega⟩, ⟨by omega, by omega⟩⟩ (fun c60 => ?_) (fun c60 => ?_)
    · subst hQ; exact j_vret (y := yiX8_init) dX8_init_206 rfl (⟨⟨f1, f2, f3, ⟨g3.1, g5.1, g7.1, rsq_mk hq (Or.inl rfl), rsq_mk m1 (Or.inr (by omega)), rsq_mk m2 (Or.inr (by omega)), rsq_mk m3 (Or.inr (by omega))⟩, fun c a b => hv c a (by omega)⟩, by omega, by omega, fR⟩)
    · refine m_aload (y := yiX8_init) dX8_init_63 rfl ?_
      refine m_getfN (y := yiX8_init) kc_2 1 (by decide) dX8_init_65 q1145 ho rfl ?_
      refine j_iload (y := yiX8_init) dX8_init_68 rfl ?_
      have hpk := hqp k (by omega) (by omega)
      refine m_invV (y := yiX8_init) (rB := (RJ2, TJ2, 3)) [(vi k)] dX8_init_70 hlo rfl q1888 q1036 q1037 q126 q1038 rfl (c_J2_get K 2 g _ _ _ _ _ _ _ _ _ (by omega) hlo hle ⟨by omega, by omega⟩ ⟨by omega, by omega⟩ (hf _ (by omega) (by omega))) pdJ2_get ⟨Nat.le_of_ble_eq_true rfl, by decide, by omega⟩ (kk_r fun r70 h70 q70 => ?_) kx_r
      obtain ⟨rfl, rfl⟩ := q70
      have hcl : g.2.2 (p k) = some (true, .inr (3, [(vi (fs k)), (vi (fa k)), (vi (fd k))])) := (fR _ (hqp k (by omega) (by omega))).trans (hp k (by omega) (by omega))
      have l_hcl := hwf56 _ _ hcl
      refine m_cast (y := yiX8_init) dX8_init_73 hcl rfl q1889 (Or.inl rfl) ?_
      refine m_astore (y := yiX8_init) dX8_init_76 (by decide) rfl ?_
      show MW K yiX8_init d g 78 [some (.ref q), some (vi num), some (vi tr), some (vi sh), some (.ref own), some .null, some (vi n), some (vi k), some (.ref (p k)), none, none] [] Q
      refine m_aloadN (y := yiX8_init) dX8_init_78 rfl ?_
      refine m_ifnull (y := yiX8_init) (x := none) 97 dX8_init_80 (by decide) (fun _ => ?_) (fun _ h9 => nomatch h9)
      refine j_iconst (y := yiX8_init) dX8_init_97 ?_
      refine j_istore (y := yiX8_init) [some (.ref q), some (vi num), some (vi tr), some (vi sh), some (.ref own), some .null, some (vi n), some (vi k), some (.ref (p k)), some (vi 0), none] dX8_init_98 (by decide) rfl rfl ?_
      refine m_aloadN (y := yiX8_init) dX8_init_100 rfl ?_
      refine m_ifnull (y := yiX8_init) (x := none) 119 dX8_init_102 (by decide) (fun _ => ?_) (fun _ h9 => nomatch h9)
      refine j_iconst (y := yiX8_init) dX8_init_119 ?_
      refine j_istore (y := yiX8_init) [some (.ref q), some (vi num), some (vi tr), some (vi sh), some (.ref own), some .null, some (vi n), some (vi k), some (.ref (p k)), some (vi 0), some (vi 0)] dX8_init_120 (by decide) rfl rfl ?_
      refine m_aload_n (y := yiX8_init) dX8_init_122 rfl ?_
      refine m_getfS (y := yiX8_init) kc_7 3 (by decide) dX8_init_123 q1903 hq rfl ?_
      refine j_iload (y := yiX8_init) dX8_init_126 rfl ?_
      refine m_aload (y := yiX8_init) dX8_init_128 rfl ?_
      refine m_invV (y := yiX8_init) (rB := (RX4, TX4, 3)) [] dX8_init_130 hcl rfl q1891 q797 q798 q155 q799 rfl (c_X4_stop (d := 0) hcl) pdX4_stop ⟨Nat.le_of_ble_eq_true rfl, by decide, by omega⟩ (kk_z fun r130 h130 q130 => ?_) kx_z
      obtain ⟨rfl, rfl⟩ := q130
      refine mw_top (x' := (fs k)) rfl ?_
      refine j_iast (y := yiX8_init) dX8_init_133 m1 (by omega) ⟨by omega, by omega⟩ (hp_put fun g10 g10H => ?_)
      have hq : g10.2.2 q = some (true, .inr (7, [(vi num), (vi tr), (vi sh), (.ref g3.1), (.ref g5.1), (.ref g7.1)])) := (g10H.2.2.2 _ (by omega)).trans hq
      have ho : g10.2.2 own = some (true, .inr (2, [(vi sv), (.ref l)])) := (g10H.2.2.2 _ (by omega)).trans ho
      have hlo : g10.2.2 l = some (true, .inr (14, [(vi mc), (.ref e), (vi n)])) := (g10H.2.2.2 _ (by omega)).trans hlo
      have hle : g10.2.2 e = some (w, oaE K cap f) := (g10H.2.2.2 _ (by omega)).trans hle
      have m2 : g10.2.2 g5.1 = some (true, ia K n.toNat f2) := (g10H.2.2.2 _ (by omega)).trans m2
      have m3 : g10.2.2 g7.1 = some (true, ia K n.toNat f3) := (g10H.2.2.2 _ (by omega)).trans m3
      have hcl : g10.2.2 (p k) = some (true, .inr (3, [(vi (fs k)), (vi (fa k)), (vi (fd k))])) := (g10H.2.2.2 _ (by omega)).trans hcl
      have fR : ∀ b, (b < h.1 ∧ b ≠ q) → g10.2.2 b = h.2.2 b := fun b hb => (g10H.2.2.2 b (by omega)).trans (fR b hb)
      have m1 : g10.2.2 g3.1 = some (true, ia K n.toNat (upz f1 k (fs k))) := g10H.2.2.1
      have g101 := g10H.1
      have g102 := g10H.2.1
      refine m_aload_n (y := yiX8_init) dX8_init_134 rfl ?_
      refine m_getfS (y := yiX8_init) kc_7 4 (by decide) dX8_init_135 q1907 hq rfl ?_
      refine j_iload (y := yiX8_init) dX8_init_138 rfl ?_
      refine m_aload (y := yiX8_init) dX8_init_140 rfl ?_
      refine m_invV (y := yiX8_init) (rB := (RX4, TX4, 3)) [] dX8_init_142 hcl rfl q1892 q801 q802 q155 q803 rfl (c_X4_arrival (d := 0) hcl) pdX4_arrival ⟨Nat.le_of_ble_eq_true rfl, by decide, by omega⟩ (kk_z fun r142 h142 q142 => ?_) kx_z
      obtain ⟨rfl, rfl⟩ := q142
      refine mw_top (x' := (fa k)) rfl ?_
      refine j_sipush (y := yiX8_init) dX8_init_145 (by decide) ?_
      refine j_iload_n (y := yiX8_init) dX8_init_148 rfl ?_
      refine j_imul (y := yiX8_init) dX8_init_149 ?_
      refine j_iadd (y := yiX8_init) dX8_init_150 ?_
      refine j_iload (y := yiX8_init) dX8_init_151 rfl ?_
      refine j_if_eq (y := yiX8_init) 164 dX8_init_153 (by decide) ⟨by decide, by decide⟩ (fun _ => ?_) (fun c => absurd c (by decide))
      refine j_iconst (y := yiX8_init) dX8_init_164 ?_
      refine j_iadd (y := yiX8_init) dX8_init_165 ?_
      refine j_iast (y := yiX8_init) dX8_init_166 m2 (by omega) ⟨by omega, by omega⟩ (hp_put fun g11 g11H => ?_)
      have hq : g11.2.2 q = some (true, .inr (7, [(vi num), (vi tr), (vi sh), (.ref g3.1), (.ref g5.1), (.ref g7.1)])) := (g11H.2.2.2 _ (by omega)).trans hq
      have ho : g11.2.2 own = some (true, .inr (2, [(vi sv), (.ref l)])) := (g11H.2.2.2 _ (by omega)).trans ho
      have hlo : g11.2.2 l = some (true, .inr (14, [(vi mc), (.ref e), (vi n)])) := (g11H.2.2.2 _ (by omega)).trans hlo
      have hle : g11.2.2 e = some (w, oaE K cap f) := (g11H.2.2.2 _ (by omega)).trans hle
      have m1 : g11.2.2 g3.1 = some (true, ia K n.toNat (upz f1 k (fs k))) := (g11H.2.2.2 _ (by omega)).trans m1
      have m3 : g11.2.2 g7.1 = some (true, ia K n.toNat f3) := (g11H.2.2.2 _ (by omega)).trans m3
      have hcl : g11.2.2 (p k) = some (true, .inr (3, [(vi (fs k)), (vi (fa k)), (vi (fd k))])) := (g11H.2.2.2 _ (by omega)).trans hcl
      have fR : ∀ b, (b < h.1 ∧ b ≠ q) → g11.2.2 b = h.2.2 b := fun b hb => (g11H.2.2.2 b (by omega)).trans (fR b hb)
      have m2 : g11.2.2 g5.1 = some (true, ia K n.toNat (upz f2 k (((fa k) + (1440 * sh)) + 0))) := g11H.2.2.1
      have g111 := g11H.1
      have g112 := g11H.2.1
      refine m_aload_n (y := yiX8_init) dX8_init_167 rfl ?_
      refine m_getfS (y := yiX8_init) kc_7 5 (by decide) dX8_init_168 q1911 hq rfl ?_
      refine j_iload (y := yiX8_init) dX8_init_171 rfl ?_
      refine m_aload (y := yiX8_init) dX8_init_173 rfl ?_
      refine m_invV (y := yiX8_init) (rB := (RX4, TX4, 3)) [] dX8_init_175 hcl rfl q1894 q805 q806 q155 q807 rfl (c_X4_departure (d := 0) hcl) pdX4_departure ⟨Nat.le_of_ble_eq_true rfl, by decide, by omega⟩ (kk_z fun r175 h175 q175 => ?_) kx_z
      obtain ⟨rfl, rfl⟩ := q175
      refine mw_top (x' := (fd k)) rfl ?_
      refine j_sipush (y := yiX8_init) dX8_init_178 (by decide) ?_
      refine j_iload_n (y := yiX8_init) dX8_init_181 rfl ?_
      refine j_imul (y := yiX8_init) dX8_init_182 ?_
      refine j_iadd (y := yiX8_init) dX8_init_183 ?_
      refine j_iload (y := yiX8_init) dX8_init_184 rfl ?_
      refine j_if_eq (y := yiX8_init) 197 dX8_init_186 (by decide) ⟨by decide, by decide⟩ (fun _ => ?_) (fun c => absurd c (by decide))
      refine j_iconst (y := yiX8_init) dX8_init_197 ?_
      refine j_iadd (y := yiX8_init) dX8_init_198 ?_
      refine j_iast (y := yiX8_init) dX8_init_199 m3 (by omega) ⟨by omega, by omega⟩ (hp_put fun g12 g12H => ?_)
      have hq : g12.2.2 q = some (true, .inr (7, [(vi num), (vi tr), (vi sh), (.ref g3.1), (.ref g5.1), (.ref g7.1)])) := (g12H.2.2.2 _ (by omega)).trans hq
      have ho : g12.2.2 own = some (true, .inr (2, [(vi sv), (.ref l)])) := (g12H.2.2.2 _ (by omega)).trans ho
      have hlo : g12.2.2 l = some (true, .inr (14, [(vi mc), (.ref e), (vi n)])) := (g12H.2.2.2 _ (by omega)).trans hlo
      have hle : g12.2.2 e = some (w, oaE K cap f) := (g12H.2.2.2 _ (by omega)).trans hle
      have m1 : g12.2.2 g3.1 = some (true, ia K n.toNat (upz f1 k (fs k))) := (g12H.2.2.2 _ (by omega)).trans m1
      have m2 : g12.2.2 g5.1 = some (true, ia K n.toNat (upz f2 k (((fa k) + (1440 * sh)) + 0))) := (g12H.2.2.2 _ (by omega)).trans m2
      have hcl : g12.2.2 (p k) = some (true, .inr (3, [(vi (fs k)), (vi (fa k)), (vi (fd k))])) := (g12H.2.2.2 _ (by omega)).trans hcl
      have fR : ∀ b, (b < h.1 ∧ b ≠ q) → g12.2.2 b = h.2.2 b := fun b hb => (g12H.2.2.2 b (by omega)).trans (fR b hb)
      have m3 : g12.2.2 g7.1 = some (true, ia K n.toNat (upz f3 k (((fd k) + (1440 * sh)) + 0))) := g12H.2.2.1
      have g121 := g12H.1
      have g122 := g12H.2.1
      refine j_iinc (y := yiX8_init) [some (.ref q), some (vi num), some (vi tr), some (vi sh), some (.ref own), some .null, some (vi n), some (vi (k + 1)), some (.ref (p k)), some (vi 0), some (vi 0)] dX8_init_200 rfl (by decide) rfl rfl ?_
      refine m_goto (y := yiX8_init) 56 dX8_init_203 (by decide) ?_
      refine mw_forget 8 ?_
      refine mw_forget 9 ?_
      refine mw_forget 10 ?_
      exact ih56 _ (by omega) _ _ _ _ _ rfl hq ho hlo hle m1 m2 m3 fR (by omega) (rn_s (by omega) hv rfl (by rw [hlm]; split <;> omega) (by rw [hlm]; split <;> omega)) (by omega)
  exact L56 _ _ (fun _ => 0) (fun _ => 0) (fun _ => 0) _ rfl hq ho hlo hle fg4 fg6 fg8 fR (by omega) (fun c a b => by omega) (by omega)
theorem c_X8_initR (K : KT) (d : Nat) (h : MH) (e0 : Nat) (q own lq : Nat) (num tr sh sv n lc lm : Int) (fs fa fd : Int → Int) (hd : 3 ≤ d) (hq : h.2.2 q = some (true, .inr (7, [vi 0, vi 0, vi 0, .null, .null, .null]))) (hT : TrpA K h e0 sv n fs fa fd own) (hlq : h.2.2 lq = some (true, .inr (6, [vi lc, vi lm]))) (hn : 1 ≤ n ∧ n ≤ 8) (hl : (-10 ≤ lc ∧ lc ≤ 100) ∧ 0 ≤ lm ∧ lm ≤ 200) (hz : h.1 + 3 ≤ kC K ∧ h.2.1 + 24 ≤ kS K) : Mt K yiX8_init d [.ref q, vi num, vi tr, vi sh, .ref own, .ref lq] h (Rv fun h' => RniQ K h h' num tr sh n lc lm fs fa fd q) := by
  obtain ⟨l, e, p, ho, ⟨w, cap, mc, f, hlo, hle, hae, h0, hw, hcap, hf, hno⟩, hp⟩ := hT
  refine mt_ofQ (by decide) (Nat.le_of_ble_eq_true rfl) (fun Q hQ => ?_)
  show MW K yiX8_init d h 0 [some (.ref q), some (vi num), some (vi tr), some (vi sh), some (.ref own), some (.ref lq), none, none, none, none, none] [] Q
  refine mw_wf (fun hwf => ?_)
  have l_hq := hwf _ _ hq
  have l_ho := hwf _ _ ho
  have l_hlo := hwf _ _ hlo
  have l_hle := hwf _ _ hle
  have l_hlq := hwf _ _ hlq
  have fR : ∀ b, (b < h.1 ∧ b ≠ q) → h.2.2 b = h.2.2 b := fun _ _ => rfl
  have hqp : ∀ c, 0 ≤ c → c < n → p c < h.1 ∧ p c ≠ q := fun c a b => ⟨hwf _ _ (hp c a b), ne_oo (hp c a b) hq (by decide)⟩
  have : q ≠ own := ne_oo hq ho (by decide)
  have : q ≠ l := ne_oo hq hlo (by decide)
  have : q ≠ e := ne_oa hq hle
  have : q ≠ lq := ne_oo hq hlq (by decide)
  refine m_aload_n (y := yiX8_init) dX8_init_0 rfl ?_
  refine m_objInit (y := yiX8_init) dX8_init_1 q1886 q195 q196 ⟨Nat.le_of_ble_eq_true rfl, by omega⟩ ?_
  refine m_aload_n (y := yiX8_init) dX8_init_4 rfl ?_
  refine j_iload_n (y := yiX8_init) dX8_init_5 rfl ?_
  refine m_putfF (y := yiX8_init) kc_7 0 (by decide) dX8_init_6 q1895 rfl rfl rfl hq rfl rfl (hp_put fun g1 g1H => ?_)
  have ho : g1.2.2 own = some (true, .inr (2, [(vi sv), (.ref l)])) := (g1H.2.2.2 _ (by omega)).trans ho
  have hlo : g1.2.2 l = some (true, .inr (14, [(vi mc), (.ref e), (vi n)])) := (g1H.2.2.2 _ (by omega)).trans hlo
  have hle : g1.2.2 e = some (w, oaE K cap f) := (g1H.2.2.2 _ (by omega)).trans hle
  have hlq : g1.2.2 lq = some (true, .inr (6, [(vi lc), (vi lm)])) := (g1H.2.2.2 _ (by omega)).trans hlq
  have fR : ∀ b, (b < h.1 ∧ b ≠ q) → g1.2.2 b = h.2.2 b := fun b hb => (g1H.2.2.2 b (by omega)).trans (fR b hb)
  have hq : g1.2.2 q = some (true, .inr (7, [(vi num), (vi 0), (vi 0), .null, .null, .null])) := g1H.2.2.1
  have g11 := g1H.1
  have g12 := g1H.2.1
  refine m_aload_n (y := yiX8_init) dX8_init_9 rfl ?_
  refine j_iload_n (y := yiX8_init) dX8_init_10 rfl ?_
  refine m_putfF (y := yiX8_init) kc_7 1 (by decide) dX8_init_11 q1899 rfl rfl rfl hq rfl rfl (hp_put fun g2 g2H => ?_)
  have ho : g2.2.2 own = some (true, .inr (2, [(vi sv), (.ref l)])) := (g2H.2.2.2 _ (by omega)).trans ho
  have hlo : g2.2.2 l = some (true, .inr (14, [(vi mc), (.ref e), (vi n)])) := (g2H.2.2.2 _ (by omega)).trans hlo
  have hle : g2.2.2 e = some (w, oaE K cap f) := (g2H.2.2.2 _ (by omega)).trans hle
  have hlq : g2.2.2 lq = some (true, .inr (6, [(vi lc), (vi lm)])) := (g2H.2.2.2 _ (by omega)).trans hlq
  have fR : ∀ b, (b < h.1 ∧ b ≠ q) → g2.2.2 b = h.2.2 b := fun b hb => (g2H.2.2.2 b (by omega)).trans (fR b hb)
  have hq : g2.2.2 q = some (true, .inr (7, [(vi num), (vi tr), (vi 0), .null, .null, .null])) := g2H.2.2.1
  have g21 := g2H.1
  have g22 := g2H.2.1
  refine m_aload_n (y := yiX8_init) dX8_init_14 rfl ?_
  refine j_iload_n (y := yiX8_init) dX8_init_15 rfl ?_
  refine m_putfF (y := yiX8_init) kc_7 2 (by decide) dX8_init_16 q1901 rfl rfl rfl hq rfl rfl (hp_put fun g3 g3H => ?_)
  have ho : g3.2.2 own = some (true, .inr (2, [(vi sv), (.ref l)])) := (g3H.2.2.2 _ (by omega)).trans ho
  have hlo : g3.2.2 l = some (true, .inr (14, [(vi mc), (.ref e), (vi n)])) := (g3H.2.2.2 _ (by omega)).trans hlo
  have hle : g3.2.2 e = some (w, oaE K cap f) := (g3H.2.2.2 _ (by omega)).trans hle
  have hlq : g3.2.2 lq = some (true, .inr (6, [(vi lc), (vi lm)])) := (g3H.2.2.2 _ (by omega)).trans hlq
  have fR : ∀ b, (b < h.1 ∧ b ≠ q) → g3.2.2 b = h.2.2 b := fun b hb => (g3H.2.2.2 b (by omega)).trans (fR b hb)
  have hq : g3.2.2 q = some (true, .inr (7, [(vi num), (vi tr), (vi sh), .null, .null, .null])) := g3H.2.2.1
  have g31 := g3H.1
  have g32 := g3H.2.1
  refine m_aload (y := yiX8_init) dX8_init_19 rfl ?_
  refine m_getfN (y := yiX8_init) kc_2 1 (by decide) dX8_init_21 q1145 ho rfl ?_
  refine m_invV (y := yiX8_init) (rB := (RJ2, TJ2, 3)) [] dX8_init_24 hlo rfl q1887 q334 q335 q126 q336 rfl (c_J2_size K 0 g3 _ _ _ _ hlo) pdJ2_size ⟨Nat.le_of_ble_eq_true rfl, by decide, by omega⟩ (kk_z fun r24 h24 q24 => ?_) kx_z
  obtain ⟨rfl, rfl⟩ := q24
  refine mw_top (x' := n) rfl ?_
  refine j_istore (y := yiX8_init) [some (.ref q), some (vi num), some (vi tr), some (vi sh), some (.ref own), some (.ref lq), some (vi n), none, none, none, none] dX8_init_27 (by decide) rfl rfl ?_
  refine m_aload_n (y := yiX8_init) dX8_init_29 rfl ?_
  refine j_iload (y := yiX8_init) dX8_init_30 rfl ?_
  refine h_newa0 (y := yiX8_init) dX8_init_32 q229 ⟨by omega, by omega⟩ ⟨by omega, by omega⟩ (hp_new fun g4 g4H => ?_)
  have hq : g4.2.2 q = some (true, .inr (7, [(vi num), (vi tr), (vi sh), .null, .null, .null])) := (g4H.2.2.2 _ (by omega)).trans hq
  have ho : g4.2.2 own = some (true, .inr (2, [(vi sv), (.ref l)])) := (g4H.2.2.2 _ (by omega)).trans ho
  have hlo : g4.2.2 l = some (true, .inr (14, [(vi mc), (.ref e), (vi n)])) := (g4H.2.2.2 _ (by omega)).trans hlo
  have hle : g4.2.2 e = some (w, oaE K cap f) := (g4H.2.2.2 _ (by omega)).trans hle
  have hlq : g4.2.2 lq = some (true, .inr (6, [(vi lc), (vi lm)])) := (g4H.2.2.2 _ (by omega)).trans hlq
  have fR : ∀ b, (b < h.1 ∧ b ≠ q) → g4.2.2 b = h.2.2 b := fun b hb => (g4H.2.2.2 b (by omega)).trans (fR b hb)
  have fg4 : g4.2.2 g3.1 = some (true, ia K ((n : Int).toNat) (fun _ => 0)) := g4H.2.2.1
  have g41 := g4H.1
  have g42 := g4H.2.1
  refine m_putfF (y := yiX8_init) kc_7 3 (by decide) dX8_init_34 q1903 rfl rfl rfl hq rfl rfl (hp_put fun g5 g5H => ?_)
  have ho : g5.2.2 own = some (true, .inr (2, [(vi sv), (.ref l)])) := (g5H.2.2.2 _ (by omega)).trans ho
  have hlo : g5.2.2 l = some (true, .inr (14, [(vi mc), (.ref e), (vi n)])) := (g5H.2.2.2 _ (by omega)).trans hlo
  have hle : g5.2.2 e = some (w, oaE K cap f) := (g5H.2.2.2 _ (by omega)).trans hle
  have hlq : g5.2.2 lq = some (true, .inr (6, [(vi lc), (vi lm)])) := (g5H.2.2.2 _ (by omega)).trans hlq
  have fg4 : g5.2.2 g3.1 = some (true, ia K ((n : Int).toNat) (fun _ => 0)) := (g5H.2.2.2 _ (by omega)).trans fg4
  have fR : ∀ b, (b < h.1 ∧ b ≠ q) → g5.2.2 b = h.2.2 b := fun b hb => (g5H.2.2.2 b (by omega)).trans (fR b hb)
  have hq : g5.2.2 q = some (true, .inr (7, [(vi num), (vi tr), (vi sh), (.ref g3.1), .null, .null])) := g5H.2.2.1
  have g51 := g5H.1
  have g52 := g5H.2.1
  refine m_aload_n (y := yiX8_init) dX8_init_37 rfl ?_
  refine j_iload (y := yiX8_init) dX8_init_38 rfl ?_
  refine h_newa0 (y := yiX8_init) dX8_init_40 q229 ⟨by omega, by omega⟩ ⟨by omega, by omega⟩ (hp_new fun g6 g6H => ?_)
  have hq : g6.2.2 q = some (true, .inr (7, [(vi num), (vi tr), (vi sh), (.ref g3.1), .null, .null])) := (g6H.2.2.2 _ (by omega)).trans hq
  have ho : g6.2.2 own = some (true, .inr (2, [(vi sv), (.ref l)])) := (g6H.2.2.2 _ (by omega)).trans ho
  have hlo : g6.2.2 l = some (true, .inr (14, [(vi mc), (.ref e), (vi n)])) := (g6H.2.2.2 _ (by omega)).trans hlo
  have hle : g6.2.2 e = some (w, oaE K cap f) := (g6H.2.2.2 _ (by omega)).trans hle
  have hlq : g6.2.2 lq = some (true, .inr (6, [(vi lc), (vi lm)])) := (g6H.2.2.2 _ (by omega)).trans hlq
  have fg4 : g6.2.2 g3.1 = some (true, ia K ((n : Int).toNat) (fun _ => 0)) := (g6H.2.2.2 _ (by omega)).trans fg4
  have fR : ∀ b, (b < h.1 ∧ b ≠ q) → g6.2.2 b = h.2.2 b := fun b hb => (g6H.2.2.2 b (by omega)).trans (fR b hb)
  have fg6 : g6.2.2 g5.1 = some (true, ia K ((n : Int).toNat) (fun _ => 0)) := g6H.2.2.1
  have g61 := g6H.1
  have g62 := g6H.2.1
  refine m_putfF (y := yiX8_init) kc_7 4 (by decide) dX8_init_42 q1907 rfl rfl rfl hq rfl rfl (hp_put fun g7 g7H => ?_)
  have ho : g7.2.2 own = some (true, .inr (2, [(vi sv), (.ref l)])) := (g7H.2.2.2 _ (by omega)).trans ho
  have hlo : g7.2.2 l = some (true, .inr (14, [(vi mc), (.ref e), (vi n)])) := (g7H.2.2.2 _ (by omega)).trans hlo
  have hle : g7.2.2 e = some (w, oaE K cap f) := (g7H.2.2.2 _ (by omega)).trans hle
  have hlq : g7.2.2 lq = some (true, .inr (6, [(vi lc), (vi lm)])) := (g7H.2.2.2 _ (by omega)).trans hlq
  have fg4 : g7.2.2 g3.1 = some (true, ia K ((n : Int).toNat) (fun _ => 0)) := (g7H.2.2.2 _ (by omega)).trans fg4
  have fg6 : g7.2.2 g5.1 = some (true, ia K ((n : Int).toNat) (fun _ => 0)) := (g7H.2.2.2 _ (by omega)).trans fg6
  have fR : ∀ b, (b < h.1 ∧ b ≠ q) → g7.2.2 b = h.2.2 b := fun b hb => (g7H.2.2.2 b (by omega)).trans (fR b hb)
  have hq : g7.2.2 q = some (true, .inr (7, [(vi num), (vi tr), (vi sh), (.ref g3.1), (.ref g5.1), .null])) := g7H.2.2.1
  have g71 := g7H.1
  have g72 := g7H.2.1
  refine m_aload_n (y := yiX8_init) dX8_init_45 rfl ?_
  refine j_iload (y := yiX8_init) dX8_init_46 rfl ?_
  refine h_newa0 (y := yiX8_init) dX8_init_48 q229 ⟨by omega, by omega⟩ ⟨by omega, by omega⟩ (hp_new fun g8 g8H => ?_)
  have hq : g8.2.2 q = some (true, .inr (7, [(vi num), (vi tr), (vi sh), (.ref g3.1), (.ref g5.1), .null])) := (g8H.2.2.2 _ (by omega)).trans hq
  have ho : g8.2.2 own = some (true, .inr (2, [(vi sv), (.ref l)])) := (g8H.2.2.2 _ (by omega)).trans ho
  have hlo : g8.2.2 l = some (true, .inr (14, [(vi mc), (.ref e), (vi n)])) := (g8H.2.2.2 _ (by omega)).trans hlo
  have hle : g8.2.2 e = some (w, oaE K cap f) := (g8H.2.2.2 _ (by omega)).trans hle
  have hlq : g8.2.2 lq = some (true, .inr (6, [(vi lc), (vi lm)])) := (g8H.2.2.2 _ (by omega)).trans hlq
  have fg4 : g8.2.2 g3.1 = some (true, ia K ((n : Int).toNat) (fun _ => 0)) := (g8H.2.2.2 _ (by omega)).trans fg4
  have fg6 : g8.2.2 g5.1 = some (true, ia K ((n : Int).toNat) (fun _ => 0)) := (g8H.2.2.2 _ (by omega)).trans fg6
  have fR : ∀ b, (b < h.1 ∧ b ≠ q) → g8.2.2 b = h.2.2 b := fun b hb => (g8H.2.2.2 b (by omega)).trans (fR b hb)
  have fg8 : g8.2.2 g7.1 = some (true, ia K ((n : Int).toNat) (fun _ => 0)) := g8H.2.2.1
  have g81 := g8H.1
  have g82 := g8H.2.1
  refine m_putfF (y := yiX8_init) kc_7 5 (by decide) dX8_init_50 q1911 rfl rfl rfl hq rfl rfl (hp_put fun g9 g9H => ?_)
  have ho : g9.2.2 own = some (true, .inr (2, [(vi sv), (.ref l)])) := (g9H.2.2.2 _ (by omega)).trans ho
  have hlo : g9.2.2 l = some (true, .inr (14, [(vi mc), (.ref e), (vi n)])) := (g9H.2.2.2 _ (by omega)).trans hlo
  have hle : g9.2.2 e = some (w, oaE K cap f) := (g9H.2.2.2 _ (by omega)).trans hle
  have hlq : g9.2.2 lq = some (true, .inr (6, [(vi lc), (vi lm)])) := (g9H.2.2.2 _ (by omega)).trans hlq
  have fg4 : g9.2.2 g3.1 = some (true, ia K ((n : Int).toNat) (fun _ => 0)) := (g9H.2.2.2 _ (by omega)).trans fg4
  have fg6 : g9.2.2 g5.1 = some (true, ia K ((n : Int).toNat) (fun _ => 0)) := (g9H.2.2.2 _ (by omega)).trans fg6
  have fg8 : g9.2.2 g7.1 = some (true, ia K ((n : Int).toNat) (fun _ => 0)) := (g9H.2.2.2 _ (by omega)).trans fg8
  have fR : ∀ b, (b < h.1 ∧ b ≠ q) → g9.2.2 b = h.2.2 b := fun b hb => (g9H.2.2.2 b (by omega)).trans (fR b hb)
  have hq : g9.2.2 q = some (true, .inr (7, [(vi num), (vi tr), (vi sh), (.ref g3.1), (.ref g5.1), (.ref g7.1)])) := g9H.2.2.1
  have g91 := g9H.1
  have g92 := g9H.2.1
  refine j_iconst (y := yiX8_init) dX8_init_53 ?_
  refine j_istore (y := yiX8_init) [some (.ref q), some (vi num), some (vi tr), some (vi sh), some (.ref own), some (.ref lq), some (vi n), some (vi 0), none, none, none] dX8_init_54 (by decide) rfl rfl ?_
  have L56 : ∀ (N : Nat) (k : Int) (f1 f2 f3 : Int → Int) (g : MH), (n - k).toNat = N → (g.2.2 q = some (true, .inr (7, [(vi num), (vi tr), (vi sh), (.ref g3.1), (.ref g5.1), (.ref g7.1)]))) → (g.2.2 own = some (true, .inr (2, [(vi sv), (.ref l)]))) → (g.2.2 l = some (true, .inr (14, [(vi mc), (.ref e), (vi n)]))) → (g.2.2 e = some (w, oaE K cap f)) → (g.2.2 lq = some (true, .inr (6, [(vi lc), (vi lm)]))) → (g.2.2 g3.1 = some (true, ia K n.toNat f1)) → (g.2.2 g5.1 = some (true, ia K n.toNat f2)) → (g.2.2 g7.1 = some (true, ia K n.toNat f3)) → (∀ b, (b < h.1 ∧ b ≠ q) → g.2.2 b = h.2.2 b) → (0 ≤ k ∧ k ≤ n) → (∀ c, 0 ≤ c → c < k → f1 c = fs c ∧ f2 c = rnA fa sh lc lm c ∧ f3 c = rnD fd sh lc lm c) → (g.1 = h.1 + 3 ∧ g.2.1 = h.2.1 + 3 * n.toNat) → MW K yiX8_init d g 56 [some (.ref q), some (vi num), some (vi tr), some (vi sh), some (.ref own), some (.ref lq), some (vi n), some (vi k), none, none, none] [] Q := by
    intro N
    induction N using Nat.strongRecOn with
    | _ N ih56 =>
    intro k f1 f2 f3 g hN56 hq ho hlo hle hlq m1 m2 m3 fR hk hv hs
    refine mw_wf (fun hwf56 => ?_)
    have l_hq56 := hwf56 _ _ hq
    have l_ho56 := hwf56 _ _ ho
    have l_hlo56 := hwf56 _ _ hlo
    have l_hle56 := hwf56 _ _ hle
    have l_hlq56 := hwf56 _ _ hlq
    have l_m156 := hwf56 _ _ m1
    have l_m256 := hwf56 _ _ m2
    have l_m356 := hwf56 _ _ m3
    refine j_iload (y := yiX8_init) dX8_init_56 rfl ?_
    refine j_iload (y := yiX8_init) dX8_init_58 rfl ?_
    refine j_icmp_ge (y := yiX8_init) 206 dX8_init_60 (by decide) ⟨⟨by omega, by omega⟩, ⟨by omega, by omega⟩⟩ (fun c60 => ?_) (fun c60 => ?_)
    · subst hQ; exact j_vret (y := yiX8_init) dX8_init_206 rfl (⟨⟨f1, f2, f3, ⟨g3.1, g5.1, g7.1, rsq_mk hq (Or.inl rfl), rsq_mk m1 (Or.inr (by omega)), rsq_mk m2 (Or.inr (by omega)), rsq_mk m3 (Or.inr (by omega))⟩, fun c a b => hv c a (by omega)⟩, by omega, by omega, fR⟩)
    · refine m_aload (y := yiX8_init) dX8_init_63 rfl ?_
      refine m_getfN (y := yiX8_init) kc_2 1 (by decide) dX8_init_65 q1145 ho rfl ?_
      refine j_iload (y := yiX8_init) dX8_init_68 rfl ?_
      have hpk := hqp k (by omega) (by omega)
      refine m_invV (y := yiX8_init) (rB := (RJ2, TJ2, 3)) [(vi k)] dX8_init_70 hlo rfl q1888 q1036 q1037 q126 q1038 rfl (c_J2_get K 2 g _ _ _ _ _ _ _ _ _ (by omega) hlo hle ⟨by omega, by omega⟩ ⟨by omega, by omega⟩ (hf _ (by omega) (by omega))) pdJ2_get ⟨Nat.le_of_ble_eq_true rfl, by decide, by omega⟩ (kk_r fun r70 h70 q70 => ?_) kx_r
      obtain ⟨rfl, rfl⟩ := q70
      have hcl : g.2.2 (p k) = some (true, .inr (3, [(vi (fs k)), (vi (fa k)), (vi (fd k))])) := (fR _ (hqp k (by omega) (by omega))).trans (hp k (by omega) (by omega))
      have l_hcl := hwf56 _ _ hcl
      refine m_cast (y := yiX8_init) dX8_init_73 hcl rfl q1889 (Or.inl rfl) ?_
      refine m_astore (y := yiX8_init) dX8_init_76 (by decide) rfl ?_
      show MW K yiX8_init d g 78 [some (.ref q), some (vi num), some (vi tr), some (vi sh), some (.ref own), some (.ref lq), some (vi n), some (vi k), some (.ref (p k)), none, none] [] Q
      have J98 : ∀ (b1 : Int), ((b1 = 1 ∧ lc ≤ k) ∨ (b1 = 0 ∧ k < lc)) → MW K yiX8_init d g 98 [some (.ref q), some (vi num), some (vi tr), some (vi sh), some (.ref own), some (.ref lq), some (vi n), some (vi k), some (.ref (p k)), none, none] [(vi b1)] Q := by
        intro b1 hb1
        refine j_istore (y := yiX8_init) [some (.ref q), some (vi num), some (vi tr), some (vi sh), some (.ref own), some (.ref lq), some (vi n), some (vi k), some (.ref (p k)), some (vi b1), none] dX8_init_98 (by decide) rfl rfl ?_
        have J120 : ∀ (b2 : Int), ((b2 = 1 ∧ lc < k) ∨ (b2 = 0 ∧ k ≤ lc)) → MW K yiX8_init d g 120 [some (.ref q), some (vi num), some (vi tr), some (vi sh), some (.ref own), some (.ref lq), some (vi n), some (vi k), some (.ref (p k)), some (vi b1), none] [(vi b2)] Q := by
          intro b2 hb2
          refine j_istore (y := yiX8_init) [some (.ref q), some (vi num), some (vi tr), some (vi sh), some (.ref own), some (.ref lq), some (vi n), some (vi k), some (.ref (p k)), some (vi b1), some (vi b2)] dX8_init_120 (by decide) rfl rfl ?_
          refine m_aload_n (y := yiX8_init) dX8_init_122 rfl ?_
          refine m_getfS (y := yiX8_init) kc_7 3 (by decide) dX8_init_123 q1903 hq rfl ?_
          refine j_iload (y := yiX8_init) dX8_init_126 rfl ?_
          refine m_aload (y := yiX8_init) dX8_init_128 rfl ?_
          refine m_invV (y := yiX8_init) (rB := (RX4, TX4, 3)) [] dX8_init_130 hcl rfl q1891 q797 q798 q155 q799 rfl (c_X4_stop (d := 0) hcl) pdX4_stop ⟨Nat.le_of_ble_eq_true rfl, by decide, by omega⟩ (kk_z fun r130 h130 q130 => ?_) kx_z
          obtain ⟨rfl, rfl⟩ := q130
          refine mw_top (x' := (fs k)) rfl ?_
          refine j_iast (y := yiX8_init) dX8_init_133 m1 (by omega) ⟨by omega, by omega⟩ (hp_put fun g10 g10H => ?_)
          have hq : g10.2.2 q = some (true, .inr (7, [(vi num), (vi tr), (vi sh), (.ref g3.1), (.ref g5.1), (.ref g7.1)])) := (g10H.2.2.2 _ (by omega)).trans hq
          have ho : g10.2.2 own = some (true, .inr (2, [(vi sv), (.ref l)])) := (g10H.2.2.2 _ (by omega)).trans ho
          have hlo : g10.2.2 l = some (true, .inr (14, [(vi mc), (.ref e), (vi n)])) := (g10H.2.2.2 _ (by omega)).trans hlo
          have hle : g10.2.2 e = some (w, oaE K cap f) := (g10H.2.2.2 _ (by omega)).trans hle
          have hlq : g10.2.2 lq = some (true, .inr (6, [(vi lc), (vi lm)])) := (g10H.2.2.2 _ (by omega)).trans hlq
          have m2 : g10.2.2 g5.1 = some (true, ia K n.toNat f2) := (g10H.2.2.2 _ (by omega)).trans m2
          have m3 : g10.2.2 g7.1 = some (true, ia K n.toNat f3) := (g10H.2.2.2 _ (by omega)).trans m3
          have hcl : g10.2.2 (p k) = some (true, .inr (3, [(vi (fs k)), (vi (fa k)), (vi (fd k))])) := (g10H.2.2.2 _ (by omega)).trans hcl
          have fR : ∀ b, (b < h.1 ∧ b ≠ q) → g10.2.2 b = h.2.2 b := fun b hb => (g10H.2.2.2 b (by omega)).trans (fR b hb)
          have m1 : g10.2.2 g3.1 = some (true, ia K n.toNat (upz f1 k (fs k))) := g10H.2.2.1
          have g101 := g10H.1
          have g102 := g10H.2.1
          refine m_aload_n (y := yiX8_init) dX8_init_134 rfl ?_
          refine m_getfS (y := yiX8_init) kc_7 4 (by decide) dX8_init_135 q1907 hq rfl ?_
          refine j_iload (y := yiX8_init) dX8_init_138 rfl ?_
          refine m_aload (y := yiX8_init) dX8_init_140 rfl ?_
          refine m_invV (y := yiX8_init) (rB := (RX4, TX4, 3)) [] dX8_init_142 hcl rfl q1892 q801 q802 q155 q803 rfl (c_X4_arrival (d := 0) hcl) pdX4_arrival ⟨Nat.le_of_ble_eq_true rfl, by decide, by omega⟩ (kk_z fun r142 h142 q142 => ?_) kx_z
          obtain ⟨rfl, rfl⟩ := q142
          refine mw_top (x' := (fa k)) rfl ?_
          refine j_sipush (y := yiX8_init) dX8_init_145 (by decide) ?_
          refine j_iload_n (y := yiX8_init) dX8_init_148 rfl ?_
          refine j_imul (y := yiX8_init) dX8_init_149 ?_
          refine j_iadd (y := yiX8_init) dX8_init_150 ?_
          have J165 : ∀ (va : Int), (va = (if lc < k then lm else 0)) → MW K yiX8_init d g10 165 [some (.ref q), some (vi num), some (vi tr), some (vi sh), some (.ref own), some (.ref lq), some (vi n), some (vi k), some (.ref (p k)), some (vi b1), some (vi b2)] [(vi va), (vi (fa k + 1440 * sh)), (vi k), (.ref g5.1)] Q := by
            intro va hva
            refine j_iadd (y := yiX8_init) dX8_init_165 ?_
            refine j_iast (y := yiX8_init) dX8_init_166 m2 (by omega) ⟨by omega, by omega⟩ (hp_put fun g11 g11H => ?_)
            have hq : g11.2.2 q = some (true, .inr (7, [(vi num), (vi tr), (vi sh), (.ref g3.1), (.ref g5.1), (.ref g7.1)])) := (g11H.2.2.2 _ (by omega)).trans hq
            have ho : g11.2.2 own = some (true, .inr (2, [(vi sv), (.ref l)])) := (g11H.2.2.2 _ (by omega)).trans ho
            have hlo : g11.2.2 l = some (true, .inr (14, [(vi mc), (.ref e), (vi n)])) := (g11H.2.2.2 _ (by omega)).trans hlo
            have hle : g11.2.2 e = some (w, oaE K cap f) := (g11H.2.2.2 _ (by omega)).trans hle
            have hlq : g11.2.2 lq = some (true, .inr (6, [(vi lc), (vi lm)])) := (g11H.2.2.2 _ (by omega)).trans hlq
            have m1 : g11.2.2 g3.1 = some (true, ia K n.toNat (upz f1 k (fs k))) := (g11H.2.2.2 _ (by omega)).trans m1
            have m3 : g11.2.2 g7.1 = some (true, ia K n.toNat f3) := (g11H.2.2.2 _ (by omega)).trans m3
            have hcl : g11.2.2 (p k) = some (true, .inr (3, [(vi (fs k)), (vi (fa k)), (vi (fd k))])) := (g11H.2.2.2 _ (by omega)).trans hcl
            have fR : ∀ b, (b < h.1 ∧ b ≠ q) → g11.2.2 b = h.2.2 b := fun b hb => (g11H.2.2.2 b (by omega)).trans (fR b hb)
            have m2 : g11.2.2 g5.1 = some (true, ia K n.toNat (upz f2 k ((fa k + 1440 * sh) + va))) := g11H.2.2.1
            have g111 := g11H.1
            have g112 := g11H.2.1
            refine m_aload_n (y := yiX8_init) dX8_init_167 rfl ?_
            refine m_getfS (y := yiX8_init) kc_7 5 (by decide) dX8_init_168 q1911 hq rfl ?_
            refine j_iload (y := yiX8_init) dX8_init_171 rfl ?_
            refine m_aload (y := yiX8_init) dX8_init_173 rfl ?_
            refine m_invV (y := yiX8_init) (rB := (RX4, TX4, 3)) [] dX8_init_175 hcl rfl q1894 q805 q806 q155 q807 rfl (c_X4_departure (d := 0) hcl) pdX4_departure ⟨Nat.le_of_ble_eq_true rfl, by decide, by omega⟩ (kk_z fun r175 h175 q175 => ?_) kx_z
            obtain ⟨rfl, rfl⟩ := q175
            refine mw_top (x' := (fd k)) rfl ?_
            refine j_sipush (y := yiX8_init) dX8_init_178 (by decide) ?_
            refine j_iload_n (y := yiX8_init) dX8_init_181 rfl ?_
            refine j_imul (y := yiX8_init) dX8_init_182 ?_
            refine j_iadd (y := yiX8_init) dX8_init_183 ?_
            have J198 : ∀ (vd : Int), (vd = (if lc ≤ k then lm else 0)) → MW K yiX8_init d g11 198 [some (.ref q), some (vi num), some (vi tr), some (vi sh), some (.ref own), some (.ref lq), some (vi n), some (vi k), some (.ref (p k)), some (vi b1), some (vi b2)] [(vi vd), (vi (fd k + 1440 * sh)), (vi k), (.ref g7.1)] Q := by
              intro vd hvd
              refine j_iadd (y := yiX8_init) dX8_init_198 ?_
              refine j_iast (y := yiX8_init) dX8_init_199 m3 (by omega) ⟨by omega, by omega⟩ (hp_put fun g12 g12H => ?_)
              have hq : g12.2.2 q = some (true, .inr (7, [(vi num), (vi tr), (vi sh), (.ref g3.1), (.ref g5.1), (.ref g7.1)])) := (g12H.2.2.2 _ (by omega)).trans hq
              have ho : g12.2.2 own = some (true, .inr (2, [(vi sv), (.ref l)])) := (g12H.2.2.2 _ (by omega)).trans ho
              have hlo : g12.2.2 l = some (true, .inr (14, [(vi mc), (.ref e), (vi n)])) := (g12H.2.2.2 _ (by omega)).trans hlo
              have hle : g12.2.2 e = some (w, oaE K cap f) := (g12H.2.2.2 _ (by omega)).trans hle
              have hlq : g12.2.2 lq = some (true, .inr (6, [(vi lc), (vi lm)])) := (g12H.2.2.2 _ (by omega)).trans hlq
              have m1 : g12.2.2 g3.1 = some (true, ia K n.toNat (upz f1 k (fs k))) := (g12H.2.2.2 _ (by omega)).trans m1
              have m2 : g12.2.2 g5.1 = some (true, ia K n.toNat (upz f2 k ((fa k + 1440 * sh) + va))) := (g12H.2.2.2 _ (by omega)).trans m2
              have hcl : g12.2.2 (p k) = some (true, .inr (3, [(vi (fs k)), (vi (fa k)), (vi (fd k))])) := (g12H.2.2.2 _ (by omega)).trans hcl
              have fR : ∀ b, (b < h.1 ∧ b ≠ q) → g12.2.2 b = h.2.2 b := fun b hb => (g12H.2.2.2 b (by omega)).trans (fR b hb)
              have m3 : g12.2.2 g7.1 = some (true, ia K n.toNat (upz f3 k ((fd k + 1440 * sh) + vd))) := g12H.2.2.1
              have g121 := g12H.1
              have g122 := g12H.2.1
              refine j_iinc (y := yiX8_init) [some (.ref q), some (vi num), some (vi tr), some (vi sh), some (.ref own), some (.ref lq), some (vi n), some (vi (k + 1)), some (.ref (p k)), some (vi b1), some (vi b2)] dX8_init_200 rfl (by decide) rfl rfl ?_
              refine m_goto (y := yiX8_init) 56 dX8_init_203 (by decide) ?_
              refine mw_forget 8 ?_
              refine mw_forget 9 ?_
              refine mw_forget 10 ?_
              exact ih56 _ (by omega) _ _ _ _ _ rfl hq ho hlo hle hlq m1 m2 m3 fR (by omega) (rn_s (by omega) hv rfl hva hvd) (by omega)
            refine j_iload (y := yiX8_init) dX8_init_184 rfl ?_
            refine j_if_eq (y := yiX8_init) 197 dX8_init_186 (by decide) ⟨by omega, by omega⟩ (fun c186 => ?_) (fun c186 => ?_)
            · refine j_iconst (y := yiX8_init) dX8_init_197 ?_
              exact J198 _ (by split <;> omega)
            · refine m_aload (y := yiX8_init) dX8_init_189 rfl ?_
              refine m_invV (y := yiX8_init) (rB := (RX7, TX7, 2)) [] dX8_init_191 hlq rfl q1893 q1836 q1837 q165 q1838 rfl (c_X7_minutes (d := 0) hlq) pdX7_minutes ⟨Nat.le_of_ble_eq_true rfl, by decide, by omega⟩ (kk_z fun r191 h191 q191 => ?_) kx_z
              obtain ⟨rfl, rfl⟩ := q191
              refine mw_top (x' := lm) rfl ?_
              refine m_goto (y := yiX8_init) 198 dX8_init_194 (by decide) ?_
              exact J198 _ (by split <;> omega)
          refine j_iload (y := yiX8_init) dX8_init_151 rfl ?_
          refine j_if_eq (y := yiX8_init) 164 dX8_init_153 (by decide) ⟨by omega, by omega⟩ (fun c153 => ?_) (fun c153 => ?_)
          · refine j_iconst (y := yiX8_init) dX8_init_164 ?_
            exact J165 _ (by split <;> omega)
          · refine m_aload (y := yiX8_init) dX8_init_156 rfl ?_
            refine m_invV (y := yiX8_init) (rB := (RX7, TX7, 2)) [] dX8_init_158 hlq rfl q1893 q1836 q1837 q165 q1838 rfl (c_X7_minutes (d := 0) hlq) pdX7_minutes ⟨Nat.le_of_ble_eq_true rfl, by decide, by omega⟩ (kk_z fun r158 h158 q158 => ?_) kx_z
            obtain ⟨rfl, rfl⟩ := q158
            refine mw_top (x' := lm) rfl ?_
            refine m_goto (y := yiX8_init) 165 dX8_init_161 (by decide) ?_
            exact J165 _ (by split <;> omega)
        refine m_aload (y := yiX8_init) dX8_init_100 rfl ?_
        refine m_ifnull (y := yiX8_init) (x := (some lq)) 119 dX8_init_102 (by decide) (fun h9 => nomatch h9) (fun _ _ => ?_)
        refine j_iload (y := yiX8_init) dX8_init_105 rfl ?_
        refine m_aload (y := yiX8_init) dX8_init_107 rfl ?_
        refine m_invV (y := yiX8_init) (rB := (RX7, TX7, 2)) [] dX8_init_109 hlq rfl q1890 q1851 q1852 q165 q1853 rfl (c_X7_call (d := 0) hlq) pdX7_call ⟨Nat.le_of_ble_eq_true rfl, by decide, by omega⟩ (kk_z fun r109 h109 q109 => ?_) kx_z
        obtain ⟨rfl, rfl⟩ := q109
        refine mw_top (x' := lc) rfl ?_
        refine j_icmp_le (y := yiX8_init) 119 dX8_init_112 (by decide) ⟨⟨by omega, by omega⟩, ⟨by omega, by omega⟩⟩ (fun c112 => ?_) (fun c112 => ?_)
        · refine j_iconst (y := yiX8_init) dX8_init_119 ?_
          exact J120 _ (by omega)
        · refine j_iconst (y := yiX8_init) dX8_init_115 ?_
          refine m_goto (y := yiX8_init) 120 dX8_init_116 (by decide) ?_
          exact J120 _ (by omega)
      refine m_aload (y := yiX8_init) dX8_init_78 rfl ?_
      refine m_ifnull (y := yiX8_init) (x := (some lq)) 97 dX8_init_80 (by decide) (fun h9 => nomatch h9) (fun _ _ => ?_)
      refine j_iload (y := yiX8_init) dX8_init_83 rfl ?_
      refine m_aload (y := yiX8_init) dX8_init_85 rfl ?_
      refine m_invV (y := yiX8_init) (rB := (RX7, TX7, 2)) [] dX8_init_87 hlq rfl q1890 q1851 q1852 q165 q1853 rfl (c_X7_call (d := 0) hlq) pdX7_call ⟨Nat.le_of_ble_eq_true rfl, by decide, by omega⟩ (kk_z fun r87 h87 q87 => ?_) kx_z
      obtain ⟨rfl, rfl⟩ := q87
      refine mw_top (x' := lc) rfl ?_
      refine j_icmp_lt (y := yiX8_init) 97 dX8_init_90 (by decide) ⟨⟨by omega, by omega⟩, ⟨by omega, by omega⟩⟩ (fun c90 => ?_) (fun c90 => ?_)
      · refine j_iconst (y := yiX8_init) dX8_init_97 ?_
        exact J98 _ (by omega)
      · refine j_iconst (y := yiX8_init) dX8_init_93 ?_
        refine m_goto (y := yiX8_init) 98 dX8_init_94 (by decide) ?_
        exact J98 _ (by omega)
  exact L56 _ _ (fun _ => 0) (fun _ => 0) (fun _ => 0) _ rfl hq ho hlo hle hlq fg4 fg6 fg8 fR (by omega) (fun c a b => by omega) (by omega)
theorem c_X10_copy (K : KT) (d : Nat) (h : MH) (x : Nat) (cut : Int) (wy q A B R : Nat) (chg : Int) (fa fb fr : Int → Int) (hd : 3 ≤ d) (hL : LbC K h x cut wy q A B R chg fa fb fr) (hz : h.1 + 4 ≤ kC K ∧ h.2.1 + 43 ≤ kS K) : Mt K yiX10_copy d [.ref q] h (Rr fun r h' => h.1 = r ∧ (∃ ga gb gr, LbC K h' x cut wy h.1 (h.1 + 1) (h.1 + 2) (h.1 + 3) 0 ga gb gr ∧ ∀ i, 0 ≤ i → i < 12 → ga i = fa i ∧ gb i = fb i ∧ gr i = fr i) ∧ h'.1 = h.1 + 4 ∧ h'.2.1 = h.2.1 + 43 ∧ ∀ b, b < h.1 → h'.2.2 b = h.2.2 b) := by
  obtain ⟨hq, hA, hB, hR⟩ := hL
  refine mt_ofQ (by decide) (Nat.le_of_ble_eq_true rfl) (fun Q hQ => ?_)
  show MW K yiX10_copy d h 0 [some (.ref q), none] [] Q
  refine mw_wf (fun hwf => ?_)
  have l_hq := hwf _ _ hq
  have l_hA := hwf _ _ hA
  have l_hB := hwf _ _ hB
  have l_hR := hwf _ _ hR
  have fT : ∀ b, (b < h.1) → h.2.2 b = h.2.2 b := fun _ _ => rfl
  refine m_new (y := yiX10_copy) kc_9 7 dX10_copy_0 q2323 q2101 q175 _ rfl ⟨by omega, by omega⟩ (hp_new fun g1 g1H => ?_)
  have hq : g1.2.2 q = some (true, .inr (9, [(vi cut), (.ref wy), (.ref A), (.ref B), (.ref R), (vi chg), (.ref x)])) := (g1H.2.2.2 _ (by omega)).trans hq
  have hA : g1.2.2 A = some (true, ia K 12 fa) := (g1H.2.2.2 _ (by omega)).trans hA
  have hB : g1.2.2 B = some (true, ia K 12 fb) := (g1H.2.2.2 _ (by omega)).trans hB
  have hR : g1.2.2 R = some (true, ia K 12 fr) := (g1H.2.2.2 _ (by omega)).trans hR
  have fT : ∀ b, (b < h.1) → g1.2.2 b = h.2.2 b := fun b hb => (g1H.2.2.2 b (by omega)).trans (fT b hb)
  have fg1 : g1.2.2 h.1 = some (true, .inr (9, [(vi 0), .null, .null, .null, .null, (vi 0), .null])) := g1H.2.2.1
  have g11 := g1H.1
  have g12 := g1H.2.1
  refine m_dup (y := yiX10_copy) dX10_copy_3 rfl ?_
  refine m_aload_n (y := yiX10_copy) dX10_copy_4 rfl ?_
  refine m_getfS (y := yiX10_copy) kc_9 6 (by decide) dX10_copy_5 q2119 hq rfl ?_
  refine m_aload_n (y := yiX10_copy) dX10_copy_8 rfl ?_
  refine m_getfS (y := yiX10_copy) kc_9 0 (by decide) dX10_copy_9 q2110 hq rfl ?_
  refine m_aload_n (y := yiX10_copy) dX10_copy_12 rfl ?_
  refine m_getfS (y := yiX10_copy) kc_9 1 (by decide) dX10_copy_13 q2111 hq rfl ?_
  refine m_invI (y := yiX10_copy) [(.ref x), (vi cut), (.ref wy)] dX10_copy_16 q2324 q2103 q175 q2104 rfl rfl (c_X10_init K 2 g1 x wy h.1 cut (by omega) fg1 ⟨by omega, by omega⟩) pdX10_init ⟨Nat.le_of_ble_eq_true rfl, by decide, by omega⟩ (kk_v fun h16 q16 => ?_) kx_v
  obtain ⟨ga, gb, gr, ⟨u1, u2, u3, u4⟩, u5, u6, u7, u8⟩ := q16
  have hq : h16.2.2 q = some (true, .inr (9, [(vi cut), (.ref wy), (.ref A), (.ref B), (.ref R), (vi chg), (.ref x)])) := (u8 _ (by omega)).trans hq
  have hA : h16.2.2 A = some (true, ia K 12 fa) := (u8 _ (by omega)).trans hA
  have hB : h16.2.2 B = some (true, ia K 12 fb) := (u8 _ (by omega)).trans hB
  have hR : h16.2.2 R = some (true, ia K 12 fr) := (u8 _ (by omega)).trans hR
  have fT : ∀ b, (b < h.1) → h16.2.2 b = h.2.2 b := fun b hb => (u8 b (by omega)).trans (fT b hb)
  refine mw_wf (fun hwf16 => ?_)
  have l_u116 := hwf16 _ _ u1
  have l_u216 := hwf16 _ _ u2
  have l_u316 := hwf16 _ _ u3
  have l_u416 := hwf16 _ _ u4
  refine m_astore_n (y := yiX10_copy) dX10_copy_19 (by decide) rfl ?_
  show MW K yiX10_copy d h16 20 [some (.ref q), some (.ref h.1)] [] Q
  refine m_aload_n (y := yiX10_copy) dX10_copy_20 rfl ?_
  refine m_getfS (y := yiX10_copy) kc_9 2 (by decide) dX10_copy_21 q2112 hq rfl ?_
  refine j_iconst (y := yiX10_copy) dX10_copy_24 ?_
  refine m_aload_n (y := yiX10_copy) dX10_copy_25 rfl ?_
  refine m_getfS (y := yiX10_copy) kc_9 2 (by decide) dX10_copy_26 q2112 u1 rfl ?_
  refine j_iconst (y := yiX10_copy) dX10_copy_29 ?_
  refine j_bipush (y := yiX10_copy) dX10_copy_30 (by decide) ?_
  refine h_copyi (y := yiX10_copy) dX10_copy_32 q2325 hA u2 ⟨by omega, by omega⟩ ⟨by omega, by omega, by omega⟩ (by omega) (by omega) ⟨Nat.le_of_ble_eq_true rfl, by omega⟩ (hp_put fun g2 g2H => ?_)
  have hq : g2.2.2 q = some (true, .inr (9, [(vi cut), (.ref wy), (.ref A), (.ref B), (.ref R), (vi chg), (.ref x)])) := (g2H.2.2.2 _ (by omega)).trans hq
  have hA : g2.2.2 A = some (true, ia K 12 fa) := (g2H.2.2.2 _ (by omega)).trans hA
  have hB : g2.2.2 B = some (true, ia K 12 fb) := (g2H.2.2.2 _ (by omega)).trans hB
  have hR : g2.2.2 R = some (true, ia K 12 fr) := (g2H.2.2.2 _ (by omega)).trans hR
  have u1 : g2.2.2 h.1 = some (true, .inr (9, [(vi cut), (.ref wy), (.ref g1.1), (.ref (g1.1 + 1)), (.ref (g1.1 + 2)), (vi 0), (.ref x)])) := (g2H.2.2.2 _ (by omega)).trans u1
  have u3 : g2.2.2 (g1.1 + 1) = some (true, ia K 12 gb) := (g2H.2.2.2 _ (by omega)).trans u3
  have u4 : g2.2.2 (g1.1 + 2) = some (true, ia K 12 gr) := (g2H.2.2.2 _ (by omega)).trans u4
  have fT : ∀ b, (b < h.1) → g2.2.2 b = h.2.2 b := fun b hb => (g2H.2.2.2 b (by omega)).trans (fT b hb)
  have u2 : g2.2.2 g1.1 = some (true, ia K 12 (cpq fa ga 0 0 12)) := g2H.2.2.1
  have g21 := g2H.1
  have g22 := g2H.2.1
  refine m_aload_n (y := yiX10_copy) dX10_copy_35 rfl ?_
  refine m_getfS (y := yiX10_copy) kc_9 3 (by decide) dX10_copy_36 q2114 hq rfl ?_
  refine j_iconst (y := yiX10_copy) dX10_copy_39 ?_
  refine m_aload_n (y := yiX10_copy) dX10_copy_40 rfl ?_
  refine m_getfS (y := yiX10_copy) kc_9 3 (by decide) dX10_copy_41 q2114 u1 rfl ?_
  refine j_iconst (y := yiX10_copy) dX10_copy_44 ?_
  refine j_bipush (y := yiX10_copy) dX10_copy_45 (by decide) ?_
  refine h_copyi (y := yiX10_copy) dX10_copy_47 q2325 hB u3 ⟨by omega, by omega⟩ ⟨by omega, by omega, by omega⟩ (by omega) (by omega) ⟨Nat.le_of_ble_eq_true rfl, by omega⟩ (hp_put fun g3 g3H => ?_)
  have hq : g3.2.2 q = some (true, .inr (9, [(vi cut), (.ref wy), (.ref A), (.ref B), (.ref R), (vi chg), (.ref x)])) := (g3H.2.2.2 _ (by omega)).trans hq
  have hA : g3.2.2 A = some (true, ia K 12 fa) := (g3H.2.2.2 _ (by omega)).trans hA
  have hB : g3.2.2 B = some (true, ia K 12 fb) := (g3H.2.2.2 _ (by omega)).trans hB
  have hR : g3.2.2 R = some (true, ia K 12 fr) := (g3H.2.2.2 _ (by omega)).trans hR
  have u1 : g3.2.2 h.1 = some (true, .inr (9, [(vi cut), (.ref wy), (.ref g1.1), (.ref (g1.1 + 1)), (.ref (g1.1 + 2)), (vi 0), (.ref x)])) := (g3H.2.2.2 _ (by omega)).trans u1
  have u2 : g3.2.2 g1.1 = some (true, ia K 12 (cpq fa ga 0 0 12)) := (g3H.2.2.2 _ (by omega)).trans u2
  have u4 : g3.2.2 (g1.1 + 2) = some (true, ia K 12 gr) := (g3H.2.2.2 _ (by omega)).trans u4
  have fT : ∀ b, (b < h.1) → g3.2.2 b = h.2.2 b := fun b hb => (g3H.2.2.2 b (by omega)).trans (fT b hb)
  have u3 : g3.2.2 (g1.1 + 1) = some (true, ia K 12 (cpq fb gb 0 0 12)) := g3H.2.2.1
  have g31 := g3H.1
  have g32 := g3H.2.1
  refine m_aload_n (y := yiX10_copy) dX10_copy_50 rfl ?_
  refine m_getfS (y := yiX10_copy) kc_9 4 (by decide) dX10_copy_51 q2116 hq rfl ?_
  refine j_iconst (y := yiX10_copy) dX10_copy_54 ?_
  refine m_aload_n (y := yiX10_copy) dX10_copy_55 rfl ?_
  refine m_getfS (y := yiX10_copy) kc_9 4 (by decide) dX10_copy_56 q2116 u1 rfl ?_
  refine j_iconst (y := yiX10_copy) dX10_copy_59 ?_
  refine j_bipush (y := yiX10_copy) dX10_copy_60 (by decide) ?_
  refine h_copyi (y := yiX10_copy) dX10_copy_62 q2325 hR u4 ⟨by omega, by omega⟩ ⟨by omega, by omega, by omega⟩ (by omega) (by omega) ⟨Nat.le_of_ble_eq_true rfl, by omega⟩ (hp_put fun g4 g4H => ?_)
  have hq : g4.2.2 q = some (true, .inr (9, [(vi cut), (.ref wy), (.ref A), (.ref B), (.ref R), (vi chg), (.ref x)])) := (g4H.2.2.2 _ (by omega)).trans hq
  have hA : g4.2.2 A = some (true, ia K 12 fa) := (g4H.2.2.2 _ (by omega)).trans hA
  have hB : g4.2.2 B = some (true, ia K 12 fb) := (g4H.2.2.2 _ (by omega)).trans hB
  have hR : g4.2.2 R = some (true, ia K 12 fr) := (g4H.2.2.2 _ (by omega)).trans hR
  have u1 : g4.2.2 h.1 = some (true, .inr (9, [(vi cut), (.ref wy), (.ref g1.1), (.ref (g1.1 + 1)), (.ref (g1.1 + 2)), (vi 0), (.ref x)])) := (g4H.2.2.2 _ (by omega)).trans u1
  have u2 : g4.2.2 g1.1 = some (true, ia K 12 (cpq fa ga 0 0 12)) := (g4H.2.2.2 _ (by omega)).trans u2
  have u3 : g4.2.2 (g1.1 + 1) = some (true, ia K 12 (cpq fb gb 0 0 12)) := (g4H.2.2.2 _ (by omega)).trans u3
  have fT : ∀ b, (b < h.1) → g4.2.2 b = h.2.2 b := fun b hb => (g4H.2.2.2 b (by omega)).trans (fT b hb)
  have u4 : g4.2.2 (g1.1 + 2) = some (true, ia K 12 (cpq fr gr 0 0 12)) := g4H.2.2.1
  have g41 := g4H.1
  have g42 := g4H.2.1
  refine m_aload_n (y := yiX10_copy) dX10_copy_65 rfl ?_
  subst hQ; exact m_aret (y := yiX10_copy) (x := (some h.1)) dX10_copy_66 rfl (Or.inl ⟨_, rfl⟩) ⟨h.1, rfl, ⟨rfl, ⟨_, _, _, ⟨by { rw [show h.1 + 1 = g1.1 by omega, show h.1 + 2 = g1.1 + 1 by omega, show h.1 + 3 = g1.1 + 2 by omega]; exact u1 }, by { rw [show h.1 + 1 = g1.1 by omega]; exact u2 }, by { rw [show h.1 + 2 = g1.1 + 1 by omega]; exact u3 }, by { rw [show h.1 + 3 = g1.1 + 2 by omega]; exact u4 }⟩, fun i a b => ⟨cpq_0 a b, cpq_0 a b, cpq_0 a b⟩⟩, by omega, by omega, fT⟩⟩
