/-! Lastbus.closedWalks -/
def RowP (K : KT) (h : MH) (B : Nat) (G : Int → Int → Int) : Prop := ∀ i : Nat, i < 12 → h.2.2 (B + 1 + i) = some (true, ia K 12 (G (i : Int)))
def gup (G : Int → Int → Int) (a b v : Int) : Int → Int → Int := fun i => if i = a then upz (G a) b v else G i
def rlG (G : Int → Int → Int) (f : Int → Int) : Prop := ∀ i j, 0 ≤ i → i < 12 → 0 ≤ j → j < 12 → G i j = f (12 * i + j)
theorem rlG.up {G : Int → Int → Int} {f : Int → Int} {a b v : Int} (h : rlG G f) (ha : 0 ≤ a ∧ a < 12) (hb : 0 ≤ b ∧ b < 12) : rlG (gup G a b v) (upz f (12 * a + b) v) := by
  intro i j i0 i1 j0 j1
  unfold gup upz
  by_cases e : i = a
  · subst e
    rw [if_pos rfl]
    by_cases e2 : j = b
    · rw [if_pos e2, if_pos (by omega)]
    · rw [if_neg e2, if_neg (by omega)]; exact h i j i0 i1 j0 j1
  · rw [if_neg e, if_neg (by omega)]; exact h i j i0 i1 j0 j1
theorem RowP.up {K : KT} {g g' : MH} {B : Nat} {G : Int → Int → Int} {a b v : Int} (h : RowP K g B G) (ha : 0 ≤ a) (e1 : g'.2.2 (B + 1 + a.toNat) = some (true, ia K 12 (upz (G a) b v))) (e2 : ∀ q, q ≠ B + 1 + a.toNat → g'.2.2 q = g.2.2 q) : RowP K g' B (gup G a b v) := by
  intro i hi
  unfold gup
  by_cases e : (i : Int) = a
  · rw [if_pos e, show i = a.toNat by omega]; exact e1
  · rw [if_neg e, e2 _ (by omega)]; exact h i hi
theorem RowP.at {K : KT} {g : MH} {B : Nat} {G : Int → Int → Int} (h : RowP K g B G) {i : Int} (i0 : 0 ≤ i) (i1 : i < 12) : g.2.2 (B + 1 + i.toNat) = some (true, ia K 12 (G i)) := by
  have := h i.toNat (by omega)
  rw [show ((i.toNat : Nat) : Int) = i by omega] at this
  exact this
theorem c_X1_closedWalks (K : KT) (d : Nat) (h : MH) (x ch wk sv tr lt ws tx : Nat) (n fl cut : Int) (kp : Value) (T : Int → Int → Int) (told : Int → Int) (hd : 1 ≤ d) (hx : h.2.2 x = some (true, .inr (0, [.ref ch, .ref wk, vi n, .ref sv, .ref tr, .ref lt, .ref ws, .ref tx, vi fl, kp]))) (hW : WyC K h wk T) (hT : rlG T told) (ht : okA 3 told) (hn : 0 ≤ n ∧ n ≤ 12) (hc : -1 ≤ cut ∧ cut ≤ 11) (hz : h.1 + 13 ≤ kC K ∧ h.2.1 + 156 ≤ kS K) : Mt K yiX1_closedWalks d [.ref x, vi cut] h (Rr fun r h' => h.1 = r ∧ h'.1 = h.1 + 13 ∧ h'.2.1 = h.2.1 + 156 ∧ (∀ b, b < h.1 → h'.2.2 b = h.2.2 b) ∧ ∃ W, WyC K (rs h.1 (h.1 + 13) h') h.1 W ∧ rlG W (flQ n told cut) ∧ bW W) := by
  obtain ⟨wr, fw, hwk, hwr⟩ := hW
  refine mt_ofQ (by decide) (Nat.le_of_ble_eq_true rfl) (fun Q hQ => ?_)
  show MW K yiX1_closedWalks d h 0 [some (.ref x), some (vi cut), none, none, none, none] [] Q
  refine mw_wf (fun hwf => ?_)
  have l_hx := hwf _ _ hx
  have l_hwk := hwf _ _ hwk
  have fR : ∀ b, (b < h.1) → h.2.2 b = h.2.2 b := fun _ _ => rfl
  refine j_bipush (y := yiX1_closedWalks) dX1_closedWalks_0 (by decide) ?_
  refine j_bipush (y := yiX1_closedWalks) dX1_closedWalks_2 (by decide) ?_
  have mu4 : ((12 : Int).toNat) * ((12 : Int).toNat) = 144 := rfl
  refine m_multi (y := yiX1_closedWalks) dX1_closedWalks_4 q197 ⟨by omega, by omega⟩ ⟨by omega, by omega⟩ ⟨by omega, by omega⟩ (fun g1 g1Q => ?_)
  obtain ⟨g11, g12, ⟨fg1, mg1, eg1⟩, rg1, vg1⟩ := g1Q
  have hx : g1.2.2 x = some (true, .inr (0, [(.ref ch), (.ref wk), (vi n), (.ref sv), (.ref tr), (.ref lt), (.ref ws), (.ref tx), (vi fl), kp])) := (vg1 _ (by omega)).trans hx
  have hwk : g1.2.2 wk = some (true, aaE K 12 fw) := (vg1 _ (by omega)).trans hwk
  have fR : ∀ b, (b < h.1) → g1.2.2 b = h.2.2 b := fun b hb => (vg1 b (by omega)).trans (fR b hb)
  have mg1 : g1.2.2 h.1 = some (true, aaE K 12 fg1) := mg1
  refine m_astore_n (y := yiX1_closedWalks) dX1_closedWalks_8 (by decide) rfl ?_
  show MW K yiX1_closedWalks d g1 9 [some (.ref x), some (vi cut), some (.ref h.1), none, none, none] [] Q
  refine j_iconst (y := yiX1_closedWalks) dX1_closedWalks_9 ?_
  refine j_istore_n (y := yiX1_closedWalks) [some (.ref x), some (vi cut), some (.ref h.1), some (vi 0), none, none] dX1_closedWalks_10 (by decide) rfl rfl ?_
  have L11 : ∀ (N : Nat) (a : Int) (G : Int → Int → Int) (g : MH), (n - a).toNat = N → (g.2.2 x = some (true, .inr (0, [(.ref ch), (.ref wk), (vi n), (.ref sv), (.ref tr), (.ref lt), (.ref ws), (.ref tx), (vi fl), kp]))) → (g.2.2 wk = some (true, aaE K 12 fw)) → (g.2.2 h.1 = some (true, aaE K 12 fg1)) → (∀ b, (b < h.1) → g.2.2 b = h.2.2 b) → (0 ≤ a ∧ a ≤ n) → (RowP K g h.1 G) → (rlG G (wini n told cut a 0 (fun _ => 0))) → (g.1 = g1.1 ∧ g.2.1 = g1.2.1) → MW K yiX1_closedWalks d g 11 [some (.ref x), some (vi cut), some (.ref h.1), some (vi a), none, none] [] Q := by
    intro N
    induction N using Nat.strongRecOn with
    | _ N ih11 =>
    intro a G g hN11 hx hwk mg1 fR ha hr hG hs
    refine mw_wf (fun hwf11 => ?_)
    have l_hx11 := hwf11 _ _ hx
    have l_hwk11 := hwf11 _ _ hwk
    have l_mg111 := hwf11 _ _ mg1
    refine j_iload_n (y := yiX1_closedWalks) dX1_closedWalks_11 rfl ?_
    refine m_aload_n (y := yiX1_closedWalks) dX1_closedWalks_12 rfl ?_
    refine m_getfS (y := yiX1_closedWalks) kc_0 2 (by decide) dX1_closedWalks_13 q300 hx rfl ?_
    refine j_icmp_ge (y := yiX1_closedWalks) 108 dX1_closedWalks_16 (by decide) ⟨⟨by omega, by omega⟩, ⟨by omega, by omega⟩⟩ (fun c16 => ?_) (fun c16 => ?_)
    · have han : a = n := by omega
      rw [han] at hG
      refine j_iconst (y := yiX1_closedWalks) dX1_closedWalks_108 ?_
      refine j_istore_n (y := yiX1_closedWalks) [some (.ref x), some (vi cut), some (.ref h.1), some (vi 0), none, none] dX1_closedWalks_109 (by decide) rfl rfl ?_
      have L110 : ∀ (N : Nat) (k : Int) (G3 : Int → Int → Int) (g3 : MH), (n - k).toNat = N → (g3.2.2 x = some (true, .inr (0, [(.ref ch), (.ref wk), (vi n), (.ref sv), (.ref tr), (.ref lt), (.ref ws), (.ref tx), (vi fl), kp]))) → (g3.2.2 h.1 = some (true, aaE K 12 fg1)) → (∀ b, (b < h.1) → g3.2.2 b = h.2.2 b) → (0 ≤ k ∧ k ≤ n) → (RowP K g3 h.1 G3) → (rlG G3 (fwK n.toNat k.toNat (wini n told cut n 0 (fun _ => 0)))) → (okA 4 (fwK n.toNat k.toNat (wini n told cut n 0 (fun _ => 0)))) → (g3.1 = g1.1 ∧ g3.2.1 = g1.2.1) → MW K yiX1_closedWalks d g3 110 [some (.ref x), some (vi cut), some (.ref h.1), some (vi k), none, none] [] Q := by
        intro N
        induction N using Nat.strongRecOn with
        | _ N ih110 =>
        intro k G3 g3 hN110 hx mg1 fR hk hr3 hG3 hok3 hs3
        refine mw_wf (fun hwf110 => ?_)
        have l_hx110 := hwf110 _ _ hx
        have l_mg1110 := hwf110 _ _ mg1
        refine j_iload_n (y := yiX1_closedWalks) dX1_closedWalks_110 rfl ?_
        refine m_aload_n (y := yiX1_closedWalks) dX1_closedWalks_111 rfl ?_
        refine m_getfS (y := yiX1_closedWalks) kc_0 2 (by decide) dX1_closedWalks_112 q300 hx rfl ?_
        refine j_icmp_ge (y := yiX1_closedWalks) 190 dX1_closedWalks_115 (by decide) ⟨⟨by omega, by omega⟩, ⟨by omega, by omega⟩⟩ (fun c115 => ?_) (fun c115 => ?_)
        · refine m_aload_n (y := yiX1_closedWalks) dX1_closedWalks_190 rfl ?_
          subst hQ; exact m_aret (y := yiX1_closedWalks) (x := (some h.1)) dX1_closedWalks_191 rfl (Or.inr ⟨_, rfl⟩) ⟨h.1, rfl, ⟨rfl, by omega, by omega, fR, G3, ⟨fun i => h.1 + 1 + i.toNat, fg1, rs_mk mg1 (Nat.le_refl _) (by omega), fun i i0 i1 => ⟨eg1 i i0 i1, rs_mk (hr3.at i0 i1) (by dsimp only; omega) (by dsimp only; omega)⟩⟩, by { rw [show k.toNat = n.toNat by omega] at hG3; exact hG3 }, fun i j i0 i1 j0 j1 => by { rw [hG3 i j i0 i1 j0 j1]; exact oa4 hok3 (12 * i + j) (by omega) (by omega) }⟩⟩
        · refine j_iconst (y := yiX1_closedWalks) dX1_closedWalks_118 ?_
          refine j_istore (y := yiX1_closedWalks) [some (.ref x), some (vi cut), some (.ref h.1), some (vi k), some (vi 0), none] dX1_closedWalks_119 (by decide) rfl rfl ?_
          have L121 : ∀ (N : Nat) (a2 : Int) (G4 : Int → Int → Int) (g4 : MH), (n - a2).toNat = N → (g4.2.2 x = some (true, .inr (0, [(.ref ch), (.ref wk), (vi n), (.ref sv), (.ref tr), (.ref lt), (.ref ws), (.ref tx), (vi fl), kp]))) → (g4.2.2 h.1 = some (true, aaE K 12 fg1)) → (∀ b, (b < h.1) → g4.2.2 b = h.2.2 b) → (0 ≤ a2 ∧ a2 ≤ n) → (RowP K g4 h.1 G4) → (rlG G4 (fwA n.toNat k a2.toNat (fwK n.toNat k.toNat (wini n told cut n 0 (fun _ => 0))))) → (okA 4 (fwA n.toNat k a2.toNat (fwK n.toNat k.toNat (wini n told cut n 0 (fun _ => 0))))) → (g4.1 = g1.1 ∧ g4.2.1 = g1.2.1) → MW K yiX1_closedWalks d g4 121 [some (.ref x), some (vi cut), some (.ref h.1), some (vi k), some (vi a2), none] [] Q := by
            intro N
            induction N using Nat.strongRecOn with
            | _ N ih121 =>
            intro a2 G4 g4 hN121 hx mg1 fR ha2 hr4 hG4 hok4 hs4
            refine mw_wf (fun hwf121 => ?_)
            have l_hx121 := hwf121 _ _ hx
            have l_mg1121 := hwf121 _ _ mg1
            refine j_iload (y := yiX1_closedWalks) dX1_closedWalks_121 rfl ?_
            refine m_aload_n (y := yiX1_closedWalks) dX1_closedWalks_123 rfl ?_
            refine m_getfS (y := yiX1_closedWalks) kc_0 2 (by decide) dX1_closedWalks_124 q300 hx rfl ?_
            refine j_icmp_ge (y := yiX1_closedWalks) 184 dX1_closedWalks_127 (by decide) ⟨⟨by omega, by omega⟩, ⟨by omega, by omega⟩⟩ (fun c127 => ?_) (fun c127 => ?_)
            · refine j_iinc (y := yiX1_closedWalks) [some (.ref x), some (vi cut), some (.ref h.1), some (vi (k + 1)), some (vi a2), none] dX1_closedWalks_184 rfl (by decide) rfl rfl ?_
              refine m_goto (y := yiX1_closedWalks) 110 dX1_closedWalks_187 (by decide) ?_
              refine mw_forget 4 ?_
              exact ih110 _ (by omega) _ _ _ rfl hx mg1 fR (by omega) hr4 (by { rw [fwK_s (by omega)]; rw [show n.toNat = a2.toNat by omega] at hG4 ⊢; exact hG4 }) (by { rw [fwK_s (by omega)]; rw [show n.toNat = a2.toNat by omega] at hok4 ⊢; exact hok4 }) hs4
            · refine j_iconst (y := yiX1_closedWalks) dX1_closedWalks_130 ?_
              refine j_istore (y := yiX1_closedWalks) [some (.ref x), some (vi cut), some (.ref h.1), some (vi k), some (vi a2), some (vi 0)] dX1_closedWalks_131 (by decide) rfl rfl ?_
              have L133 : ∀ (N : Nat) (b2 : Int) (G5 : Int → Int → Int) (g5 : MH), (n - b2).toNat = N → (g5.2.2 x = some (true, .inr (0, [(.ref ch), (.ref wk), (vi n), (.ref sv), (.ref tr), (.ref lt), (.ref ws), (.ref tx), (vi fl), kp]))) → (g5.2.2 h.1 = some (true, aaE K 12 fg1)) → (∀ b, (b < h.1) → g5.2.2 b = h.2.2 b) → (0 ≤ b2 ∧ b2 ≤ n) → (RowP K g5 h.1 G5) → (rlG G5 (fwB k a2 b2.toNat (fwA n.toNat k a2.toNat (fwK n.toNat k.toNat (wini n told cut n 0 (fun _ => 0)))))) → (okA 4 (fwB k a2 b2.toNat (fwA n.toNat k a2.toNat (fwK n.toNat k.toNat (wini n told cut n 0 (fun _ => 0)))))) → (g5.1 = g1.1 ∧ g5.2.1 = g1.2.1) → MW K yiX1_closedWalks d g5 133 [some (.ref x), some (vi cut), some (.ref h.1), some (vi k), some (vi a2), some (vi b2)] [] Q := by
                intro N
                induction N using Nat.strongRecOn with
                | _ N ih133 =>
                intro b2 G5 g5 hN133 hx mg1 fR hb2 hr5 hG5 hok5 hs5
                refine mw_wf (fun hwf133 => ?_)
                have l_hx133 := hwf133 _ _ hx
                have l_mg1133 := hwf133 _ _ mg1
                refine j_iload (y := yiX1_closedWalks) dX1_closedWalks_133 rfl ?_
                refine m_aload_n (y := yiX1_closedWalks) dX1_closedWalks_135 rfl ?_
                refine m_getfS (y := yiX1_closedWalks) kc_0 2 (by decide) dX1_closedWalks_136 q300 hx rfl ?_
                refine j_icmp_ge (y := yiX1_closedWalks) 178 dX1_closedWalks_139 (by decide) ⟨⟨by omega, by omega⟩, ⟨by omega, by omega⟩⟩ (fun c139 => ?_) (fun c139 => ?_)
                · refine j_iinc (y := yiX1_closedWalks) [some (.ref x), some (vi cut), some (.ref h.1), some (vi k), some (vi (a2 + 1)), some (vi b2)] dX1_closedWalks_178 rfl (by decide) rfl rfl ?_
                  refine m_goto (y := yiX1_closedWalks) 121 dX1_closedWalks_181 (by decide) ?_
                  refine mw_forget 5 ?_
                  exact ih121 _ (by omega) _ _ _ rfl hx mg1 fR (by omega) hr5 (by { rw [fwA_s (by omega)]; rw [show b2.toNat = n.toNat by omega] at hG5; exact hG5 }) (by { rw [fwA_s (by omega)]; rw [show b2.toNat = n.toNat by omega] at hok5; exact hok5 }) hs5
                · have gak := hG5 a2 k (by omega) (by omega) (by omega) (by omega)
                  have gkb := hG5 k b2 (by omega) (by omega) (by omega) (by omega)
                  have gab := hG5 a2 b2 (by omega) (by omega) (by omega) (by omega)
                  have o1 := oa4 hok5 (12 * a2 + k) (by omega) (by omega)
                  have o2 := oa4 hok5 (12 * k + b2) (by omega) (by omega)
                  have o3 := oa4 hok5 (12 * a2 + b2) (by omega) (by omega)
                  refine m_aload_n (y := yiX1_closedWalks) dX1_closedWalks_142 rfl ?_
                  refine j_iload (y := yiX1_closedWalks) dX1_closedWalks_143 rfl ?_
                  refine h_aald6 (y := yiX1_closedWalks) dX1_closedWalks_145 mg1 ⟨by omega, by omega⟩ (by omega) ?_
                  rw [eg1 a2 (by omega) (by omega)]
                  show MW K yiX1_closedWalks d g5 146 [some (.ref x), some (vi cut), some (.ref h.1), some (vi k), some (vi a2), some (vi b2)] [(.ref (h.1 + 1 + a2.toNat))] Q
                  refine j_iload (y := yiX1_closedWalks) dX1_closedWalks_146 rfl ?_
                  refine m_aload_n (y := yiX1_closedWalks) dX1_closedWalks_148 rfl ?_
                  refine j_iload (y := yiX1_closedWalks) dX1_closedWalks_149 rfl ?_
                  refine h_aald6 (y := yiX1_closedWalks) dX1_closedWalks_151 mg1 ⟨by omega, by omega⟩ (by omega) ?_
                  rw [eg1 a2 (by omega) (by omega)]
                  show MW K yiX1_closedWalks d g5 152 [some (.ref x), some (vi cut), some (.ref h.1), some (vi k), some (vi a2), some (vi b2)] [(.ref (h.1 + 1 + a2.toNat)), (vi b2), (.ref (h.1 + 1 + a2.toNat))] Q
                  refine j_iload (y := yiX1_closedWalks) dX1_closedWalks_152 rfl ?_
                  have hra : g5.2.2 (h.1 + 1 + a2.toNat) = some (true, ia K 12 (G5 a2)) := hr5.at (by omega) (by omega)
                  have l_hra := hwf133 _ _ hra
                  refine j_iald (y := yiX1_closedWalks) dX1_closedWalks_154 hra (by omega) ⟨by omega, by omega⟩ ?_
                  refine m_aload_n (y := yiX1_closedWalks) dX1_closedWalks_155 rfl ?_
                  refine j_iload (y := yiX1_closedWalks) dX1_closedWalks_156 rfl ?_
                  refine h_aald6 (y := yiX1_closedWalks) dX1_closedWalks_158 mg1 ⟨by omega, by omega⟩ (by omega) ?_
                  rw [eg1 a2 (by omega) (by omega)]
                  show MW K yiX1_closedWalks d g5 159 [some (.ref x), some (vi cut), some (.ref h.1), some (vi k), some (vi a2), some (vi b2)] [(.ref (h.1 + 1 + a2.toNat)), (vi ((G5 a2) b2)), (vi b2), (.ref (h.1 + 1 + a2.toNat))] Q
                  refine j_iload_n (y := yiX1_closedWalks) dX1_closedWalks_159 rfl ?_
                  refine j_iald (y := yiX1_closedWalks) dX1_closedWalks_160 hra (by omega) ⟨by omega, by omega⟩ ?_
                  refine m_aload_n (y := yiX1_closedWalks) dX1_closedWalks_161 rfl ?_
                  refine j_iload_n (y := yiX1_closedWalks) dX1_closedWalks_162 rfl ?_
                  refine h_aald6 (y := yiX1_closedWalks) dX1_closedWalks_163 mg1 ⟨by omega, by omega⟩ (by omega) ?_
                  rw [eg1 k (by omega) (by omega)]
                  show MW K yiX1_closedWalks d g5 164 [some (.ref x), some (vi cut), some (.ref h.1), some (vi k), some (vi a2), some (vi b2)] [(.ref (h.1 + 1 + k.toNat)), (vi ((G5 a2) k)), (vi ((G5 a2) b2)), (vi b2), (.ref (h.1 + 1 + a2.toNat))] Q
                  refine j_iload (y := yiX1_closedWalks) dX1_closedWalks_164 rfl ?_
                  have hrk : g5.2.2 (h.1 + 1 + k.toNat) = some (true, ia K 12 (G5 k)) := hr5.at (by omega) (by omega)
                  have l_hrk := hwf133 _ _ hrk
                  refine j_iald (y := yiX1_closedWalks) dX1_closedWalks_166 hrk (by omega) ⟨by omega, by omega⟩ ?_
                  refine j_iadd (y := yiX1_closedWalks) dX1_closedWalks_167 ?_
                  refine m_mmin (y := yiX1_closedWalks) dX1_closedWalks_168 q921 q404 q141 q405 ⟨⟨by omega, by omega⟩, ⟨by omega, by omega⟩⟩ ⟨Nat.le_of_ble_eq_true rfl, by omega⟩ ?_
                  refine j_iast (y := yiX1_closedWalks) dX1_closedWalks_171 hra (by omega) ⟨by omega, by omega⟩ (hp_put fun g2 g2H => ?_)
                  have hx : g2.2.2 x = some (true, .inr (0, [(.ref ch), (.ref wk), (vi n), (.ref sv), (.ref tr), (.ref lt), (.ref ws), (.ref tx), (vi fl), kp])) := (g2H.2.2.2 _ (by omega)).trans hx
                  have mg1 : g2.2.2 h.1 = some (true, aaE K 12 fg1) := (g2H.2.2.2 _ (by omega)).trans mg1
                  have fR : ∀ b, (b < h.1) → g2.2.2 b = h.2.2 b := fun b hb => (g2H.2.2.2 b (by omega)).trans (fR b hb)
                  have hra : g2.2.2 (h.1 + 1 + a2.toNat) = some (true, ia K 12 (upz (G5 a2) b2 (if (((G5 a2) k) + ((G5 k) b2)) < ((G5 a2) b2) then (((G5 a2) k) + ((G5 k) b2)) else ((G5 a2) b2)))) := g2H.2.2.1
                  have g21 := g2H.1
                  have g22 := g2H.2.1
                  refine j_iinc (y := yiX1_closedWalks) [some (.ref x), some (vi cut), some (.ref h.1), some (vi k), some (vi a2), some (vi (b2 + 1))] dX1_closedWalks_172 rfl (by decide) rfl rfl ?_
                  refine m_goto (y := yiX1_closedWalks) 133 dX1_closedWalks_175 (by decide) ?_
                  exact ih133 _ (by omega) _ _ _ rfl hx mg1 fR (by omega) (hr5.up (by omega) hra (g2H.2.2.2)) (by { rw [fwB_s (by omega)]; unfold fwS; rw [← gak, ← gkb, ← gab]; exact hG5.up (by omega) (by omega) }) (by { rw [fwB_s (by omega)]; exact ok4_fw hok5 (by omega) (by omega) (by omega) }) (by omega)
              exact L133 _ _ _ _ rfl hx mg1 fR (by omega) hr4 hG4 hok4 hs4
          exact L121 _ _ _ _ rfl hx mg1 fR (by omega) hr3 hG3 hok3 hs3
      exact L110 _ _ _ _ rfl hx mg1 fR (by omega) hr hG (ok4_wini (fun q q0 q1 => by { show (0 : Int) ≤ 0 ∧ (0 : Int) ≤ 1000000; omega }) ht (by omega) (by omega)) hs
    · refine j_iconst (y := yiX1_closedWalks) dX1_closedWalks_19 ?_
      refine j_istore (y := yiX1_closedWalks) [some (.ref x), some (vi cut), some (.ref h.1), some (vi a), some (vi 0), none] dX1_closedWalks_20 (by decide) rfl rfl ?_
      have L22 : ∀ (N : Nat) (b : Int) (G2 : Int → Int → Int) (g2 : MH), (n - b).toNat = N → (g2.2.2 x = some (true, .inr (0, [(.ref ch), (.ref wk), (vi n), (.ref sv), (.ref tr), (.ref lt), (.ref ws), (.ref tx), (vi fl), kp]))) → (g2.2.2 wk = some (true, aaE K 12 fw)) → (g2.2.2 h.1 = some (true, aaE K 12 fg1)) → (∀ b, (b < h.1) → g2.2.2 b = h.2.2 b) → (0 ≤ b ∧ b ≤ n) → (RowP K g2 h.1 G2) → (rlG G2 (wini n told cut a b (fun _ => 0))) → (g2.1 = g1.1 ∧ g2.2.1 = g1.2.1) → MW K yiX1_closedWalks d g2 22 [some (.ref x), some (vi cut), some (.ref h.1), some (vi a), some (vi b), none] [] Q := by
        intro N
        induction N using Nat.strongRecOn with
        | _ N ih22 =>
        intro b G2 g2 hN22 hx hwk mg1 fR hb hr2 hG2 hs2
        refine mw_wf (fun hwf22 => ?_)
        have l_hx22 := hwf22 _ _ hx
        have l_hwk22 := hwf22 _ _ hwk
        have l_mg122 := hwf22 _ _ mg1
        refine j_iload (y := yiX1_closedWalks) dX1_closedWalks_22 rfl ?_
        refine m_aload_n (y := yiX1_closedWalks) dX1_closedWalks_24 rfl ?_
        refine m_getfS (y := yiX1_closedWalks) kc_0 2 (by decide) dX1_closedWalks_25 q300 hx rfl ?_
        refine j_icmp_ge (y := yiX1_closedWalks) 102 dX1_closedWalks_28 (by decide) ⟨⟨by omega, by omega⟩, ⟨by omega, by omega⟩⟩ (fun c28 => ?_) (fun c28 => ?_)
        · refine j_iinc (y := yiX1_closedWalks) [some (.ref x), some (vi cut), some (.ref h.1), some (vi (a + 1)), some (vi b), none] dX1_closedWalks_102 rfl (by decide) rfl rfl ?_
          refine m_goto (y := yiX1_closedWalks) 11 dX1_closedWalks_105 (by decide) ?_
          refine mw_forget 4 ?_
          exact ih11 _ (by omega) _ _ _ rfl hx hwk mg1 fR (by omega) hr2 (by { rw [← wini_next (by omega)]; exact hG2 }) (by omega)
        · have hTab := hT a b (by omega) (by omega) (by omega) (by omega)
          have htb := oa3 ht (12 * a + b) (by omega) (by omega)
          have hra0 := hr2.at (i := a) (by omega) (by omega)
          have hrw := (fR _ (hwf _ _ (hwr a (by omega) (by omega)).2)).trans (hwr a (by omega) (by omega)).2
          refine j_iload_n (y := yiX1_closedWalks) dX1_closedWalks_31 rfl ?_
          have J95 : ∀ (v : Int), (v = wval told cut a b) → MW K yiX1_closedWalks d g2 95 [some (.ref x), some (vi cut), some (.ref h.1), some (vi a), some (vi b), none] [(vi v), (vi b), (.ref (h.1 + 1 + a.toNat))] Q := by
            intro v hv
            have hra : g2.2.2 (h.1 + 1 + a.toNat) = some (true, ia K 12 (G2 a)) := hra0
            have l_hra := hwf22 _ _ hra
            refine j_iast (y := yiX1_closedWalks) dX1_closedWalks_95 hra (by omega) ⟨by omega, by omega⟩ (hp_put fun g3 g3H => ?_)
            have hx : g3.2.2 x = some (true, .inr (0, [(.ref ch), (.ref wk), (vi n), (.ref sv), (.ref tr), (.ref lt), (.ref ws), (.ref tx), (vi fl), kp])) := (g3H.2.2.2 _ (by omega)).trans hx
            have hwk : g3.2.2 wk = some (true, aaE K 12 fw) := (g3H.2.2.2 _ (by omega)).trans hwk
            have mg1 : g3.2.2 h.1 = some (true, aaE K 12 fg1) := (g3H.2.2.2 _ (by omega)).trans mg1
            have fR : ∀ b, (b < h.1) → g3.2.2 b = h.2.2 b := fun b hb => (g3H.2.2.2 b (by omega)).trans (fR b hb)
            have hra : g3.2.2 (h.1 + 1 + a.toNat) = some (true, ia K 12 (upz (G2 a) b v)) := g3H.2.2.1
            have g31 := g3H.1
            have g32 := g3H.2.1
            refine j_iinc (y := yiX1_closedWalks) [some (.ref x), some (vi cut), some (.ref h.1), some (vi a), some (vi (b + 1)), none] dX1_closedWalks_96 rfl (by decide) rfl rfl ?_
            refine m_goto (y := yiX1_closedWalks) 22 dX1_closedWalks_99 (by decide) ?_
            exact ih22 _ (by omega) _ _ _ rfl hx hwk mg1 fR (by omega) (hr2.up (by omega) hra (g3H.2.2.2)) (by { rw [← wini_step (by omega) (by omega) hv]; exact hG2.up (by omega) (by omega) }) (by omega)
          refine j_iload_n (y := yiX1_closedWalks) dX1_closedWalks_32 rfl ?_
          refine j_icmp_eq (y := yiX1_closedWalks) 42 dX1_closedWalks_33 (by decide) ⟨⟨by omega, by omega⟩, ⟨by omega, by omega⟩⟩ (fun c33 => ?_) (fun c33 => ?_)
          · refine j_iconst (y := yiX1_closedWalks) dX1_closedWalks_42 ?_
            refine m_goto (y := yiX1_closedWalks) 47 dX1_closedWalks_43 (by decide) ?_
            refine j_istore (y := yiX1_closedWalks) [some (.ref x), some (vi cut), some (.ref h.1), some (vi a), some (vi b), some (vi 1)] dX1_closedWalks_47 (by decide) rfl rfl ?_
            refine m_aload_n (y := yiX1_closedWalks) dX1_closedWalks_49 rfl ?_
            refine j_iload_n (y := yiX1_closedWalks) dX1_closedWalks_50 rfl ?_
            refine h_aald6 (y := yiX1_closedWalks) dX1_closedWalks_51 mg1 ⟨by omega, by omega⟩ (by omega) ?_
            rw [eg1 a (by omega) (by omega)]
            show MW K yiX1_closedWalks d g2 52 [some (.ref x), some (vi cut), some (.ref h.1), some (vi a), some (vi b), some (vi 1)] [(.ref (h.1 + 1 + a.toNat))] Q
            refine j_iload (y := yiX1_closedWalks) dX1_closedWalks_52 rfl ?_
            refine j_iload_n (y := yiX1_closedWalks) dX1_closedWalks_54 rfl ?_
            refine j_iload (y := yiX1_closedWalks) dX1_closedWalks_55 rfl ?_
            refine j_icmp_ne (y := yiX1_closedWalks) 64 dX1_closedWalks_57 (by decide) ⟨⟨by omega, by omega⟩, ⟨by omega, by omega⟩⟩ (fun c57 => ?_) (fun c57 => ?_)
            · refine j_iload (y := yiX1_closedWalks) dX1_closedWalks_64 rfl ?_
              refine j_if_ne (y := yiX1_closedWalks) 81 dX1_closedWalks_66 (by decide) ⟨by decide, by decide⟩ (fun _ => ?_) (fun c => absurd c (by decide))
              refine j_ldc (y := yiX1_closedWalks) (1000000) dX1_closedWalks_81 q920 (by decide) ?_
              refine m_goto (y := yiX1_closedWalks) 95 dX1_closedWalks_83 (by decide) ?_
              refine mw_forget 5 ?_
              exact J95 _ (by unfold wval; split <;> first | omega | (split <;> omega))
            · refine j_iconst (y := yiX1_closedWalks) dX1_closedWalks_60 ?_
              refine m_goto (y := yiX1_closedWalks) 95 dX1_closedWalks_61 (by decide) ?_
              refine mw_forget 5 ?_
              exact J95 _ (by unfold wval; split <;> first | omega | (split <;> omega))
          · refine j_iload (y := yiX1_closedWalks) dX1_closedWalks_36 rfl ?_
            refine j_iload_n (y := yiX1_closedWalks) dX1_closedWalks_38 rfl ?_
            refine j_icmp_ne (y := yiX1_closedWalks) 46 dX1_closedWalks_39 (by decide) ⟨⟨by omega, by omega⟩, ⟨by omega, by omega⟩⟩ (fun c39 => ?_) (fun c39 => ?_)
            · refine j_iconst (y := yiX1_closedWalks) dX1_closedWalks_46 ?_
              refine j_istore (y := yiX1_closedWalks) [some (.ref x), some (vi cut), some (.ref h.1), some (vi a), some (vi b), some (vi 0)] dX1_closedWalks_47 (by decide) rfl rfl ?_
              refine m_aload_n (y := yiX1_closedWalks) dX1_closedWalks_49 rfl ?_
              refine j_iload_n (y := yiX1_closedWalks) dX1_closedWalks_50 rfl ?_
              refine h_aald6 (y := yiX1_closedWalks) dX1_closedWalks_51 mg1 ⟨by omega, by omega⟩ (by omega) ?_
              rw [eg1 a (by omega) (by omega)]
              show MW K yiX1_closedWalks d g2 52 [some (.ref x), some (vi cut), some (.ref h.1), some (vi a), some (vi b), some (vi 0)] [(.ref (h.1 + 1 + a.toNat))] Q
              refine j_iload (y := yiX1_closedWalks) dX1_closedWalks_52 rfl ?_
              refine j_iload_n (y := yiX1_closedWalks) dX1_closedWalks_54 rfl ?_
              refine j_iload (y := yiX1_closedWalks) dX1_closedWalks_55 rfl ?_
              refine j_icmp_ne (y := yiX1_closedWalks) 64 dX1_closedWalks_57 (by decide) ⟨⟨by omega, by omega⟩, ⟨by omega, by omega⟩⟩ (fun c57 => ?_) (fun c57 => ?_)
              · refine j_iload (y := yiX1_closedWalks) dX1_closedWalks_64 rfl ?_
                refine j_if_ne (y := yiX1_closedWalks) 81 dX1_closedWalks_66 (by decide) ⟨by decide, by decide⟩ (fun c => absurd c (by decide)) (fun _ => ?_)
                refine m_aload_n (y := yiX1_closedWalks) dX1_closedWalks_69 rfl ?_
                refine m_getfS (y := yiX1_closedWalks) kc_0 1 (by decide) dX1_closedWalks_70 q298 hx rfl ?_
                refine j_iload_n (y := yiX1_closedWalks) dX1_closedWalks_73 rfl ?_
                refine h_aald6 (y := yiX1_closedWalks) dX1_closedWalks_74 hwk ⟨by omega, by omega⟩ (by omega) ?_
                rw [(hwr a (by omega) (by omega)).1]
                show MW K yiX1_closedWalks d g2 75 [some (.ref x), some (vi cut), some (.ref h.1), some (vi a), some (vi b), some (vi 0)] [(.ref (wr a)), (vi b), (.ref (h.1 + 1 + a.toNat))] Q
                refine j_iload (y := yiX1_closedWalks) dX1_closedWalks_75 rfl ?_
                have hrw : g2.2.2 (wr a) = some (true, ia K 12 (T a)) := hrw
                have l_hrw := hwf22 _ _ hrw
                refine j_iald (y := yiX1_closedWalks) dX1_closedWalks_77 hrw (by omega) ⟨by omega, by omega⟩ ?_
                refine j_if_ne (y := yiX1_closedWalks) 86 dX1_closedWalks_78 (by decide) ⟨by omega, by omega⟩ (fun c78 => ?_) (fun c78 => ?_)
                · refine m_aload_n (y := yiX1_closedWalks) dX1_closedWalks_86 rfl ?_
                  refine m_getfS (y := yiX1_closedWalks) kc_0 1 (by decide) dX1_closedWalks_87 q298 hx rfl ?_
                  refine j_iload_n (y := yiX1_closedWalks) dX1_closedWalks_90 rfl ?_
                  refine h_aald6 (y := yiX1_closedWalks) dX1_closedWalks_91 hwk ⟨by omega, by omega⟩ (by omega) ?_
                  rw [(hwr a (by omega) (by omega)).1]
                  show MW K yiX1_closedWalks d g2 92 [some (.ref x), some (vi cut), some (.ref h.1), some (vi a), some (vi b), some (vi 0)] [(.ref (wr a)), (vi b), (.ref (h.1 + 1 + a.toNat))] Q
                  refine j_iload (y := yiX1_closedWalks) dX1_closedWalks_92 rfl ?_
                  have hrw : g2.2.2 (wr a) = some (true, ia K 12 (T a)) := hrw
                  have l_hrw := hwf22 _ _ hrw
                  refine j_iald (y := yiX1_closedWalks) dX1_closedWalks_94 hrw (by omega) ⟨by omega, by omega⟩ ?_
                  refine mw_forget 5 ?_
                  exact J95 _ (by unfold wval; split <;> first | omega | (split <;> omega))
                · refine j_ldc (y := yiX1_closedWalks) (1000000) dX1_closedWalks_81 q920 (by decide) ?_
                  refine m_goto (y := yiX1_closedWalks) 95 dX1_closedWalks_83 (by decide) ?_
                  refine mw_forget 5 ?_
                  exact J95 _ (by unfold wval; split <;> first | omega | (split <;> omega))
              · refine j_iconst (y := yiX1_closedWalks) dX1_closedWalks_60 ?_
                refine m_goto (y := yiX1_closedWalks) 95 dX1_closedWalks_61 (by decide) ?_
                refine mw_forget 5 ?_
                exact J95 _ (by unfold wval; split <;> first | omega | (split <;> omega))
            · refine j_iconst (y := yiX1_closedWalks) dX1_closedWalks_42 ?_
              refine m_goto (y := yiX1_closedWalks) 47 dX1_closedWalks_43 (by decide) ?_
              refine j_istore (y := yiX1_closedWalks) [some (.ref x), some (vi cut), some (.ref h.1), some (vi a), some (vi b), some (vi 1)] dX1_closedWalks_47 (by decide) rfl rfl ?_
              refine m_aload_n (y := yiX1_closedWalks) dX1_closedWalks_49 rfl ?_
              refine j_iload_n (y := yiX1_closedWalks) dX1_closedWalks_50 rfl ?_
              refine h_aald6 (y := yiX1_closedWalks) dX1_closedWalks_51 mg1 ⟨by omega, by omega⟩ (by omega) ?_
              rw [eg1 a (by omega) (by omega)]
              show MW K yiX1_closedWalks d g2 52 [some (.ref x), some (vi cut), some (.ref h.1), some (vi a), some (vi b), some (vi 1)] [(.ref (h.1 + 1 + a.toNat))] Q
              refine j_iload (y := yiX1_closedWalks) dX1_closedWalks_52 rfl ?_
              refine j_iload_n (y := yiX1_closedWalks) dX1_closedWalks_54 rfl ?_
              refine j_iload (y := yiX1_closedWalks) dX1_closedWalks_55 rfl ?_
              refine j_icmp_ne (y := yiX1_closedWalks) 64 dX1_closedWalks_57 (by decide) ⟨⟨by omega, by omega⟩, ⟨by omega, by omega⟩⟩ (fun c57 => ?_) (fun c57 => ?_)
              · refine j_iload (y := yiX1_closedWalks) dX1_closedWalks_64 rfl ?_
                refine j_if_ne (y := yiX1_closedWalks) 81 dX1_closedWalks_66 (by decide) ⟨by decide, by decide⟩ (fun _ => ?_) (fun c => absurd c (by decide))
                refine j_ldc (y := yiX1_closedWalks) (1000000) dX1_closedWalks_81 q920 (by decide) ?_
                refine m_goto (y := yiX1_closedWalks) 95 dX1_closedWalks_83 (by decide) ?_
                refine mw_forget 5 ?_
                exact J95 _ (by unfold wval; split <;> first | omega | (split <;> omega))
              · refine j_iconst (y := yiX1_closedWalks) dX1_closedWalks_60 ?_
                refine m_goto (y := yiX1_closedWalks) 95 dX1_closedWalks_61 (by decide) ?_
                refine mw_forget 5 ?_
                exact J95 _ (by unfold wval; split <;> first | omega | (split <;> omega))
      exact L22 _ _ _ _ rfl hx hwk mg1 fR (by omega) hr hG hs
  exact L11 _ _ (fun _ _ => 0) _ rfl hx hwk mg1 fR (by omega) (fun i hi => rg1 i hi) (fun i j i0 i1 j0 j1 => by { rw [← wini_0] }) (⟨rfl, rfl⟩)
