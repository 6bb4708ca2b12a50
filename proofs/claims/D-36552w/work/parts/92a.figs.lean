/-! Lastbus: checksum, meanBetween -/
def RwD (xs : List String) (P : Int → UInt64 → MH → Prop) : OT → MH → Prop := fun o h' => (∃ v : UInt64, o = .inl (some (.double v)) ∧ P 0 v h') ∨ ∃ (i : Nat) (E : String) (q : Nat), xs[i]? = some E ∧ o = .inr (E, q) ∧ ∀ v : UInt64, P ((i : Int) + 1) v h'
def RwF (xs : List String) (P : Int → UInt32 → MH → Prop) : OT → MH → Prop := fun o h' => (∃ v : UInt32, o = .inl (some (.float v)) ∧ P 0 v h') ∨ ∃ (i : Nat) (E : String) (q : Nat), xs[i]? = some E ∧ o = .inr (E, q) ∧ ∀ v : UInt32, P ((i : Int) + 1) v h'
section FIG
variable (K : KT) (d : Nat) (h : MH) (z x : Nat) (sg : TS)
theorem q_checksum (hd : 8 ≤ d) (hT : TB sg) (hW : World K h z x sg) (hz1 : z ≤ h.1) (hz : h.1 + 25000 ≤ kC K ∧ h.2.1 + 304000 ≤ kS K) : Mt K yiX1_checksum d [.ref x] h (Rl fun v h' => QFr h h' ∧ v = ckS sg) := by
  have f1b := of1 (hT.1 1)
  have f8 := of8 (hT.1 8)
  have f6 := of6 (hT.1 6)
  have hW0 := hW
  obtain ⟨own, e0, cc, ch, wk, sv, tr, lt, ws, tx, se, te, we, kp, sp, tp, wp, T, hK, hE, hI, hx, hch, hwk, hsv, htr, hlt, hws, htx, hkp, hR0⟩ := hW
  obtain ⟨hx, hxz, -⟩ := tg_at hx
  obtain ⟨hch, hchz, -⟩ := tg_at hch
  have hE1 := hE.1
  obtain ⟨hE2, hE2z, -⟩ := tg_at hE.2
  obtain ⟨k0, k1, k3, k4, k5, k8, k9, k10, k11, k12⟩ := hK
  have hwk := And.intro hwk.1.C hwk.2
  obtain ⟨⟨wt, capt, mct, ft, hto, hte, htne, ht0, htw, htcap, htf, htno⟩, htt⟩ := htr
  obtain ⟨hto, htoz, -⟩ := tg_at hto
  obtain ⟨hte, htez, -⟩ := tg_at hte
  obtain ⟨⟨wsv, caps, mcs, fsv, hso, hse, hsne, hs0, hsw, hscap, hsf, hsno⟩, hss⟩ := hsv
  obtain ⟨hso, hsoz, -⟩ := tg_at hso
  obtain ⟨hse, hsez, -⟩ := tg_at hse
  obtain ⟨txe, cap, ml, cd, fx, hml, hcd, hn, hto1, -⟩ := id htx
  have hxq := (tg_at hto1).1
  refine mt_ofQ (by decide) (Nat.le_of_ble_eq_true rfl) (fun Q hQ => ?_)
  show MW K yiX1_checksum d h 0 [some (.ref x), none, none, none, none, none, none] [] Q
  refine mw_wf (fun hwf => ?_)
  have l_hx := hwf _ _ hx
  have l_hch := hwf _ _ hch
  have l_hto := hwf _ _ hto
  have l_hte := hwf _ _ hte
  have l_hso := hwf _ _ hso
  have l_hse := hwf _ _ hse
  have l_hxq := hwf _ _ hxq
  have fR : ∀ b, (b < h.1) → h.2.2 b = h.2.2 b := fun _ _ => rfl
  refine m_ldc2 (y := yiX1_checksum) (v := 7) dX1_checksum_0 q714 ?_
  refine m_lstore_n (y := yiX1_checksum) dX1_checksum_3 (by decide) rfl ?_
  show MW K yiX1_checksum d h 4 [some (.ref x), some (.long (7 : Int64)), none, none, none, none, none] [] Q
  refine j_iconst (y := yiX1_checksum) dX1_checksum_4 ?_
  refine j_istore_n (y := yiX1_checksum) [some (.ref x), some (.long (7 : Int64)), none, some (vi 0), none, none, none] dX1_checksum_5 (by decide) rfl rfl ?_
  have L6 : ∀ (N : Nat) (s : Int64) (k : Int), (12 - k).toNat = N → (0 ≤ k ∧ k ≤ sg.1 1) → (s = ckF (sg.2 2) 0 7 k.toNat) → MW K yiX1_checksum d h 6 [some (.ref x), some (.long s), none, some (vi k), none, none, none] [] Q := by
    intro N
    induction N using Nat.strongRecOn with
    | _ N ih6 =>
    intro s k hN6 hk hs
    refine j_iload_n (y := yiX1_checksum) dX1_checksum_6 rfl ?_
    refine m_aload_n (y := yiX1_checksum) dX1_checksum_7 rfl ?_
    refine m_getfS (y := yiX1_checksum) kc_0 2 (by decide) dX1_checksum_8 q300 hx rfl ?_
    refine j_icmp_ge (y := yiX1_checksum) 34 dX1_checksum_11 (by decide) ⟨⟨by omega, by omega⟩, ⟨by omega, by omega⟩⟩ (fun c11 => ?_) (fun c11 => ?_)
    · refine m_aload_n (y := yiX1_checksum) dX1_checksum_34 rfl ?_
      refine m_getfS (y := yiX1_checksum) kc_0 4 (by decide) dX1_checksum_35 q302 hx rfl ?_
      refine m_invV (y := yiX1_checksum) (rB := (RJ2, TJ2, 3)) [] dX1_checksum_38 hto rfl q716 q717 q718 q126 q719 rfl (c_J2_iterator K 2 h _ _ _ _ (by omega) hto ⟨by omega, by omega⟩) pdJ2_iterator ⟨Nat.le_of_ble_eq_true rfl, by decide, by omega⟩ (kk_r fun r38 h38 q38 => ?_) kx_r
      obtain ⟨rfl, q38⟩ := q38
      have y38 := q38.1
      have z38 := q38.2.1
      have it38 := q38.2.2.1
      have hx : h38.2.2 x = some (true, .inr (0, [(.ref ch), (.ref wk), (vi (sg.1 1)), (.ref sv), (.ref tr), (.ref lt), (.ref ws), (.ref tx), (vi (sg.1 21)), (va_rf kp)])) := (q38.2.2.2 _ (by omega)).trans hx
      have hch : h38.2.2 ch = some (true, ia K 12 (sg.2 2)) := (q38.2.2.2 _ (by omega)).trans hch
      have hto : h38.2.2 tr = some (true, .inr (14, [(vi mct), (.ref te), (vi (sg.1 8))])) := (q38.2.2.2 _ (by omega)).trans hto
      have hte : h38.2.2 te = some (wt, oaE K capt ft) := (q38.2.2.2 _ (by omega)).trans hte
      have hso : h38.2.2 sv = some (true, .inr (14, [(vi mcs), (.ref se), (vi (sg.1 6))])) := (q38.2.2.2 _ (by omega)).trans hso
      have hse : h38.2.2 se = some (wsv, oaE K caps fsv) := (q38.2.2.2 _ (by omega)).trans hse
      have hxq : h38.2.2 tx = some (true, .inr (20, [(.ref txe), (vi cd), (vi ml), (vi (sg.1 19))])) := (q38.2.2.2 _ (by omega)).trans hxq
      have fR : ∀ b, (b < h.1) → h38.2.2 b = h.2.2 b := fun b hb => (q38.2.2.2 b (by omega)).trans (fR b hb)
      refine mw_wf (fun hwf38 => ?_)
      have l_it3838 := hwf38 _ _ it38
      refine m_astore_n (y := yiX1_checksum) dX1_checksum_41 (by decide) rfl ?_
      show MW K yiX1_checksum d h38 42 [some (.ref x), some (.long s), none, some (.ref h.1), none, none, none] [] Q
      have L42 : ∀ (N : Nat) (s2 : Int64) (i lr : Int) (g : MH), (24 - i).toNat = N → (g.2.2 x = some (true, .inr (0, [(.ref ch), (.ref wk), (vi (sg.1 1)), (.ref sv), (.ref tr), (.ref lt), (.ref ws), (.ref tx), (vi (sg.1 21)), (va_rf kp)]))) → (g.2.2 tr = some (true, .inr (14, [(vi mct), (.ref te), (vi (sg.1 8))]))) → (g.2.2 te = some (wt, oaE K capt ft)) → (g.2.2 sv = some (true, .inr (14, [(vi mcs), (.ref se), (vi (sg.1 6))]))) → (g.2.2 se = some (wsv, oaE K caps fsv)) → (g.2.2 tx = some (true, .inr (20, [(.ref txe), (vi cd), (vi ml), (vi (sg.1 19))]))) → (g.2.2 h.1 = some (true, .inr (15, [(vi i), (vi lr), (vi mct), (.ref tr)]))) → (∀ b, (b < h.1) → g.2.2 b = h.2.2 b) → (0 ≤ i ∧ i ≤ sg.1 8) → (s2 = ckT sg (ckF (sg.2 2) 0 7 (sg.1 1).toNat) i.toNat) → (h.1 + 1 ≤ g.1 ∧ (g.1 : Int) ≤ h.1 + 1 + i) → (h.2.1 + 4 ≤ g.2.1 ∧ (g.2.1 : Int) ≤ h.2.1 + 4 + 4 * i) → MW K yiX1_checksum d g 42 [some (.ref x), some (.long s2), none, some (.ref h.1), none, none, none] [] Q := by
        intro N
        induction N using Nat.strongRecOn with
        | _ N ih42 =>
        intro s2 i lr g hN42 hx hto hte hso hse hxq it38 fR ht hs2 hc hsl
        refine mw_wf (fun hwf42 => ?_)
        have l_hx42 := hwf42 _ _ hx
        have l_hto42 := hwf42 _ _ hto
        have l_hte42 := hwf42 _ _ hte
        have l_hso42 := hwf42 _ _ hso
        have l_hse42 := hwf42 _ _ hse
        have l_hxq42 := hwf42 _ _ hxq
        have l_it3842 := hwf42 _ _ it38
        refine m_aload_n (y := yiX1_checksum) dX1_checksum_42 rfl ?_
        refine m_invF (y := yiX1_checksum) (rB := (RJ28, TJ28, 4)) [] dX1_checksum_43 it38 rfl q744 q746 q745 rfl q748 q750 q751 q749 q747 q156 q752 ⟨by decide, by decide⟩ (by show _ = some 0; decide +kernel) (c_J28_hasNext K 0 g _ _ _ _ _ _ _ it38 hto ⟨by omega, by omega, by omega⟩) pdJ28_hasNext ⟨Nat.le_of_ble_eq_true rfl, by decide, by omega⟩ (kk_z fun r43 h43 q43 => ?_) kx_z
        obtain ⟨rfl, rfl⟩ := q43
        refine mw_top (x' := bz (i ≠ sg.1 8)) rfl ?_
        refine j_bz_eq (y := yiX1_checksum) 152 dX1_checksum_48 (by decide) (fun c48 => ?_) (fun c48 => ?_)
        · refine m_aload_n (y := yiX1_checksum) dX1_checksum_152 rfl ?_
          refine m_getfS (y := yiX1_checksum) kc_0 3 (by decide) dX1_checksum_153 q301 hx rfl ?_
          refine m_invV (y := yiX1_checksum) (rB := (RJ2, TJ2, 3)) [] dX1_checksum_156 hso rfl q716 q717 q718 q126 q719 rfl (c_J2_iterator K 2 g _ _ _ _ (by omega) hso ⟨by omega, by omega⟩) pdJ2_iterator ⟨Nat.le_of_ble_eq_true rfl, by decide, by omega⟩ (kk_r fun r156 h156 q156 => ?_) kx_r
          obtain ⟨rfl, q156⟩ := q156
          have y156 := q156.1
          have z156 := q156.2.1
          have it156 := q156.2.2.1
          have hx : h156.2.2 x = some (true, .inr (0, [(.ref ch), (.ref wk), (vi (sg.1 1)), (.ref sv), (.ref tr), (.ref lt), (.ref ws), (.ref tx), (vi (sg.1 21)), (va_rf kp)])) := (q156.2.2.2 _ (by omega)).trans hx
          have hto : h156.2.2 tr = some (true, .inr (14, [(vi mct), (.ref te), (vi (sg.1 8))])) := (q156.2.2.2 _ (by omega)).trans hto
          have hte : h156.2.2 te = some (wt, oaE K capt ft) := (q156.2.2.2 _ (by omega)).trans hte
          have hso : h156.2.2 sv = some (true, .inr (14, [(vi mcs), (.ref se), (vi (sg.1 6))])) := (q156.2.2.2 _ (by omega)).trans hso
          have hse : h156.2.2 se = some (wsv, oaE K caps fsv) := (q156.2.2.2 _ (by omega)).trans hse
          have hxq : h156.2.2 tx = some (true, .inr (20, [(.ref txe), (vi cd), (vi ml), (vi (sg.1 19))])) := (q156.2.2.2 _ (by omega)).trans hxq
          have it38 : h156.2.2 h.1 = some (true, .inr (15, [(vi i), (vi lr), (vi mct), (.ref tr)])) := (q156.2.2.2 _ (by omega)).trans it38
          have fR : ∀ b, (b < h.1) → h156.2.2 b = h.2.2 b := fun b hb => (q156.2.2.2 b (by omega)).trans (fR b hb)
          refine mw_wf (fun hwf156 => ?_)
          have l_it156156 := hwf156 _ _ it156
          clear q156
          refine m_astore_n (y := yiX1_checksum) dX1_checksum_159 (by decide) rfl ?_
          show MW K yiX1_checksum d h156 160 [some (.ref x), some (.long s2), none, some (.ref g.1), none, none, none] [] Q
          have L160 : ∀ (N : Nat) (s4 : Int64) (q lq : Int) (g6 : MH), (6 - q).toNat = N → (g6.2.2 x = some (true, .inr (0, [(.ref ch), (.ref wk), (vi (sg.1 1)), (.ref sv), (.ref tr), (.ref lt), (.ref ws), (.ref tx), (vi (sg.1 21)), (va_rf kp)]))) → (g6.2.2 sv = some (true, .inr (14, [(vi mcs), (.ref se), (vi (sg.1 6))]))) → (g6.2.2 se = some (wsv, oaE K caps fsv)) → (g6.2.2 tx = some (true, .inr (20, [(.ref txe), (vi cd), (vi ml), (vi (sg.1 19))]))) → (g6.2.2 g.1 = some (true, .inr (15, [(vi q), (vi lq), (vi mcs), (.ref sv)]))) → (∀ b, (b < h.1) → g6.2.2 b = h.2.2 b) → (0 ≤ q ∧ q ≤ sg.1 6) → (s4 = ckO sg (ckT sg (ckF (sg.2 2) 0 7 (sg.1 1).toNat) (sg.1 8).toNat) q.toNat) → (g6.1 = g.1 + 1 ∧ g6.2.1 = g.2.1 + 4) → MW K yiX1_checksum d g6 160 [some (.ref x), some (.long s4), none, some (.ref g.1), none, none, none] [] Q := by
            intro N
            induction N using Nat.strongRecOn with
            | _ N ih160 =>
            intro s4 q lq g6 hN160 hx hso hse hxq it156 fR hq hs4 hc6
            refine mw_wf (fun hwf160 => ?_)
            have l_hx160 := hwf160 _ _ hx
            have l_hso160 := hwf160 _ _ hso
            have l_hse160 := hwf160 _ _ hse
            have l_hxq160 := hwf160 _ _ hxq
            have l_it156160 := hwf160 _ _ it156
            refine m_aload_n (y := yiX1_checksum) dX1_checksum_160 rfl ?_
            refine m_invF (y := yiX1_checksum) (rB := (RJ28, TJ28, 4)) [] dX1_checksum_161 it156 rfl q744 q746 q745 rfl q748 q750 q751 q749 q747 q156 q752 ⟨by decide, by decide⟩ (by show _ = some 0; decide +kernel) (c_J28_hasNext K 0 g6 _ _ _ _ _ _ _ it156 hso ⟨by omega, by omega, by omega⟩) pdJ28_hasNext ⟨Nat.le_of_ble_eq_true rfl, by decide, by omega⟩ (kk_z fun r161 h161 q161 => ?_) kx_z
            obtain ⟨rfl, rfl⟩ := q161
            refine mw_top (x' := bz (q ≠ sg.1 6)) rfl ?_
            refine j_bz_eq (y := yiX1_checksum) 222 dX1_checksum_166 (by decide) (fun c166 => ?_) (fun c166 => ?_)
            · refine m_ldc2 (y := yiX1_checksum) (v := 31) dX1_checksum_222 q715 ?_
              refine m_lload_n (y := yiX1_checksum) dX1_checksum_225 rfl ?_
              refine m_lmul (y := yiX1_checksum) dX1_checksum_226 ?_
              refine m_aload_n (y := yiX1_checksum) dX1_checksum_227 rfl ?_
              refine m_getfS (y := yiX1_checksum) kc_0 7 (by decide) dX1_checksum_228 q305 hx rfl ?_
              refine m_invV (y := yiX1_checksum) (rB := (RJ6, TJ6, 4)) [] dX1_checksum_231 hxq rfl q341 q342 q343 q130 q344 rfl (c_J6_length (d := 1) (by omega) hxq) pdJ6_length ⟨Nat.le_of_ble_eq_true rfl, by decide, by omega⟩ (kk_z fun r231 h231 q231 => ?_) kx_z
              obtain ⟨rfl, rfl⟩ := q231
              refine mw_top (x' := (sg.1 19)) rfl ?_
              refine j_i2l (y := yiX1_checksum) dX1_checksum_234 ?_
              refine m_ladd (y := yiX1_checksum) dX1_checksum_235 ?_
              subst hQ; exact m_lret (y := yiX1_checksum) dX1_checksum_236 rfl ⟨_, rfl, ⟨⟨⟨by omega, by omega⟩, ⟨by omega, by omega⟩, fR⟩, by unfold ckS; rw [hs4, show q = sg.1 6 by omega]⟩⟩
            · refine m_aload_n (y := yiX1_checksum) dX1_checksum_169 rfl ?_
              refine m_invF (y := yiX1_checksum) (rB := (RJ28, TJ28, 4)) [] dX1_checksum_170 it156 rfl q757 q759 q758 rfl q760 q762 q763 q761 q747 q156 q764 ⟨by decide, by decide⟩ (by show _ = some 0; decide +kernel) (c_J28_next K 1 g6 _ _ _ _ _ _ _ _ _ _ _ (by omega) it156 hso hse ⟨by omega, by omega, by omega⟩ ⟨by omega, by omega, by omega, by omega⟩ (hsf _ (by omega) (by omega))) pdJ28_next ⟨Nat.le_of_ble_eq_true rfl, by decide, by omega⟩ (kk_r fun r170 h170 q170 => ?_) kx_r
              obtain ⟨rfl, q170⟩ := q170
              have y170 := q170.1
              have z170 := q170.2.1
              have it156 := q170.2.2.1
              have hx : h170.2.2 x = some (true, .inr (0, [(.ref ch), (.ref wk), (vi (sg.1 1)), (.ref sv), (.ref tr), (.ref lt), (.ref ws), (.ref tx), (vi (sg.1 21)), (va_rf kp)])) := (q170.2.2.2 _ (by omega)).trans hx
              have hso : h170.2.2 sv = some (true, .inr (14, [(vi mcs), (.ref se), (vi (sg.1 6))])) := (q170.2.2.2 _ (by omega)).trans hso
              have hse : h170.2.2 se = some (wsv, oaE K caps fsv) := (q170.2.2.2 _ (by omega)).trans hse
              have hxq : h170.2.2 tx = some (true, .inr (20, [(.ref txe), (vi cd), (vi ml), (vi (sg.1 19))])) := (q170.2.2.2 _ (by omega)).trans hxq
              have fR : ∀ b, (b < h.1) → h170.2.2 b = h.2.2 b := fun b hb => (q170.2.2.2 b (by omega)).trans (fR b hb)
              refine mw_wf (fun hwf170 => ?_)
              have l_it156170 := hwf170 _ _ it156
              obtain ⟨wb, nb, fb, hb0, hb1, hb2⟩ := hss q (by omega) (by omega)
              have hbq : h170.2.2 (sp q) = some (true, .inr (16, [(.ref wb), (vi nb), (vi 0)])) := (fR _ (by have := (tg_at hb0.1).2.1; omega)).trans (tg_at hb0.1).1
              have l_hbq := hwf170 _ _ hbq
              refine m_cast (y := yiX1_checksum) dX1_checksum_175 hbq rfl q808 (Or.inl rfl) ?_
              have hB9 : BsA K h170 (sp q) wb nb 1 fb := ⟨hbq, (fR _ (by have := (tg_at hb0.2.1).2.1; omega)).trans (tg_at hb0.2.1).1, hb0.2.2⟩
              refine m_astore (y := yiX1_checksum) dX1_checksum_178 (by decide) rfl ?_
              show MW K yiX1_checksum d h170 180 [some (.ref x), some (.long s4), none, some (.ref g.1), some (.ref (sp q)), none, none] [] Q
              refine j_iconst (y := yiX1_checksum) dX1_checksum_180 ?_
              refine j_istore (y := yiX1_checksum) [some (.ref x), some (.long s4), none, some (.ref g.1), some (.ref (sp q)), some (vi 0), none] dX1_checksum_181 (by decide) rfl rfl ?_
              have L183 : ∀ (N : Nat) (s5 : Int64) (j : Int), (28 - j).toNat = N → (0 ≤ j ∧ j ≤ 28) → (s5 = ckF (sg.2 7) (28 * q) s4 j.toNat) → MW K yiX1_checksum d h170 183 [some (.ref x), some (.long s5), none, some (.ref g.1), some (.ref (sp q)), some (vi j), none] [] Q := by
                intro N
                induction N using Nat.strongRecOn with
                | _ N ih183 =>
                intro s5 j hN183 hj hs5
                refine j_iload (y := yiX1_checksum) dX1_checksum_183 rfl ?_
                refine j_bipush (y := yiX1_checksum) dX1_checksum_185 (by decide) ?_
                refine j_icmp_ge (y := yiX1_checksum) 219 dX1_checksum_187 (by decide) ⟨⟨by omega, by omega⟩, ⟨by omega, by omega⟩⟩ (fun c187 => ?_) (fun c187 => ?_)
                · refine m_goto (y := yiX1_checksum) 160 dX1_checksum_219 (by decide) ?_
                  refine mw_forget 4 ?_
                  refine mw_forget 5 ?_
                  exact ih160 _ (by omega) _ _ _ _ rfl hx hso hse hxq it156 fR (by omega) (by rw [ckO_s hq.1, hs5, hs4, show j = 28 by omega]; rfl) (⟨by omega, by omega⟩)
                · have b7 := oa7 (hT.2 7) (28 * q + j) (by omega) (by omega)
                  refine m_ldc2 (y := yiX1_checksum) (v := 31) dX1_checksum_190 q715 ?_
                  refine m_lload_n (y := yiX1_checksum) dX1_checksum_193 rfl ?_
                  refine m_lmul (y := yiX1_checksum) dX1_checksum_194 ?_
                  refine m_aload (y := yiX1_checksum) dX1_checksum_195 rfl ?_
                  refine j_iload (y := yiX1_checksum) dX1_checksum_197 rfl ?_
                  refine m_invV (y := yiX1_checksum) (rB := (RJ18, TJ18, 3)) [(vi j)] dX1_checksum_199 hbq rfl q809 q810 q811 q143 q812 rfl (c_J18_get K 1 h170 (sp q) wb nb j 1 fb (by omega) k8 hB9 (by omega)) pdJ18_get ⟨Nat.le_of_ble_eq_true rfl, by decide, by omega⟩ (kk_z fun r199 h199 q199 => ?_) kx_z
                  obtain ⟨rfl, e1, e2⟩ := q199
                  have e3 := e2.trans (hb1 j (by omega) (by omega))
                  refine j_if_eq (y := yiX1_checksum) 209 dX1_checksum_202 (by decide) ⟨by omega, by omega⟩ (fun c202 => ?_) (fun c202 => ?_)
                  · refine j_iconst (y := yiX1_checksum) dX1_checksum_209 ?_
                    refine j_i2l (y := yiX1_checksum) dX1_checksum_210 ?_
                    refine m_ladd (y := yiX1_checksum) dX1_checksum_211 ?_
                    refine m_lstore_n (y := yiX1_checksum) dX1_checksum_212 (by decide) rfl ?_
                    show MW K yiX1_checksum d h170 213 [some (.ref x), some (.long (((31 : Int64) * s5) + (vl 0))), none, some (.ref g.1), some (.ref (sp q)), some (vi j), none] [] Q
                    refine j_iinc (y := yiX1_checksum) [some (.ref x), some (.long (((31 : Int64) * s5) + (vl 0))), none, some (.ref g.1), some (.ref (sp q)), some (vi (j + 1)), none] dX1_checksum_213 rfl (by decide) rfl rfl ?_
                    refine m_goto (y := yiX1_checksum) 183 dX1_checksum_216 (by decide) ?_
                    exact ih183 _ (by omega) _ _ rfl (by omega) (by rw [ckF_s hj.1, hs5, show sg.2 7 (28 * q + j) = (if r199 = 0 then 0 else 1) by by_cases e4 : r199 = 0; { rw [if_pos e4]; exact Classical.byContradiction (fun h9 => by have := e3.mpr h9; omega) }; { rw [if_neg e4]; have := e3.mp (by omega); omega }]; first | rw [if_pos c202] | rw [if_neg c202])
                  · refine j_iconst (y := yiX1_checksum) dX1_checksum_205 ?_
                    refine m_goto (y := yiX1_checksum) 210 dX1_checksum_206 (by decide) ?_
                    refine j_i2l (y := yiX1_checksum) dX1_checksum_210 ?_
                    refine m_ladd (y := yiX1_checksum) dX1_checksum_211 ?_
                    refine m_lstore_n (y := yiX1_checksum) dX1_checksum_212 (by decide) rfl ?_
                    show MW K yiX1_checksum d h170 213 [some (.ref x), some (.long (((31 : Int64) * s5) + (vl 1))), none, some (.ref g.1), some (.ref (sp q)), some (vi j), none] [] Q
                    refine j_iinc (y := yiX1_checksum) [some (.ref x), some (.long (((31 : Int64) * s5) + (vl 1))), none, some (.ref g.1), some (.ref (sp q)), some (vi (j + 1)), none] dX1_checksum_213 rfl (by decide) rfl rfl ?_
                    refine m_goto (y := yiX1_checksum) 183 dX1_checksum_216 (by decide) ?_
                    exact ih183 _ (by omega) _ _ rfl (by omega) (by rw [ckF_s hj.1, hs5, show sg.2 7 (28 * q + j) = (if r199 = 0 then 0 else 1) by by_cases e4 : r199 = 0; { rw [if_pos e4]; exact Classical.byContradiction (fun h9 => by have := e3.mpr h9; omega) }; { rw [if_neg e4]; have := e3.mp (by omega); omega }]; first | rw [if_pos c202] | rw [if_neg c202])
              exact L183 _ _ _ rfl (by omega) rfl
          exact L160 _ _ _ _ _ rfl hx hso hse hxq it156 fR (by omega) (by rw [hs2, show i = sg.1 8 by omega]; rfl) (⟨by omega, by omega⟩)
        · refine m_aload_n (y := yiX1_checksum) dX1_checksum_51 rfl ?_
          refine m_invF (y := yiX1_checksum) (rB := (RJ28, TJ28, 4)) [] dX1_checksum_52 it38 rfl q757 q759 q758 rfl q760 q762 q763 q761 q747 q156 q764 ⟨by decide, by decide⟩ (by show _ = some 0; decide +kernel) (c_J28_next K 1 g _ _ _ _ _ _ _ _ _ _ _ (by omega) it38 hto hte ⟨by omega, by omega, by omega⟩ ⟨by omega, by omega, by omega, by omega⟩ (htf _ (by omega) (by omega))) pdJ28_next ⟨Nat.le_of_ble_eq_true rfl, by decide, by omega⟩ (kk_r fun r52 h52 q52 => ?_) kx_r
          obtain ⟨rfl, q52⟩ := q52
          have y52 := q52.1
          have z52 := q52.2.1
          have it38 := q52.2.2.1
          have hx : h52.2.2 x = some (true, .inr (0, [(.ref ch), (.ref wk), (vi (sg.1 1)), (.ref sv), (.ref tr), (.ref lt), (.ref ws), (.ref tx), (vi (sg.1 21)), (va_rf kp)])) := (q52.2.2.2 _ (by omega)).trans hx
          have hto : h52.2.2 tr = some (true, .inr (14, [(vi mct), (.ref te), (vi (sg.1 8))])) := (q52.2.2.2 _ (by omega)).trans hto
          have hte : h52.2.2 te = some (wt, oaE K capt ft) := (q52.2.2.2 _ (by omega)).trans hte
          have hso : h52.2.2 sv = some (true, .inr (14, [(vi mcs), (.ref se), (vi (sg.1 6))])) := (q52.2.2.2 _ (by omega)).trans hso
          have hse : h52.2.2 se = some (wsv, oaE K caps fsv) := (q52.2.2.2 _ (by omega)).trans hse
          have hxq : h52.2.2 tx = some (true, .inr (20, [(.ref txe), (vi cd), (vi ml), (vi (sg.1 19))])) := (q52.2.2.2 _ (by omega)).trans hxq
          have fR : ∀ b, (b < h.1) → h52.2.2 b = h.2.2 b := fun b hb => (q52.2.2.2 b (by omega)).trans (fR b hb)
          refine mw_wf (fun hwf52 => ?_)
          have l_it3852 := hwf52 _ _ it38
          obtain ⟨l, e, p, htq0, ⟨wl, cl, ml2, fl, hlo0, hle0, hlae, hl0, hlw, hlc, hlf, hlno⟩, hcl⟩ := htt i (by omega) (by omega)
          have hnb := oa10 (hT.2 10) i (by omega) (by omega)
          have htq : h52.2.2 (tp i) = some (true, .inr (2, [(vi (sg.2 9 i)), (.ref l)])) := (fR _ (by have := (tg_at htq0).2.1; omega)).trans (tg_at htq0).1
          have l_htq := hwf52 _ _ htq
          have hlo : h52.2.2 l = some (true, .inr (14, [(vi ml2), (.ref e), (vi (sg.2 10 i))])) := (fR _ (by have := (tg_at hlo0).2.1; omega)).trans (tg_at hlo0).1
          have l_hlo := hwf52 _ _ hlo
          have hle : h52.2.2 e = some (wl, oaE K cl fl) := (fR _ (by have := (tg_at hle0).2.1; omega)).trans (tg_at hle0).1
          have l_hle := hwf52 _ _ hle
          refine m_cast (y := yiX1_checksum) dX1_checksum_57 htq rfl q794 (Or.inl rfl) ?_
          refine m_astore (y := yiX1_checksum) dX1_checksum_60 (by decide) rfl ?_
          show MW K yiX1_checksum d h52 62 [some (.ref x), some (.long s2), none, some (.ref h.1), some (.ref (tp i)), none, none] [] Q
          refine m_ldc2 (y := yiX1_checksum) (v := 31) dX1_checksum_62 q715 ?_
          refine m_lload_n (y := yiX1_checksum) dX1_checksum_65 rfl ?_
          refine m_lmul (y := yiX1_checksum) dX1_checksum_66 ?_
          refine m_aload (y := yiX1_checksum) dX1_checksum_67 rfl ?_
          refine m_getfN (y := yiX1_checksum) kc_2 0 (by decide) dX1_checksum_69 q1143 htq rfl ?_
          refine j_i2l (y := yiX1_checksum) dX1_checksum_72 ?_
          refine m_ladd (y := yiX1_checksum) dX1_checksum_73 ?_
          refine m_lstore_n (y := yiX1_checksum) dX1_checksum_74 (by decide) rfl ?_
          show MW K yiX1_checksum d h52 75 [some (.ref x), some (.long (((31 : Int64) * s2) + (vl (sg.2 9 i)))), none, some (.ref h.1), some (.ref (tp i)), none, none] [] Q
          refine m_aload (y := yiX1_checksum) dX1_checksum_75 rfl ?_
          refine m_getfN (y := yiX1_checksum) kc_2 1 (by decide) dX1_checksum_77 q1146 htq rfl ?_
          refine m_invV (y := yiX1_checksum) (rB := (RJ2, TJ2, 3)) [] dX1_checksum_80 hlo rfl q716 q717 q718 q126 q719 rfl (c_J2_iterator K 2 h52 _ _ _ _ (by omega) hlo ⟨by omega, by omega⟩) pdJ2_iterator ⟨Nat.le_of_ble_eq_true rfl, by decide, by omega⟩ (kk_r fun r80 h80 q80 => ?_) kx_r
          obtain ⟨rfl, q80⟩ := q80
          have y80 := q80.1
          have z80 := q80.2.1
          have it80 := q80.2.2.1
          have hx : h80.2.2 x = some (true, .inr (0, [(.ref ch), (.ref wk), (vi (sg.1 1)), (.ref sv), (.ref tr), (.ref lt), (.ref ws), (.ref tx), (vi (sg.1 21)), (va_rf kp)])) := (q80.2.2.2 _ (by omega)).trans hx
          have hto : h80.2.2 tr = some (true, .inr (14, [(vi mct), (.ref te), (vi (sg.1 8))])) := (q80.2.2.2 _ (by omega)).trans hto
          have hte : h80.2.2 te = some (wt, oaE K capt ft) := (q80.2.2.2 _ (by omega)).trans hte
          have hso : h80.2.2 sv = some (true, .inr (14, [(vi mcs), (.ref se), (vi (sg.1 6))])) := (q80.2.2.2 _ (by omega)).trans hso
          have hse : h80.2.2 se = some (wsv, oaE K caps fsv) := (q80.2.2.2 _ (by omega)).trans hse
          have hxq : h80.2.2 tx = some (true, .inr (20, [(.ref txe), (vi cd), (vi ml), (vi (sg.1 19))])) := (q80.2.2.2 _ (by omega)).trans hxq
          have it38 : h80.2.2 h.1 = some (true, .inr (15, [(vi (i + 1)), (vi i), (vi mct), (.ref tr)])) := (q80.2.2.2 _ (by omega)).trans it38
          have htq : h80.2.2 (tp i) = some (true, .inr (2, [(vi (sg.2 9 i)), (.ref l)])) := (q80.2.2.2 _ (by omega)).trans htq
          have hlo : h80.2.2 l = some (true, .inr (14, [(vi ml2), (.ref e), (vi (sg.2 10 i))])) := (q80.2.2.2 _ (by omega)).trans hlo
          have hle : h80.2.2 e = some (wl, oaE K cl fl) := (q80.2.2.2 _ (by omega)).trans hle
          have fR : ∀ b, (b < h.1) → h80.2.2 b = h.2.2 b := fun b hb => (q80.2.2.2 b (by omega)).trans (fR b hb)
          refine mw_wf (fun hwf80 => ?_)
          have l_it8080 := hwf80 _ _ it80
          refine m_astore (y := yiX1_checksum) dX1_checksum_83 (by decide) rfl ?_
          show MW K yiX1_checksum d h80 85 [some (.ref x), some (.long (((31 : Int64) * s2) + (vl (sg.2 9 i)))), none, some (.ref h.1), some (.ref (tp i)), some (.ref h52.1), none] [] Q
          have L85 : ∀ (N : Nat) (s3 : Int64) (c lc : Int) (g5 : MH), (8 - c).toNat = N → (g5.2.2 x = some (true, .inr (0, [(.ref ch), (.ref wk), (vi (sg.1 1)), (.ref sv), (.ref tr), (.ref lt), (.ref ws), (.ref tx), (vi (sg.1 21)), (va_rf kp)]))) → (g5.2.2 tr = some (true, .inr (14, [(vi mct), (.ref te), (vi (sg.1 8))]))) → (g5.2.2 te = some (wt, oaE K capt ft)) → (g5.2.2 sv = some (true, .inr (14, [(vi mcs), (.ref se), (vi (sg.1 6))]))) → (g5.2.2 se = some (wsv, oaE K caps fsv)) → (g5.2.2 tx = some (true, .inr (20, [(.ref txe), (vi cd), (vi ml), (vi (sg.1 19))]))) → (g5.2.2 h.1 = some (true, .inr (15, [(vi (i + 1)), (vi i), (vi mct), (.ref tr)]))) → (g5.2.2 (tp i) = some (true, .inr (2, [(vi (sg.2 9 i)), (.ref l)]))) → (g5.2.2 l = some (true, .inr (14, [(vi ml2), (.ref e), (vi (sg.2 10 i))]))) → (g5.2.2 e = some (wl, oaE K cl fl)) → (g5.2.2 h52.1 = some (true, .inr (15, [(vi c), (vi lc), (vi ml2), (.ref l)]))) → (∀ b, (b < h.1) → g5.2.2 b = h.2.2 b) → (0 ≤ c ∧ c ≤ sg.2 10 i ∧ sg.2 10 i ≤ 8) → (s3 = ckC sg i (31 * s2 + vl (sg.2 9 i)) c.toNat) → (g5.1 = h52.1 + 1 ∧ g5.2.1 = h52.2.1 + 4) → MW K yiX1_checksum d g5 85 [some (.ref x), some (.long s3), none, some (.ref h.1), some (.ref (tp i)), some (.ref h52.1), none] [] Q := by
            intro N
            induction N using Nat.strongRecOn with
            | _ N ih85 =>
            intro s3 c lc g5 hN85 hx hto hte hso hse hxq it38 htq hlo hle it80 fR hcc hs3 hc5
            refine mw_wf (fun hwf85 => ?_)
            have l_hx85 := hwf85 _ _ hx
            have l_hto85 := hwf85 _ _ hto
            have l_hte85 := hwf85 _ _ hte
            have l_hso85 := hwf85 _ _ hso
            have l_hse85 := hwf85 _ _ hse
            have l_hxq85 := hwf85 _ _ hxq
            have l_it3885 := hwf85 _ _ it38
            have l_htq85 := hwf85 _ _ htq
            have l_hlo85 := hwf85 _ _ hlo
            have l_hle85 := hwf85 _ _ hle
            have l_it8085 := hwf85 _ _ it80
            refine m_aload (y := yiX1_checksum) dX1_checksum_85 rfl ?_
            refine m_invF (y := yiX1_checksum) (rB := (RJ28, TJ28, 4)) [] dX1_checksum_87 it80 rfl q744 q746 q745 rfl q748 q750 q751 q749 q747 q156 q752 ⟨by decide, by decide⟩ (by show _ = some 0; decide +kernel) (c_J28_hasNext K 0 g5 _ _ _ _ _ _ _ it80 hlo ⟨by omega, by omega, by omega⟩) pdJ28_hasNext ⟨Nat.le_of_ble_eq_true rfl, by decide, by omega⟩ (kk_z fun r87 h87 q87 => ?_) kx_z
            obtain ⟨rfl, rfl⟩ := q87
            refine mw_top (x' := bz (c ≠ sg.2 10 i)) rfl ?_
            refine j_bz_eq (y := yiX1_checksum) 149 dX1_checksum_92 (by decide) (fun c92 => ?_) (fun c92 => ?_)
            · refine m_goto (y := yiX1_checksum) 42 dX1_checksum_149 (by decide) ?_
              refine mw_forget 4 ?_
              refine mw_forget 5 ?_
              exact ih42 _ (by omega) _ _ _ _ rfl hx hto hte hso hse hxq it38 fR (by omega) (by rw [ckT_s ht.1, hs3, hs2, show c = sg.2 10 i by omega]) (⟨by omega, by omega⟩) (⟨by omega, by omega⟩)
            · refine m_aload (y := yiX1_checksum) dX1_checksum_95 rfl ?_
              refine m_invF (y := yiX1_checksum) (rB := (RJ28, TJ28, 4)) [] dX1_checksum_97 it80 rfl q757 q759 q758 rfl q760 q762 q763 q761 q747 q156 q764 ⟨by decide, by decide⟩ (by show _ = some 0; decide +kernel) (c_J28_next K 1 g5 _ _ _ _ _ _ _ _ _ _ _ (by omega) it80 hlo hle ⟨by omega, by omega, by omega⟩ ⟨by omega, by omega, by omega, by omega⟩ (hlf _ (by omega) (by omega))) pdJ28_next ⟨Nat.le_of_ble_eq_true rfl, by decide, by omega⟩ (kk_r fun r97 h97 q97 => ?_) kx_r
              obtain ⟨rfl, q97⟩ := q97
              have y97 := q97.1
              have z97 := q97.2.1
              have it80 := q97.2.2.1
              have hx : h97.2.2 x = some (true, .inr (0, [(.ref ch), (.ref wk), (vi (sg.1 1)), (.ref sv), (.ref tr), (.ref lt), (.ref ws), (.ref tx), (vi (sg.1 21)), (va_rf kp)])) := (q97.2.2.2 _ (by omega)).trans hx
              have hto : h97.2.2 tr = some (true, .inr (14, [(vi mct), (.ref te), (vi (sg.1 8))])) := (q97.2.2.2 _ (by omega)).trans hto
              have hte : h97.2.2 te = some (wt, oaE K capt ft) := (q97.2.2.2 _ (by omega)).trans hte
              have hso : h97.2.2 sv = some (true, .inr (14, [(vi mcs), (.ref se), (vi (sg.1 6))])) := (q97.2.2.2 _ (by omega)).trans hso
              have hse : h97.2.2 se = some (wsv, oaE K caps fsv) := (q97.2.2.2 _ (by omega)).trans hse
              have hxq : h97.2.2 tx = some (true, .inr (20, [(.ref txe), (vi cd), (vi ml), (vi (sg.1 19))])) := (q97.2.2.2 _ (by omega)).trans hxq
              have it38 : h97.2.2 h.1 = some (true, .inr (15, [(vi (i + 1)), (vi i), (vi mct), (.ref tr)])) := (q97.2.2.2 _ (by omega)).trans it38
              have htq : h97.2.2 (tp i) = some (true, .inr (2, [(vi (sg.2 9 i)), (.ref l)])) := (q97.2.2.2 _ (by omega)).trans htq
              have hlo : h97.2.2 l = some (true, .inr (14, [(vi ml2), (.ref e), (vi (sg.2 10 i))])) := (q97.2.2.2 _ (by omega)).trans hlo
              have hle : h97.2.2 e = some (wl, oaE K cl fl) := (q97.2.2.2 _ (by omega)).trans hle
              have fR : ∀ b, (b < h.1) → h97.2.2 b = h.2.2 b := fun b hb => (q97.2.2.2 b (by omega)).trans (fR b hb)
              refine mw_wf (fun hwf97 => ?_)
              have l_it8097 := hwf97 _ _ it80
              have hcq : h97.2.2 (p c) = some (true, .inr (3, [(vi (trS sg i c)), (vi (trA sg i c)), (vi (trD sg i c))])) := (fR _ (by have := (tg_at (hcl c (by omega) (by omega))).2.1; omega)).trans (tg_at (hcl c (by omega) (by omega))).1
              have l_hcq := hwf97 _ _ hcq
              refine m_cast (y := yiX1_checksum) dX1_checksum_102 hcq rfl q795 (Or.inl rfl) ?_
              refine m_astore (y := yiX1_checksum) dX1_checksum_105 (by decide) rfl ?_
              show MW K yiX1_checksum d h97 107 [some (.ref x), some (.long s3), none, some (.ref h.1), some (.ref (tp i)), some (.ref h52.1), some (.ref (p c))] [] Q
              refine m_ldc2 (y := yiX1_checksum) (v := 31) dX1_checksum_107 q715 ?_
              refine m_lload_n (y := yiX1_checksum) dX1_checksum_110 rfl ?_
              refine m_lmul (y := yiX1_checksum) dX1_checksum_111 ?_
              refine m_aload (y := yiX1_checksum) dX1_checksum_112 rfl ?_
              refine m_invV (y := yiX1_checksum) (rB := (RX4, TX4, 3)) [] dX1_checksum_114 hcq rfl q796 q797 q798 q155 q799 rfl (c_X4_stop (d := 0) hcq) pdX4_stop ⟨Nat.le_of_ble_eq_true rfl, by decide, by omega⟩ (kk_z fun r114 h114 q114 => ?_) kx_z
              obtain ⟨rfl, rfl⟩ := q114
              refine mw_top (x' := (trS sg i c)) rfl ?_
              refine j_i2l (y := yiX1_checksum) dX1_checksum_117 ?_
              refine m_ladd (y := yiX1_checksum) dX1_checksum_118 ?_
              refine m_lstore_n (y := yiX1_checksum) dX1_checksum_119 (by decide) rfl ?_
              show MW K yiX1_checksum d h97 120 [some (.ref x), some (.long (((31 : Int64) * s3) + (vl (trS sg i c)))), none, some (.ref h.1), some (.ref (tp i)), some (.ref h52.1), some (.ref (p c))] [] Q
              refine m_ldc2 (y := yiX1_checksum) (v := 31) dX1_checksum_120 q715 ?_
              refine m_lload_n (y := yiX1_checksum) dX1_checksum_123 rfl ?_
              refine m_lmul (y := yiX1_checksum) dX1_checksum_124 ?_
              refine m_aload (y := yiX1_checksum) dX1_checksum_125 rfl ?_
              refine m_invV (y := yiX1_checksum) (rB := (RX4, TX4, 3)) [] dX1_checksum_127 hcq rfl q800 q801 q802 q155 q803 rfl (c_X4_arrival (d := 0) hcq) pdX4_arrival ⟨Nat.le_of_ble_eq_true rfl, by decide, by omega⟩ (kk_z fun r127 h127 q127 => ?_) kx_z
              obtain ⟨rfl, rfl⟩ := q127
              refine mw_top (x' := (trA sg i c)) rfl ?_
              refine j_i2l (y := yiX1_checksum) dX1_checksum_130 ?_
              refine m_ladd (y := yiX1_checksum) dX1_checksum_131 ?_
              refine m_lstore_n (y := yiX1_checksum) dX1_checksum_132 (by decide) rfl ?_
              show MW K yiX1_checksum d h97 133 [some (.ref x), some (.long (((31 : Int64) * (((31 : Int64) * s3) + (vl (trS sg i c)))) + (vl (trA sg i c)))), none, some (.ref h.1), some (.ref (tp i)), some (.ref h52.1), some (.ref (p c))] [] Q
              refine m_ldc2 (y := yiX1_checksum) (v := 31) dX1_checksum_133 q715 ?_
              refine m_lload_n (y := yiX1_checksum) dX1_checksum_136 rfl ?_
              refine m_lmul (y := yiX1_checksum) dX1_checksum_137 ?_
              refine m_aload (y := yiX1_checksum) dX1_checksum_138 rfl ?_
              refine m_invV (y := yiX1_checksum) (rB := (RX4, TX4, 3)) [] dX1_checksum_140 hcq rfl q804 q805 q806 q155 q807 rfl (c_X4_departure (d := 0) hcq) pdX4_departure ⟨Nat.le_of_ble_eq_true rfl, by decide, by omega⟩ (kk_z fun r140 h140 q140 => ?_) kx_z
              obtain ⟨rfl, rfl⟩ := q140
              refine mw_top (x' := (trD sg i c)) rfl ?_
              refine j_i2l (y := yiX1_checksum) dX1_checksum_143 ?_
              refine m_ladd (y := yiX1_checksum) dX1_checksum_144 ?_
              refine m_lstore_n (y := yiX1_checksum) dX1_checksum_145 (by decide) rfl ?_
              show MW K yiX1_checksum d h97 146 [some (.ref x), some (.long (((31 : Int64) * (((31 : Int64) * (((31 : Int64) * s3) + (vl (trS sg i c)))) + (vl (trA sg i c)))) + (vl (trD sg i c)))), none, some (.ref h.1), some (.ref (tp i)), some (.ref h52.1), some (.ref (p c))] [] Q
              refine m_goto (y := yiX1_checksum) 85 dX1_checksum_146 (by decide) ?_
              refine mw_forget 6 ?_
              exact ih85 _ (by omega) _ _ _ _ rfl hx hto hte hso hse hxq it38 htq hlo hle it80 fR (by omega) (by rw [ckC_s hcc.1, hs3]; rfl) (⟨by omega, by omega⟩)
          exact L85 _ _ _ _ _ rfl hx hto hte hso hse hxq it38 htq hlo hle it80 fR (by omega) rfl (⟨by omega, by omega⟩)
      exact L42 _ _ _ _ _ rfl hx hto hte hso hse hxq it38 fR (by omega) (by rw [hs, show k = sg.1 1 by omega]; rfl) (⟨by omega, by omega⟩) (⟨by omega, by omega⟩)
    · refine m_ldc2 (y := yiX1_checksum) (v := 31) dX1_checksum_14 q715 ?_
      refine m_lload_n (y := yiX1_checksum) dX1_checksum_17 rfl ?_
      refine m_lmul (y := yiX1_checksum) dX1_checksum_18 ?_
      refine m_aload_n (y := yiX1_checksum) dX1_checksum_19 rfl ?_
      refine m_getfS (y := yiX1_checksum) kc_0 0 (by decide) dX1_checksum_20 q296 hx rfl ?_
      refine j_iload_n (y := yiX1_checksum) dX1_checksum_23 rfl ?_
      refine j_iald (y := yiX1_checksum) dX1_checksum_24 hch (by omega) ⟨by omega, by omega⟩ ?_
      refine j_i2l (y := yiX1_checksum) dX1_checksum_25 ?_
      refine m_ladd (y := yiX1_checksum) dX1_checksum_26 ?_
      refine m_lstore_n (y := yiX1_checksum) dX1_checksum_27 (by decide) rfl ?_
      show MW K yiX1_checksum d h 28 [some (.ref x), some (.long (((31 : Int64) * s) + (vl ((sg.2 2) k)))), none, some (vi k), none, none, none] [] Q
      refine j_iinc (y := yiX1_checksum) [some (.ref x), some (.long (((31 : Int64) * s) + (vl ((sg.2 2) k)))), none, some (vi (k + 1)), none, none, none] dX1_checksum_28 rfl (by decide) rfl rfl ?_
      refine m_goto (y := yiX1_checksum) 6 dX1_checksum_31 (by decide) ?_
      exact ih6 _ (by omega) _ _ rfl (by omega) (by rw [ckF_s hk.1, hs, Int.zero_add])
  exact L6 _ _ _ rfl (by omega) rfl
theorem q_meanBetween (hd : 8 ≤ d) (hT : TB sg) (hC : clOk sg) (hW : World K h z x sg) (hz1 : z ≤ h.1) (hne : ∀ a b : Int, 0 < b → b ≤ 168 → vf_n64 (FP.ddiv (FP.i2d (Int32.ofInt a)) (FP.i2d (Int32.ofInt b)))) (hz : h.1 + 25000 ≤ kC K ∧ h.2.1 + 304000 ≤ kS K) : Mt K yiX1_meanBetween d [.ref x] h (RwD [RJ47] fun th v h' => QFr h h' ∧ ((mbN sg (sg.1 8).toNat = 0 ∧ th = 1) ∨ (mbN sg (sg.1 8).toNat ≠ 0 ∧ th = 0 ∧ v = FP.ddiv (FP.i2d (Int32.ofInt (mbT sg (sg.1 8).toNat))) (FP.i2d (Int32.ofInt (mbN sg (sg.1 8).toNat)))))) := by
  have f8 := of8 (hT.1 8)
  have hW0 := hW
  obtain ⟨own, e0, cc, ch, wk, sv, tr, lt, ws, tx, se, te, we, kp, sp, tp, wp, T, hK, hE, hI, hx, hch, hwk, hsv, htr, hlt, hws, htx, hkp, hR0⟩ := hW
  obtain ⟨hx, hxz, -⟩ := tg_at hx
  obtain ⟨hch, hchz, -⟩ := tg_at hch
  have hE1 := hE.1
  obtain ⟨hE2, hE2z, -⟩ := tg_at hE.2
  obtain ⟨k0, k1, k3, k4, k5, k8, k9, k10, k11, k12⟩ := hK
  have hwk := And.intro hwk.1.C hwk.2
  obtain ⟨⟨wt, capt, mct, ft, hto, hte, htne, ht0, htw, htcap, htf, htno⟩, htt⟩ := htr
  obtain ⟨hto, htoz, -⟩ := tg_at hto
  obtain ⟨hte, htez, -⟩ := tg_at hte
  refine mt_ofQ (by decide) (Nat.le_of_ble_eq_true rfl) (fun Q hQ => ?_)
  show MW K yiX1_meanBetween d h 0 [some (.ref x), none, none, none, none, none] [] Q
  refine mw_wf (fun hwf => ?_)
  have l_hx := hwf _ _ hx
  have l_hto := hwf _ _ hto
  have l_hte := hwf _ _ hte
  have fR : ∀ b, (b < h.1) → h.2.2 b = h.2.2 b := fun _ _ => rfl
  refine j_iconst (y := yiX1_meanBetween) dX1_meanBetween_0 ?_
  refine j_istore_n (y := yiX1_meanBetween) [some (.ref x), some (vi 0), none, none, none, none] dX1_meanBetween_1 (by decide) rfl rfl ?_
  refine j_iconst (y := yiX1_meanBetween) dX1_meanBetween_2 ?_
  refine j_istore_n (y := yiX1_meanBetween) [some (.ref x), some (vi 0), some (vi 0), none, none, none] dX1_meanBetween_3 (by decide) rfl rfl ?_
  refine m_aload_n (y := yiX1_meanBetween) dX1_meanBetween_4 rfl ?_
  refine m_getfS (y := yiX1_meanBetween) kc_0 4 (by decide) dX1_meanBetween_5 q302 hx rfl ?_
  refine m_invV (y := yiX1_meanBetween) (rB := (RJ2, TJ2, 3)) [] dX1_meanBetween_8 hto rfl q716 q717 q718 q126 q719 rfl (c_J2_iterator K 2 h _ _ _ _ (by omega) hto ⟨by omega, by omega⟩) pdJ2_iterator ⟨Nat.le_of_ble_eq_true rfl, by decide, by omega⟩ (kk_r fun r8 h8 q8 => ?_) kx_r
  obtain ⟨rfl, q8⟩ := q8
  have y8 := q8.1
  have z8 := q8.2.1
  have it8 := q8.2.2.1
  have hx : h8.2.2 x = some (true, .inr (0, [(.ref ch), (.ref wk), (vi (sg.1 1)), (.ref sv), (.ref tr), (.ref lt), (.ref ws), (.ref tx), (vi (sg.1 21)), (va_rf kp)])) := (q8.2.2.2 _ (by omega)).trans hx
  have hto : h8.2.2 tr = some (true, .inr (14, [(vi mct), (.ref te), (vi (sg.1 8))])) := (q8.2.2.2 _ (by omega)).trans hto
  have hte : h8.2.2 te = some (wt, oaE K capt ft) := (q8.2.2.2 _ (by omega)).trans hte
  have fR : ∀ b, (b < h.1) → h8.2.2 b = h.2.2 b := fun b hb => (q8.2.2.2 b (by omega)).trans (fR b hb)
  refine mw_wf (fun hwf8 => ?_)
  have l_it88 := hwf8 _ _ it8
  refine m_astore_n (y := yiX1_meanBetween) dX1_meanBetween_11 (by decide) rfl ?_
  show MW K yiX1_meanBetween d h8 12 [some (.ref x), some (vi 0), some (vi 0), some (.ref h.1), none, none] [] Q
  have L12 : ∀ (N : Nat) (mn su i lr : Int) (g : MH), (24 - i).toNat = N → (g.2.2 tr = some (true, .inr (14, [(vi mct), (.ref te), (vi (sg.1 8))]))) → (g.2.2 te = some (wt, oaE K capt ft)) → (g.2.2 h.1 = some (true, .inr (15, [(vi i), (vi lr), (vi mct), (.ref tr)]))) → (∀ b, (b < h.1) → g.2.2 b = h.2.2 b) → (0 ≤ i ∧ i ≤ sg.1 8) → (mn = mbN sg i.toNat ∧ 0 ≤ mn ∧ mn ≤ 7 * i) → (su = mbT sg i.toNat) → (g.1 = h.1 + 1 ∧ g.2.1 = h.2.1 + 4) → MW K yiX1_meanBetween d g 12 [some (.ref x), some (vi su), some (vi mn), some (.ref h.1), none, none] [] Q := by
    intro N
    induction N using Nat.strongRecOn with
    | _ N ih12 =>
    intro mn su i lr g hN12 hto hte it8 fR ht hm hs hc
    refine mw_wf (fun hwf12 => ?_)
    have l_hto12 := hwf12 _ _ hto
    have l_hte12 := hwf12 _ _ hte
    have l_it812 := hwf12 _ _ it8
    refine m_aload_n (y := yiX1_meanBetween) dX1_meanBetween_12 rfl ?_
    refine m_invF (y := yiX1_meanBetween) (rB := (RJ28, TJ28, 4)) [] dX1_meanBetween_13 it8 rfl q744 q746 q745 rfl q748 q750 q751 q749 q747 q156 q752 ⟨by decide, by decide⟩ (by show _ = some 0; decide +kernel) (c_J28_hasNext K 0 g _ _ _ _ _ _ _ it8 hto ⟨by omega, by omega, by omega⟩) pdJ28_hasNext ⟨Nat.le_of_ble_eq_true rfl, by decide, by omega⟩ (kk_z fun r13 h13 q13 => ?_) kx_z
    obtain ⟨rfl, rfl⟩ := q13
    refine mw_top (x' := bz (i ≠ sg.1 8)) rfl ?_
    refine j_bz_eq (y := yiX1_meanBetween) 98 dX1_meanBetween_18 (by decide) (fun c18 => ?_) (fun c18 => ?_)
    · have et : i = sg.1 8 := by omega
      refine j_iload_n (y := yiX1_meanBetween) dX1_meanBetween_98 rfl ?_
      refine j_if_ne (y := yiX1_meanBetween) 110 dX1_meanBetween_99 (by decide) ⟨by omega, by omega⟩ (fun c99 => ?_) (fun c99 => ?_)
      · refine j_iload_n (y := yiX1_meanBetween) dX1_meanBetween_110 rfl ?_
        refine m_i2d (y := yiX1_meanBetween) dX1_meanBetween_111 ?_
        refine j_iload_n (y := yiX1_meanBetween) dX1_meanBetween_112 rfl ?_
        refine m_i2d (y := yiX1_meanBetween) dX1_meanBetween_113 ?_
        refine m_ddiv (y := yiX1_meanBetween) dX1_meanBetween_114 (hne _ _ (by omega) (by omega)) ?_
        subst hQ; exact m_dret (y := yiX1_meanBetween) dX1_meanBetween_115 rfl (Or.inl ⟨_, rfl, ⟨⟨⟨by omega, by omega⟩, ⟨by omega, by omega⟩, fR⟩, by rw [et] at hm hs; exact Or.inr ⟨by omega, rfl, by rw [← hs, ← hm.1]⟩⟩⟩)
      · refine m_throw0 (y := yiX1_meanBetween) (E := RJ47) (names := [RJ11, RJ10]) dX1_meanBetween_102 dX1_meanBetween_105 dX1_meanBetween_106 dX1_meanBetween_109 (by decide) (by decide) q3054 q188 atJ47 (fun x hx => nomatch hx) ⟨Nat.le_of_ble_eq_true rfl, by first | omega | (simp only [List.length_cons, List.length_nil]; omega), by omega, by omega⟩ (fun nT uT t1 t2 t3 t4 => ?_)
        subst hQ; exact Or.inr ⟨0, RJ47, g.1, rfl, rfl, fun _ => ⟨⟨⟨show h.1 ≤ nT by omega, show nT ≤ h.1 + 25000 by omega⟩, ⟨show h.2.1 ≤ uT by omega, show uT ≤ h.2.1 + 304000 by omega⟩, fR⟩, by rw [et] at hm hs; exact Or.inl ⟨by omega, rfl⟩⟩⟩
    · refine m_aload_n (y := yiX1_meanBetween) dX1_meanBetween_21 rfl ?_
      refine m_invF (y := yiX1_meanBetween) (rB := (RJ28, TJ28, 4)) [] dX1_meanBetween_22 it8 rfl q757 q759 q758 rfl q760 q762 q763 q761 q747 q156 q764 ⟨by decide, by decide⟩ (by show _ = some 0; decide +kernel) (c_J28_next K 1 g _ _ _ _ _ _ _ _ _ _ _ (by omega) it8 hto hte ⟨by omega, by omega, by omega⟩ ⟨by omega, by omega, by omega, by omega⟩ (htf _ (by omega) (by omega))) pdJ28_next ⟨Nat.le_of_ble_eq_true rfl, by decide, by omega⟩ (kk_r fun r22 h22 q22 => ?_) kx_r
      obtain ⟨rfl, q22⟩ := q22
      have y22 := q22.1
      have z22 := q22.2.1
      have it8 := q22.2.2.1
      have hto : h22.2.2 tr = some (true, .inr (14, [(vi mct), (.ref te), (vi (sg.1 8))])) := (q22.2.2.2 _ (by omega)).trans hto
      have hte : h22.2.2 te = some (wt, oaE K capt ft) := (q22.2.2.2 _ (by omega)).trans hte
      have fR : ∀ b, (b < h.1) → h22.2.2 b = h.2.2 b := fun b hb => (q22.2.2.2 b (by omega)).trans (fR b hb)
      refine mw_wf (fun hwf22 => ?_)
      have l_it822 := hwf22 _ _ it8
      obtain ⟨l, e, p, htq0, ⟨wl, cl, ml2, fl, hlo0, hle0, hlae, hl0, hlw, hlc, hlf, hlno⟩, hcl⟩ := htt i (by omega) (by omega)
      have hnb := oa10 (hT.2 10) i (by omega) (by omega)
      have hcb := hC i (by omega) (by omega)
      have htq : h22.2.2 (tp i) = some (true, .inr (2, [(vi (sg.2 9 i)), (.ref l)])) := (fR _ (by have := (tg_at htq0).2.1; omega)).trans (tg_at htq0).1
      have l_htq := hwf22 _ _ htq
      have hlo : h22.2.2 l = some (true, .inr (14, [(vi ml2), (.ref e), (vi (sg.2 10 i))])) := (fR _ (by have := (tg_at hlo0).2.1; omega)).trans (tg_at hlo0).1
      have l_hlo := hwf22 _ _ hlo
      have hle : h22.2.2 e = some (wl, oaE K cl fl) := (fR _ (by have := (tg_at hle0).2.1; omega)).trans (tg_at hle0).1
      have l_hle := hwf22 _ _ hle
      refine m_cast (y := yiX1_meanBetween) dX1_meanBetween_27 htq rfl q794 (Or.inl rfl) ?_
      refine m_astore (y := yiX1_meanBetween) dX1_meanBetween_30 (by decide) rfl ?_
      show MW K yiX1_meanBetween d h22 32 [some (.ref x), some (vi su), some (vi mn), some (.ref h.1), some (.ref (tp i)), none] [] Q
      refine j_iconst (y := yiX1_meanBetween) dX1_meanBetween_32 ?_
      refine j_istore (y := yiX1_meanBetween) [some (.ref x), some (vi su), some (vi mn), some (.ref h.1), some (.ref (tp i)), some (vi 1)] dX1_meanBetween_33 (by decide) rfl rfl ?_
      have L35 : ∀ (N : Nat) (mn2 su2 k : Int), (8 - k).toNat = N → (1 ≤ k ∧ k ≤ sg.2 10 i ∧ sg.2 10 i ≤ 8) → (mn2 = mn + (k - 1) ∧ 0 ≤ mn2) → (su2 = su + mbC sg i (k - 1).toNat) → MW K yiX1_meanBetween d h22 35 [some (.ref x), some (vi su2), some (vi mn2), some (.ref h.1), some (.ref (tp i)), some (vi k)] [] Q := by
        intro N
        induction N using Nat.strongRecOn with
        | _ N ih35 =>
        intro mn2 su2 k hN35 hk hm2 hs2
        refine j_iload (y := yiX1_meanBetween) dX1_meanBetween_35 rfl ?_
        refine m_aload (y := yiX1_meanBetween) dX1_meanBetween_37 rfl ?_
        refine m_getfN (y := yiX1_meanBetween) kc_2 1 (by decide) dX1_meanBetween_39 q1146 htq rfl ?_
        refine m_invV (y := yiX1_meanBetween) (rB := (RJ2, TJ2, 3)) [] dX1_meanBetween_42 hlo rfl q333 q334 q335 q126 q336 rfl (c_J2_size K 0 h22 _ _ _ _ hlo) pdJ2_size ⟨Nat.le_of_ble_eq_true rfl, by decide, by omega⟩ (kk_z fun r42 h42 q42 => ?_) kx_z
        obtain ⟨rfl, rfl⟩ := q42
        refine mw_top (x' := sg.2 10 i) rfl ?_
        refine j_icmp_ge (y := yiX1_meanBetween) 95 dX1_meanBetween_45 (by decide) ⟨⟨by omega, by omega⟩, ⟨by omega, by omega⟩⟩ (fun c45 => ?_) (fun c45 => ?_)
        · refine m_goto (y := yiX1_meanBetween) 12 dX1_meanBetween_95 (by decide) ?_
          refine mw_forget 4 ?_
          refine mw_forget 5 ?_
          exact ih12 _ (by omega) _ _ _ _ _ rfl hto hte it8 fR (by omega) (⟨by rw [mbN_s ht.1, hm2.1, hm.1, show k = sg.2 10 i by omega]; omega, by omega, by omega⟩) (by rw [mbT_s ht.1, hs2, hs, show k = sg.2 10 i by omega]) (⟨by omega, by omega⟩)
        · refine j_iload_n (y := yiX1_meanBetween) dX1_meanBetween_48 rfl ?_
          refine m_aload (y := yiX1_meanBetween) dX1_meanBetween_49 rfl ?_
          refine m_getfN (y := yiX1_meanBetween) kc_2 1 (by decide) dX1_meanBetween_51 q1146 htq rfl ?_
          refine j_iload (y := yiX1_meanBetween) dX1_meanBetween_54 rfl ?_
          refine m_invV (y := yiX1_meanBetween) (rB := (RJ2, TJ2, 3)) [(vi k)] dX1_meanBetween_56 hlo rfl q1035 q1036 q1037 q126 q1038 rfl (c_J2_get K 2 h22 _ _ _ _ _ _ _ _ _ (by omega) hlo hle ⟨by omega, by omega⟩ ⟨by omega, by omega⟩ (hlf _ (by omega) (by omega))) pdJ2_get ⟨Nat.le_of_ble_eq_true rfl, by decide, by omega⟩ (kk_r fun r56 h56 q56 => ?_) kx_r
          obtain ⟨rfl, rfl⟩ := q56
          have hcq : h22.2.2 (p k) = some (true, .inr (3, [(vi (trS sg i k)), (vi (trA sg i k)), (vi (trD sg i k))])) := (fR _ (by have := (tg_at (hcl k (by omega) (by omega))).2.1; omega)).trans (tg_at (hcl k (by omega) (by omega))).1
          have l_hcq := hwf22 _ _ hcq
          refine m_cast (y := yiX1_meanBetween) dX1_meanBetween_59 hcq rfl q795 (Or.inl rfl) ?_
          refine m_invV (y := yiX1_meanBetween) (rB := (RX4, TX4, 3)) [] dX1_meanBetween_62 hcq rfl q800 q801 q802 q155 q803 rfl (c_X4_arrival (d := 0) hcq) pdX4_arrival ⟨Nat.le_of_ble_eq_true rfl, by decide, by omega⟩ (kk_z fun r62 h62 q62 => ?_) kx_z
          obtain ⟨rfl, rfl⟩ := q62
          refine mw_top (x' := (trA sg i k)) rfl ?_
          refine m_aload (y := yiX1_meanBetween) dX1_meanBetween_65 rfl ?_
          refine m_getfN (y := yiX1_meanBetween) kc_2 1 (by decide) dX1_meanBetween_67 q1146 htq rfl ?_
          refine j_iload (y := yiX1_meanBetween) dX1_meanBetween_70 rfl ?_
          refine j_iconst (y := yiX1_meanBetween) dX1_meanBetween_72 ?_
          refine j_isub (y := yiX1_meanBetween) dX1_meanBetween_73 ?_
          refine m_invV (y := yiX1_meanBetween) (rB := (RJ2, TJ2, 3)) [(vi (k - 1))] dX1_meanBetween_74 hlo rfl q1035 q1036 q1037 q126 q1038 rfl (c_J2_get K 2 h22 _ _ _ _ _ _ _ _ _ (by omega) hlo hle ⟨by omega, by omega⟩ ⟨by omega, by omega⟩ (hlf _ (by omega) (by omega))) pdJ2_get ⟨Nat.le_of_ble_eq_true rfl, by decide, by omega⟩ (kk_r fun r74 h74 q74 => ?_) kx_r
          obtain ⟨rfl, rfl⟩ := q74
          have hcq2 : h22.2.2 (p (k - 1)) = some (true, .inr (3, [(vi (trS sg i (k - 1))), (vi (trA sg i (k - 1))), (vi (trD sg i (k - 1)))])) := (fR _ (by have := (tg_at (hcl (k - 1) (by omega) (by omega))).2.1; omega)).trans (tg_at (hcl (k - 1) (by omega) (by omega))).1
          have l_hcq2 := hwf22 _ _ hcq2
          refine m_cast (y := yiX1_meanBetween) dX1_meanBetween_77 hcq2 rfl q795 (Or.inl rfl) ?_
          refine m_invV (y := yiX1_meanBetween) (rB := (RX4, TX4, 3)) [] dX1_meanBetween_80 hcq2 rfl q804 q805 q806 q155 q807 rfl (c_X4_departure (d := 0) hcq2) pdX4_departure ⟨Nat.le_of_ble_eq_true rfl, by decide, by omega⟩ (kk_z fun r80 h80 q80 => ?_) kx_z
          obtain ⟨rfl, rfl⟩ := q80
          refine mw_top (x' := (trD sg i (k - 1))) rfl ?_
          refine j_isub (y := yiX1_meanBetween) dX1_meanBetween_83 ?_
          refine j_iadd (y := yiX1_meanBetween) dX1_meanBetween_84 ?_
          refine j_istore_n (y := yiX1_meanBetween) [some (.ref x), some (vi (su2 + ((trA sg i k) - (trD sg i (k - 1))))), some (vi mn2), some (.ref h.1), some (.ref (tp i)), some (vi k)] dX1_meanBetween_85 (by decide) rfl rfl ?_
          refine j_iinc (y := yiX1_meanBetween) [some (.ref x), some (vi (su2 + ((trA sg i k) - (trD sg i (k - 1))))), some (vi (mn2 + 1)), some (.ref h.1), some (.ref (tp i)), some (vi k)] dX1_meanBetween_86 rfl (by decide) rfl rfl ?_
          refine j_iinc (y := yiX1_meanBetween) [some (.ref x), some (vi (su2 + ((trA sg i k) - (trD sg i (k - 1))))), some (vi (mn2 + 1)), some (.ref h.1), some (.ref (tp i)), some (vi (k + 1))] dX1_meanBetween_89 rfl (by decide) rfl rfl ?_
          refine m_goto (y := yiX1_meanBetween) 35 dX1_meanBetween_92 (by decide) ?_
          exact ih35 _ (by omega) _ _ _ rfl (by omega) (by omega) (by rw [mbC_s hk.1, hs2]; show _ = su + (mbC sg i (k - 1).toNat + (sg.2 12 (8 * i + k) - sg.2 13 (8 * i + k - 1))); have q1 : trA sg i k = sg.2 12 (8 * i + k) := rfl; have q2 : trD sg i (k - 1) = sg.2 13 (8 * i + k - 1) := congrArg (sg.2 13) (by omega); omega)
      exact L35 _ _ _ _ rfl (by omega) (by omega) (by show su = su + mbC sg i 0; unfold mbC; omega)
  exact L12 _ _ _ _ _ _ rfl hto hte it8 fR (by omega) (⟨rfl, by omega, by omega⟩) rfl (⟨by omega, by omega⟩)
end FIG
