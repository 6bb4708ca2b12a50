/-! the twin: vehicles, onBoard -/
/-- beginnings that get no end: each, the earliest first, takes the earliest end left if that is soon enough -/
def grL : List Int → List Int → Int
  | [], _ => 0
  | _ :: bs, [] => 1 + grL bs []
  | b :: bs, e :: es => if e + 5 ≤ b then grL bs es else 1 + grL bs (e :: es)
def bgL (sg : TS) (day v : Int) : Nat → List Int
  | 0 => []
  | t + 1 => if rnP sg day (t : Int) ∧ sg.2 11 (8 * (t : Int)) = v then bgL sg day v t ++ [sg.2 13 (8 * (t : Int))] else bgL sg day v t
def edL (sg : TS) (day v : Int) : Nat → List Int
  | 0 => []
  | t + 1 => if rnP sg day (t : Int) ∧ sg.2 11 (8 * (t : Int) + sg.2 10 (t : Int) - 1) = v then edL sg day v t ++ [sg.2 12 (8 * (t : Int) + sg.2 10 (t : Int) - 1)] else edL sg day v t
theorem bgL_y {sg : TS} {day v t : Int} (ht : 0 ≤ t) (h : rnP sg day t ∧ sg.2 11 (8 * t) = v) : bgL sg day v (t + 1).toNat = bgL sg day v t.toNat ++ [sg.2 13 (8 * t)] := by
  have e : (t + 1).toNat = t.toNat + 1 := by omega
  have e2 : ((t.toNat : Nat) : Int) = t := by omega
  rw [e]
  show (if rnP sg day ((t.toNat : Nat) : Int) ∧ sg.2 11 (8 * ((t.toNat : Nat) : Int)) = v then bgL sg day v t.toNat ++ [sg.2 13 (8 * ((t.toNat : Nat) : Int))] else _) = _
  rw [e2, if_pos h]
theorem bgL_n {sg : TS} {day v t : Int} (ht : 0 ≤ t) (h : ¬ (rnP sg day t ∧ sg.2 11 (8 * t) = v)) : bgL sg day v (t + 1).toNat = bgL sg day v t.toNat := by
  have e : (t + 1).toNat = t.toNat + 1 := by omega
  have e2 : ((t.toNat : Nat) : Int) = t := by omega
  rw [e]
  show (if rnP sg day ((t.toNat : Nat) : Int) ∧ sg.2 11 (8 * ((t.toNat : Nat) : Int)) = v then _ else bgL sg day v t.toNat) = _
  rw [e2, if_neg h]
theorem edL_y {sg : TS} {day v t : Int} (ht : 0 ≤ t) (h : rnP sg day t ∧ sg.2 11 (8 * t + sg.2 10 t - 1) = v) : edL sg day v (t + 1).toNat = edL sg day v t.toNat ++ [sg.2 12 (8 * t + sg.2 10 t - 1)] := by
  have e : (t + 1).toNat = t.toNat + 1 := by omega
  have e2 : ((t.toNat : Nat) : Int) = t := by omega
  rw [e]
  show (if rnP sg day ((t.toNat : Nat) : Int) ∧ sg.2 11 (8 * ((t.toNat : Nat) : Int) + sg.2 10 ((t.toNat : Nat) : Int) - 1) = v then edL sg day v t.toNat ++ [sg.2 12 (8 * ((t.toNat : Nat) : Int) + sg.2 10 ((t.toNat : Nat) : Int) - 1)] else _) = _
  rw [e2, if_pos h]
theorem edL_n {sg : TS} {day v t : Int} (ht : 0 ≤ t) (h : ¬ (rnP sg day t ∧ sg.2 11 (8 * t + sg.2 10 t - 1) = v)) : edL sg day v (t + 1).toNat = edL sg day v t.toNat := by
  have e : (t + 1).toNat = t.toNat + 1 := by omega
  have e2 : ((t.toNat : Nat) : Int) = t := by omega
  rw [e]
  show (if rnP sg day ((t.toNat : Nat) : Int) ∧ sg.2 11 (8 * ((t.toNat : Nat) : Int) + sg.2 10 ((t.toNat : Nat) : Int) - 1) = v then _ else edL sg day v t.toNat) = _
  rw [e2, if_neg h]
def vhN (sg : TS) (day : Int) : Nat → Int
  | 0 => 0
  | v + 1 => vhN sg day v + grL (srt (bgL sg day (v : Int) (sg.1 8).toNat)) (srt (edL sg day (v : Int) (sg.1 8).toNat))
theorem vhN_s {sg : TS} {day v : Int} (hv : 0 ≤ v) : vhN sg day (v + 1).toNat = vhN sg day v.toNat + grL (srt (bgL sg day v (sg.1 8).toNat)) (srt (edL sg day v (sg.1 8).toNat)) := by
  have e : (v + 1).toNat = v.toNat + 1 := by omega
  have e2 : ((v.toNat : Nat) : Int) = v := by omega
  rw [e]; show vhN sg day v.toNat + grL (srt (bgL sg day ((v.toNat : Nat) : Int) (sg.1 8).toNat)) (srt (edL sg day ((v.toNat : Nat) : Int) (sg.1 8).toNat)) = _
  rw [e2]
theorem lst_drop {f : Int → Int} {n : Nat} {k : Int} (hk : 0 ≤ k ∧ k < n) : (lst f n).drop k.toNat = f k :: (lst f n).drop (k + 1).toNat := by
  have e : (k + 1).toNat = k.toNat + 1 := by omega
  have hl : k.toNat < (lst f n).length := by rw [lst_len]; omega
  rw [e, List.drop_eq_getElem_cons hl]
  congr 1
  have := lst_get (f := f) (n := n) (i := k.toNat) (by omega)
  rw [List.getElem?_eq_getElem hl, show ((k.toNat : Nat) : Int) = k by omega] at this
  exact Option.some.inj this
theorem lst_end {f : Int → Int} {n : Nat} {k : Int} (hk : (n : Int) ≤ k) : (lst f n).drop k.toNat = [] := List.drop_eq_nil_of_le (by rw [lst_len]; omega)
theorem gr_y {fb fe : Int → Int} {b e : Nat} {k nx : Int} (hk : 0 ≤ k ∧ k < b) (hn : 0 ≤ nx ∧ nx < e) (h : fe nx + 5 ≤ fb k) : grL ((lst fb b).drop k.toNat) ((lst fe e).drop nx.toNat) = grL ((lst fb b).drop (k + 1).toNat) ((lst fe e).drop (nx + 1).toNat) := by
  rw [lst_drop hk, lst_drop hn]
  show (if fe nx + 5 ≤ fb k then _ else _) = _
  rw [if_pos h]
theorem gr_n {fb fe : Int → Int} {b e : Nat} {k nx : Int} (hk : 0 ≤ k ∧ k < b) (hn : 0 ≤ nx) (h : ¬ (nx < e ∧ fe nx + 5 ≤ fb k)) : grL ((lst fb b).drop k.toNat) ((lst fe e).drop nx.toNat) = 1 + grL ((lst fb b).drop (k + 1).toNat) ((lst fe e).drop nx.toNat) := by
  rw [lst_drop hk]
  by_cases g : nx < e
  · rw [lst_drop ⟨hn, g⟩]
    show (if fe nx + 5 ≤ fb k then _ else _) = _
    rw [if_neg (fun q => h ⟨g, q⟩)]
  · rw [lst_end (f := fe) (n := e) (k := nx) (by omega)]; rfl
theorem c_endStop (K : KT) (d : Nat) (h : MH) (m : Nat) (sg : TS) (t : Int) (hd : 0 ≤ d) (hT : TB sg) (i_t : In t) (ht : 0 ≤ t ∧ t < 24) (hc : 1 ≤ sg.2 10 t) : Mt K yiX2_endStop d [.ref m, vi t] (tov K h m sg) (Rz fun v h' => h' = tov K h m sg ∧ v = sg.2 11 (8 * t + sg.2 10 t - 1)) := by
  have := i_t.1; have := i_t.2
  refine mt_ofQ (by decide) (Nat.le_of_ble_eq_true rfl) (fun Q hQ => ?_)
  show MW K yiX2_endStop d (tov K h m (ovr sg [] [])) 0 [some (.ref m), some (vi t)] [] Q
  refine m_aload_n dX2_endStop_0 rfl ?_
  refine t_geta 11 7 (by decide) dX2_endStop_1 q3104 rfl ?_
  refine j_bipush dX2_endStop_4 (by decide) ?_
  refine j_iload_n dX2_endStop_6 rfl ?_
  refine j_imul dX2_endStop_7 ?_
  refine m_aload_n dX2_endStop_8 rfl ?_
  refine t_geta 10 6 (by decide) dX2_endStop_9 q3103 rfl ?_
  refine j_iload_n dX2_endStop_12 rfl ?_
  refine t_aldB 6 (by decide) (n := 24) (sg.2 10) dX2_endStop_13 rfl (Nat.le_of_ble_eq_true rfl) (oa10 (hT.2 10)) ⟨by omega, by omega⟩ (fun b13 => ?_)
  refine j_iadd dX2_endStop_14 ?_
  refine j_iconst dX2_endStop_15 ?_
  refine j_isub dX2_endStop_16 ?_
  refine t_aldB 7 (by decide) (n := 192) (sg.2 11) dX2_endStop_17 rfl (Nat.le_of_ble_eq_true rfl) (oa11 (hT.2 11)) ⟨by omega, by omega⟩ (fun b17 => ?_)
  subst hQ; exact j_iret dX2_endStop_18 rfl (⟨rfl, rfl⟩)
/-- the lists under way -/
def vhI (sg : TS) (day v : Int) (b e t : Int) (g46 g47 : Int → Int) : Prop := (0 ≤ b ∧ b ≤ t) ∧ (0 ≤ e ∧ e ≤ t) ∧ lst g47 b.toNat = srt (bgL sg day v t.toNat) ∧ lst g46 e.toNat = srt (edL sg day v t.toNat)
theorem c_vehicles (K : KT) (d : Nat) (h : MH) (m : Nat) (sg : TS) (day : Int) (hd : 2 ≤ d) (hT : TB sg) (hC : clOk sg) (h1 : In day) : Mt K yiX2_vehicles d [.ref m, vi day] (tov K h m sg) (Rz (Qy K h m sg (fun th v => (¬ (0 ≤ day ∧ day ≤ 27) ∧ th = 1) ∨ ((0 ≤ day ∧ day ≤ 27) ∧ th = 0 ∧ v = vhN sg day (sg.1 1).toNat)))) := by
  have := h1.1; have := h1.2; have f1' := of1 (hT.1 1); have f8' := of8 (hT.1 8)
  refine mt_ofQ (by decide) (Nat.le_of_ble_eq_true rfl) (fun Q hQ => ?_)
  show MW K yiX2_vehicles d (tov K h m (ovr sg [] [])) 0 [some (.ref m), some (vi day), none, none, none, none, none, none] [] Q
  have f1 := of1 (hT.1 1)
  have f8 := of8 (hT.1 8)
  refine m_aload_n dX2_vehicles_0 rfl ?_
  refine j_iload_n dX2_vehicles_1 rfl ?_
  refine j_iconst dX2_vehicles_2 ?_
  refine t_inv [(vi day), (vi 1)] dX2_vehicles_3 q3297 q3299 qs80 q3300 rfl (c_isNoDay K 1 h m _ _ _ (by omega) ⟨by omega, by omega⟩) pdX2_isNoDay ⟨Nat.le_of_ble_eq_true rfl, by decide, by omega⟩ (kk_z fun r3 h3 q3 => ?_) kx_z
  obtain ⟨rfl, rfl⟩ := q3
  refine mw_tov (b := ovr sg [(0, (if ¬ (0 ≤ day ∧ day ≤ 27) then 1 else 0))] []) (ovr_ovr _ _ _ _ _) ?_
  refine mw_top (x' := bz (¬ (0 ≤ day ∧ day ≤ 27))) rfl ?_
  refine j_bz_eq 11 dX2_vehicles_6 (by decide) (fun c6 => ?_) (fun c6 => ?_)
  · refine mw_tov (b := ovr sg [(0, 0)] []) (by rw [if_neg c6]) ?_
    refine j_iconst dX2_vehicles_11 ?_
    refine j_istore_n [some (.ref m), some (vi day), some (vi 0), none, none, none, none, none] dX2_vehicles_12 (by decide) rfl rfl ?_
    refine j_iconst dX2_vehicles_13 ?_
    refine j_istore_n [some (.ref m), some (vi day), some (vi 0), some (vi 0), none, none, none, none] dX2_vehicles_14 (by decide) rfl rfl ?_
    have L15 : ∀ (N : Nat) (mn v : Int) (g46 g47 : Int → Int), (12 - v).toNat = N → (0 ≤ v ∧ v ≤ sg.1 1) → (mn = vhN sg day v.toNat ∧ 0 ≤ mn ∧ mn ≤ 24 * v) → (okA 46 g46 ∧ okA 47 g47) → MW K yiX2_vehicles d (tov K h m (ovr sg [(0, 0)] [(46, g46), (47, g47)])) 15 [some (.ref m), some (vi day), some (vi mn), some (vi v), none, none, none, none] [] Q := by
      intro N
      induction N using Nat.strongRecOn with
      | _ N ih15 =>
      intro mn v g46 g47 hN15 hv hm ho
      refine j_iload_n dX2_vehicles_15 rfl ?_
      refine m_aload_n dX2_vehicles_16 rfl ?_
      refine t_geti 1 (by decide) (sg.1 1) dX2_vehicles_17 q3094 rfl ?_
      refine j_icmp_ge 203 dX2_vehicles_20 (by decide) ⟨⟨by omega, by omega⟩, ⟨by omega, by omega⟩⟩ (fun c20 => ?_) (fun c20 => ?_)
      · refine j_iload_n dX2_vehicles_203 rfl ?_
        subst hQ; exact j_iret dX2_vehicles_204 rfl (⟨_, rfl, (Scr.ovr sg rfl rfl), (hT.ovr (fa1 (mf0 (v := 0) ⟨by first | decide | omega | (split <;> omega) | assumption, by first | decide | omega | (split <;> omega) | assumption⟩) fa0) (fa1 ho.1 (fa1 ho.2 fa0))), Or.inr ⟨by omega, rfl, by rw [hm.1, show v = sg.1 1 by omega]⟩⟩)
      · refine j_iconst dX2_vehicles_23 ?_
        refine j_istore [some (.ref m), some (vi day), some (vi mn), some (vi v), some (vi 0), none, none, none] dX2_vehicles_24 (by decide) rfl rfl ?_
        refine j_iconst dX2_vehicles_26 ?_
        refine j_istore [some (.ref m), some (vi day), some (vi mn), some (vi v), some (vi 0), some (vi 0), none, none] dX2_vehicles_27 (by decide) rfl rfl ?_
        refine j_iconst dX2_vehicles_29 ?_
        refine j_istore [some (.ref m), some (vi day), some (vi mn), some (vi v), some (vi 0), some (vi 0), some (vi 0), none] dX2_vehicles_30 (by decide) rfl rfl ?_
        have L32 : ∀ (N : Nat) (b e t : Int) (g6 g7 : Int → Int), (24 - t).toNat = N → (0 ≤ t ∧ t ≤ sg.1 8) → (vhI sg day v b e t g6 g7) → (okA 46 g6 ∧ okA 47 g7) → MW K yiX2_vehicles d (tov K h m (ovr sg [(0, 0)] [(46, g6), (47, g7)])) 32 [some (.ref m), some (vi day), some (vi mn), some (vi v), some (vi b), some (vi e), some (vi t), none] [] Q := by
          intro N
          induction N using Nat.strongRecOn with
          | _ N ih32 =>
          intro b e t g6 g7 hN32 ht hI ho2
          have hI1 := hI.1
          have hI2 := hI.2.1
          have hCt := hC t
          refine j_iload dX2_vehicles_32 rfl ?_
          refine m_aload_n dX2_vehicles_34 rfl ?_
          refine t_geti 8 (by decide) (sg.1 8) dX2_vehicles_35 q3101 rfl ?_
          refine j_icmp_ge 143 dX2_vehicles_38 (by decide) ⟨⟨by omega, by omega⟩, ⟨by omega, by omega⟩⟩ (fun c38 => ?_) (fun c38 => ?_)
          · have hV : vhI sg day v b e (sg.1 8) g6 g7 := by { rw [show sg.1 8 = t by omega]; exact hI }
            refine j_iconst dX2_vehicles_143 ?_
            refine j_istore [some (.ref m), some (vi day), some (vi mn), some (vi v), some (vi b), some (vi e), some (vi 0), none] dX2_vehicles_144 (by decide) rfl rfl ?_
            refine j_iconst dX2_vehicles_146 ?_
            refine j_istore [some (.ref m), some (vi day), some (vi mn), some (vi v), some (vi b), some (vi e), some (vi 0), some (vi 0)] dX2_vehicles_147 (by decide) rfl rfl ?_
            have L149 : ∀ (N : Nat) (m2 nx k : Int), (24 - k).toNat = N → (0 ≤ k ∧ k ≤ b) → (0 ≤ nx ∧ nx ≤ e) → (mn ≤ m2 ∧ m2 ≤ mn + k) → (m2 + grL ((lst g7 b.toNat).drop k.toNat) ((lst g6 e.toNat).drop nx.toNat) = mn + grL (lst g7 b.toNat) (lst g6 e.toNat)) → MW K yiX2_vehicles d (tov K h m (ovr sg [(0, 0)] [(46, g6), (47, g7)])) 149 [some (.ref m), some (vi day), some (vi m2), some (vi v), some (vi b), some (vi e), some (vi nx), some (vi k)] [] Q := by
              intro N
              induction N using Nat.strongRecOn with
              | _ N ih149 =>
              intro m2 nx k hN149 hk hn hb2 hG
              refine j_iload dX2_vehicles_149 rfl ?_
              refine j_iload dX2_vehicles_151 rfl ?_
              refine j_icmp_ge 197 dX2_vehicles_153 (by decide) ⟨⟨by omega, by omega⟩, ⟨by omega, by omega⟩⟩ (fun c153 => ?_) (fun c153 => ?_)
              · refine j_iinc [some (.ref m), some (vi day), some (vi m2), some (vi (v + 1)), some (vi b), some (vi e), some (vi nx), some (vi k)] dX2_vehicles_197 rfl (by decide) rfl rfl ?_
                refine m_goto 15 dX2_vehicles_200 (by decide) ?_
                refine mw_forget 4 ?_
                refine mw_forget 5 ?_
                refine mw_forget 6 ?_
                refine mw_forget 7 ?_
                exact ih15 _ (by omega) _ _ _ _ rfl (by omega) ⟨by rw [vhN_s hv.1, ← hm.1, ← hV.2.2.1, ← hV.2.2.2]; have q := hG; rw [lst_end (by omega)] at q; have z : grL [] ((lst g6 e.toNat).drop nx.toNat) = 0 := rfl; omega, by omega, by omega⟩ ⟨ho2.1, ho2.2⟩
              · refine j_iload dX2_vehicles_156 rfl ?_
                refine j_iload dX2_vehicles_158 rfl ?_
                refine j_icmp_ge 188 dX2_vehicles_160 (by decide) ⟨⟨by omega, by omega⟩, ⟨by omega, by omega⟩⟩ (fun c160 => ?_) (fun c160 => ?_)
                · refine j_iinc [some (.ref m), some (vi day), some (vi (m2 + 1)), some (vi v), some (vi b), some (vi e), some (vi nx), some (vi k)] dX2_vehicles_188 rfl (by decide) rfl rfl ?_
                  refine j_iinc [some (.ref m), some (vi day), some (vi (m2 + 1)), some (vi v), some (vi b), some (vi e), some (vi nx), some (vi (k + 1))] dX2_vehicles_191 rfl (by decide) rfl rfl ?_
                  refine m_goto 149 dX2_vehicles_194 (by decide) ?_
                  exact ih149 _ (by omega) _ _ _ rfl (by omega) (by omega) (by omega) (by first | (rw [gr_y (by omega) (by omega) (by omega)] at hG; exact hG) | (rw [gr_n (by omega) (by omega) (by omega)] at hG; omega))
                · refine m_aload_n dX2_vehicles_163 rfl ?_
                  refine t_geta 46 32 (by decide) dX2_vehicles_164 q3139 rfl ?_
                  refine j_iload dX2_vehicles_167 rfl ?_
                  refine t_aldB 32 (by decide) (n := 24) g6 dX2_vehicles_169 rfl (Nat.le_of_ble_eq_true rfl) (oa46 ho2.1) ⟨by omega, by omega⟩ (fun b169 => ?_)
                  refine j_iconst dX2_vehicles_170 ?_
                  refine j_iadd dX2_vehicles_171 ?_
                  refine m_aload_n dX2_vehicles_172 rfl ?_
                  refine t_geta 47 33 (by decide) dX2_vehicles_173 q3140 rfl ?_
                  refine j_iload dX2_vehicles_176 rfl ?_
                  refine t_aldB 33 (by decide) (n := 24) g7 dX2_vehicles_178 rfl (Nat.le_of_ble_eq_true rfl) (oa47 ho2.2) ⟨by omega, by omega⟩ (fun b178 => ?_)
                  refine j_icmp_gt 188 dX2_vehicles_179 (by decide) ⟨⟨by omega, by omega⟩, ⟨by omega, by omega⟩⟩ (fun c179 => ?_) (fun c179 => ?_)
                  · refine j_iinc [some (.ref m), some (vi day), some (vi (m2 + 1)), some (vi v), some (vi b), some (vi e), some (vi nx), some (vi k)] dX2_vehicles_188 rfl (by decide) rfl rfl ?_
                    refine j_iinc [some (.ref m), some (vi day), some (vi (m2 + 1)), some (vi v), some (vi b), some (vi e), some (vi nx), some (vi (k + 1))] dX2_vehicles_191 rfl (by decide) rfl rfl ?_
                    refine m_goto 149 dX2_vehicles_194 (by decide) ?_
                    exact ih149 _ (by omega) _ _ _ rfl (by omega) (by omega) (by omega) (by first | (rw [gr_y (by omega) (by omega) (by omega)] at hG; exact hG) | (rw [gr_n (by omega) (by omega) (by omega)] at hG; omega))
                  · refine j_iinc [some (.ref m), some (vi day), some (vi m2), some (vi v), some (vi b), some (vi e), some (vi (nx + 1)), some (vi k)] dX2_vehicles_182 rfl (by decide) rfl rfl ?_
                    refine m_goto 191 dX2_vehicles_185 (by decide) ?_
                    refine j_iinc [some (.ref m), some (vi day), some (vi m2), some (vi v), some (vi b), some (vi e), some (vi (nx + 1)), some (vi (k + 1))] dX2_vehicles_191 rfl (by decide) rfl rfl ?_
                    refine m_goto 149 dX2_vehicles_194 (by decide) ?_
                    exact ih149 _ (by omega) _ _ _ rfl (by omega) (by omega) (by omega) (by first | (rw [gr_y (by omega) (by omega) (by omega)] at hG; exact hG) | (rw [gr_n (by omega) (by omega) (by omega)] at hG; omega))
            exact L149 _ _ _ _ rfl (by omega) (by omega) (by omega) rfl
          · refine m_aload_n dX2_vehicles_41 rfl ?_
            refine j_iload dX2_vehicles_42 rfl ?_
            refine j_iload_n dX2_vehicles_44 rfl ?_
            refine t_inv [(vi t), (vi day)] dX2_vehicles_45 q3558 q3560 qs114 q3561 rfl (c_runs K 0 h m _ _ _ (by omega) (hT.ovr (fa1 (mf0 (v := 0) ⟨by first | decide | omega | (split <;> omega) | assumption, by first | decide | omega | (split <;> omega) | assumption⟩) fa0) (fa1 ho2.1 (fa1 ho2.2 fa0))) ⟨by omega, by omega⟩ ⟨by omega, by omega⟩ ⟨by omega, by omega⟩ ⟨by omega, by omega⟩) pdX2_runs ⟨Nat.le_of_ble_eq_true rfl, by decide, by omega⟩ (kk_z fun r45 h45 q45 => ?_) kx_z
            obtain ⟨rfl, rfl, b45⟩ := q45
            refine mw_top (x' := ((sg.2 7) (28 * (sg.2 9) t + day))) rfl ?_
            change 0 ≤ ((sg.2 7) (28 * (sg.2 9) t + day)) ∧ ((sg.2 7) (28 * (sg.2 9) t + day)) ≤ 1 at b45
            refine j_if_eq 137 dX2_vehicles_48 (by decide) ⟨by omega, by omega⟩ (fun c48 => ?_) (fun c48 => ?_)
            · refine j_iinc [some (.ref m), some (vi day), some (vi mn), some (vi v), some (vi b), some (vi e), some (vi (t + 1)), none] dX2_vehicles_137 rfl (by decide) rfl rfl ?_
              refine m_goto 32 dX2_vehicles_140 (by decide) ?_
              exact ih32 _ (by omega) _ _ _ _ _ rfl (by omega) ⟨by omega, by omega, by first | (rw [bgL_y ht.1 ⟨by omega, by omega⟩, srt_s, ← hI.2.2.1]; exact l81) | (rw [bgL_n ht.1 (by omega)]; exact hI.2.2.1), by first | (rw [edL_y ht.1 ⟨by omega, by omega⟩, srt_s, ← hI.2.2.2]; exact l127) | (rw [edL_n ht.1 (by omega)]; exact hI.2.2.2)⟩ (by first | exact ⟨o127, o81⟩ | exact ⟨o127, ho2.2⟩ | exact ⟨ho2.1, o81⟩ | exact ho2)
            · have n10 := oa10 (hT.2 10) t (by omega) (by omega)
              refine m_aload_n dX2_vehicles_51 rfl ?_
              refine t_geta 11 7 (by decide) dX2_vehicles_52 q3104 rfl ?_
              refine j_bipush dX2_vehicles_55 (by decide) ?_
              refine j_iload dX2_vehicles_57 rfl ?_
              refine j_imul dX2_vehicles_59 ?_
              refine t_aldB 7 (by decide) (n := 192) (sg.2 11) dX2_vehicles_60 rfl (Nat.le_of_ble_eq_true rfl) (oa11 (hT.2 11)) ⟨by omega, by omega⟩ (fun b60 => ?_)
              refine j_iload_n dX2_vehicles_61 rfl ?_
              refine j_icmp_ne 87 dX2_vehicles_62 (by decide) ⟨⟨by omega, by omega⟩, ⟨by omega, by omega⟩⟩ (fun c62 => ?_) (fun c62 => ?_)
              · refine j_iload dX2_vehicles_87 rfl ?_
                refine j_istore [some (.ref m), some (vi day), some (vi mn), some (vi v), some (vi b), some (vi e), some (vi t), none] dX2_vehicles_89 (by decide) rfl rfl ?_
                have b11 := oa11 (hT.2 11) (8 * t + sg.2 10 t - 1) (by omega) (by omega)
                refine m_aload_n dX2_vehicles_91 rfl ?_
                refine j_iload dX2_vehicles_92 rfl ?_
                refine t_inv [(vi t)] dX2_vehicles_94 q3613 q3615 qs120 q3616 rfl (c_endStop K 0 h m _ _ (by omega) (hT.ovr (fa1 (mf0 (v := 0) ⟨by first | decide | omega | (split <;> omega) | assumption, by first | decide | omega | (split <;> omega) | assumption⟩) fa0) (fa1 ho2.1 (fa1 ho2.2 fa0))) ⟨by omega, by omega⟩ ⟨by omega, by omega⟩ (show 1 ≤ (sg.2 10) t by omega)) pdX2_endStop ⟨Nat.le_of_ble_eq_true rfl, by decide, by omega⟩ (kk_z fun r94 h94 q94 => ?_) kx_z
                obtain ⟨rfl, rfl⟩ := q94
                refine mw_top (x' := ((sg.2 11) (8 * t + (sg.2 10) t - 1))) rfl ?_
                refine j_iload_n dX2_vehicles_97 rfl ?_
                refine j_icmp_ne 133 dX2_vehicles_98 (by decide) ⟨⟨by omega, by omega⟩, ⟨by omega, by omega⟩⟩ (fun c98 => ?_) (fun c98 => ?_)
                · refine j_iload dX2_vehicles_133 rfl ?_
                  refine j_istore [some (.ref m), some (vi day), some (vi mn), some (vi v), some (vi b), some (vi e), some (vi t), none] dX2_vehicles_135 (by decide) rfl rfl ?_
                  refine j_iinc [some (.ref m), some (vi day), some (vi mn), some (vi v), some (vi b), some (vi e), some (vi (t + 1)), none] dX2_vehicles_137 rfl (by decide) rfl rfl ?_
                  refine m_goto 32 dX2_vehicles_140 (by decide) ?_
                  exact ih32 _ (by omega) _ _ _ _ _ rfl (by omega) ⟨by omega, by omega, by first | (rw [bgL_y ht.1 ⟨by omega, by omega⟩, srt_s, ← hI.2.2.1]; exact l81) | (rw [bgL_n ht.1 (by omega)]; exact hI.2.2.1), by first | (rw [edL_y ht.1 ⟨by omega, by omega⟩, srt_s, ← hI.2.2.2]; exact l127) | (rw [edL_n ht.1 (by omega)]; exact hI.2.2.2)⟩ (by first | exact ⟨o127, o81⟩ | exact ⟨o127, ho2.2⟩ | exact ⟨ho2.1, o81⟩ | exact ho2)
                · refine m_aload_n dX2_vehicles_101 rfl ?_
                  refine t_geta 46 32 (by decide) dX2_vehicles_102 q3139 rfl ?_
                  refine j_iload dX2_vehicles_105 rfl ?_
                  refine m_aload_n dX2_vehicles_107 rfl ?_
                  refine t_geta 12 8 (by decide) dX2_vehicles_108 q3105 rfl ?_
                  refine j_bipush dX2_vehicles_111 (by decide) ?_
                  refine j_iload dX2_vehicles_113 rfl ?_
                  refine j_imul dX2_vehicles_115 ?_
                  refine m_aload_n dX2_vehicles_116 rfl ?_
                  refine t_geta 10 6 (by decide) dX2_vehicles_117 q3103 rfl ?_
                  refine j_iload dX2_vehicles_120 rfl ?_
                  refine t_aldB 6 (by decide) (n := 24) (sg.2 10) dX2_vehicles_122 rfl (Nat.le_of_ble_eq_true rfl) (oa10 (hT.2 10)) ⟨by omega, by omega⟩ (fun b122 => ?_)
                  refine j_iadd dX2_vehicles_123 ?_
                  refine j_iconst dX2_vehicles_124 ?_
                  refine j_isub dX2_vehicles_125 ?_
                  refine t_aldB 8 (by decide) (n := 192) (sg.2 12) dX2_vehicles_126 rfl (Nat.le_of_ble_eq_true rfl) (oa12 (hT.2 12)) ⟨by omega, by omega⟩ (fun b126 => ?_)
                  refine m_invS [(.ref (m + 32)), (vi e), (vi ((sg.2 12) (((8 * t) + ((sg.2 10) t)) - 1)))] dX2_vehicles_127 q3610 q3611 q133 q3612 (c_put46 K 0 h m _ _ _ (hT.ovr (fa1 (mf0 (v := 0) ⟨by first | decide | omega | (split <;> omega) | assumption, by first | decide | omega | (split <;> omega) | assumption⟩) fa0) (fa1 ho2.1 (fa1 ho2.2 fa0))) ⟨by omega, by omega⟩ ⟨by omega, by omega⟩ (show (lst g6 e.toNat).Pairwise (· ≤ ·) by rw [hI.2.2.2]; exact (srt_ok _).1)) pdX2_put ⟨Nat.le_of_ble_eq_true rfl, by decide, by omega⟩ (kk_z fun r127 h127 q127 => ?_) kx_z
                  obtain ⟨g127, rfl, o127, rfl, l127⟩ := q127
                  refine mw_tov (b := ovr sg [(0, 0)] [(46, g127), (47, g7)]) (ovr_ovr _ _ _ _ _) ?_
                  refine mw_top (x' := (e + 1)) rfl ?_
                  have l127 : lst g127 (e + 1).toNat = insL (sg.2 12 (8 * t + sg.2 10 t - 1)) (lst g6 e.toNat) := l127
                  refine m_goto 135 dX2_vehicles_130 (by decide) ?_
                  refine j_istore [some (.ref m), some (vi day), some (vi mn), some (vi v), some (vi b), some (vi (e + 1)), some (vi t), none] dX2_vehicles_135 (by decide) rfl rfl ?_
                  refine j_iinc [some (.ref m), some (vi day), some (vi mn), some (vi v), some (vi b), some (vi (e + 1)), some (vi (t + 1)), none] dX2_vehicles_137 rfl (by decide) rfl rfl ?_
                  refine m_goto 32 dX2_vehicles_140 (by decide) ?_
                  exact ih32 _ (by omega) _ _ _ _ _ rfl (by omega) ⟨by omega, by omega, by first | (rw [bgL_y ht.1 ⟨by omega, by omega⟩, srt_s, ← hI.2.2.1]; exact l81) | (rw [bgL_n ht.1 (by omega)]; exact hI.2.2.1), by first | (rw [edL_y ht.1 ⟨by omega, by omega⟩, srt_s, ← hI.2.2.2]; exact l127) | (rw [edL_n ht.1 (by omega)]; exact hI.2.2.2)⟩ (by first | exact ⟨o127, o81⟩ | exact ⟨o127, ho2.2⟩ | exact ⟨ho2.1, o81⟩ | exact ho2)
              · refine m_aload_n dX2_vehicles_65 rfl ?_
                refine t_geta 47 33 (by decide) dX2_vehicles_66 q3140 rfl ?_
                refine j_iload dX2_vehicles_69 rfl ?_
                refine m_aload_n dX2_vehicles_71 rfl ?_
                refine t_geta 13 9 (by decide) dX2_vehicles_72 q3106 rfl ?_
                refine j_bipush dX2_vehicles_75 (by decide) ?_
                refine j_iload dX2_vehicles_77 rfl ?_
                refine j_imul dX2_vehicles_79 ?_
                refine t_aldB 9 (by decide) (n := 192) (sg.2 13) dX2_vehicles_80 rfl (Nat.le_of_ble_eq_true rfl) (oa13 (hT.2 13)) ⟨by omega, by omega⟩ (fun b80 => ?_)
                refine m_invS [(.ref (m + 33)), (vi b), (vi ((sg.2 13) (8 * t)))] dX2_vehicles_81 q3610 q3611 q133 q3612 (c_put47 K 0 h m _ _ _ (hT.ovr (fa1 (mf0 (v := 0) ⟨by first | decide | omega | (split <;> omega) | assumption, by first | decide | omega | (split <;> omega) | assumption⟩) fa0) (fa1 ho2.1 (fa1 ho2.2 fa0))) ⟨by omega, by omega⟩ ⟨by omega, by omega⟩ (show (lst g7 b.toNat).Pairwise (· ≤ ·) by rw [hI.2.2.1]; exact (srt_ok _).1)) pdX2_put ⟨Nat.le_of_ble_eq_true rfl, by decide, by omega⟩ (kk_z fun r81 h81 q81 => ?_) kx_z
                obtain ⟨g81, rfl, o81, rfl, l81⟩ := q81
                refine mw_tov (b := ovr sg [(0, 0)] [(46, g6), (47, g81)]) (ovr_ovr _ _ _ _ _) ?_
                refine mw_top (x' := (b + 1)) rfl ?_
                have l81 : lst g81 (b + 1).toNat = insL (sg.2 13 (8 * t)) (lst g7 b.toNat) := l81
                refine m_goto 89 dX2_vehicles_84 (by decide) ?_
                refine j_istore [some (.ref m), some (vi day), some (vi mn), some (vi v), some (vi (b + 1)), some (vi e), some (vi t), none] dX2_vehicles_89 (by decide) rfl rfl ?_
                have b11 := oa11 (hT.2 11) (8 * t + sg.2 10 t - 1) (by omega) (by omega)
                refine m_aload_n dX2_vehicles_91 rfl ?_
                refine j_iload dX2_vehicles_92 rfl ?_
                refine t_inv [(vi t)] dX2_vehicles_94 q3613 q3615 qs120 q3616 rfl (c_endStop K 0 h m _ _ (by omega) (hT.ovr (fa1 (mf0 (v := 0) ⟨by first | decide | omega | (split <;> omega) | assumption, by first | decide | omega | (split <;> omega) | assumption⟩) fa0) (fa1 ho2.1 (fa1 o81 fa0))) ⟨by omega, by omega⟩ ⟨by omega, by omega⟩ (show 1 ≤ (sg.2 10) t by omega)) pdX2_endStop ⟨Nat.le_of_ble_eq_true rfl, by decide, by omega⟩ (kk_z fun r94 h94 q94 => ?_) kx_z
                obtain ⟨rfl, rfl⟩ := q94
                refine mw_top (x' := ((sg.2 11) (8 * t + (sg.2 10) t - 1))) rfl ?_
                refine j_iload_n dX2_vehicles_97 rfl ?_
                refine j_icmp_ne 133 dX2_vehicles_98 (by decide) ⟨⟨by omega, by omega⟩, ⟨by omega, by omega⟩⟩ (fun c98 => ?_) (fun c98 => ?_)
                · refine j_iload dX2_vehicles_133 rfl ?_
                  refine j_istore [some (.ref m), some (vi day), some (vi mn), some (vi v), some (vi (b + 1)), some (vi e), some (vi t), none] dX2_vehicles_135 (by decide) rfl rfl ?_
                  refine j_iinc [some (.ref m), some (vi day), some (vi mn), some (vi v), some (vi (b + 1)), some (vi e), some (vi (t + 1)), none] dX2_vehicles_137 rfl (by decide) rfl rfl ?_
                  refine m_goto 32 dX2_vehicles_140 (by decide) ?_
                  exact ih32 _ (by omega) _ _ _ _ _ rfl (by omega) ⟨by omega, by omega, by first | (rw [bgL_y ht.1 ⟨by omega, by omega⟩, srt_s, ← hI.2.2.1]; exact l81) | (rw [bgL_n ht.1 (by omega)]; exact hI.2.2.1), by first | (rw [edL_y ht.1 ⟨by omega, by omega⟩, srt_s, ← hI.2.2.2]; exact l127) | (rw [edL_n ht.1 (by omega)]; exact hI.2.2.2)⟩ (by first | exact ⟨o127, o81⟩ | exact ⟨o127, ho2.2⟩ | exact ⟨ho2.1, o81⟩ | exact ho2)
                · refine m_aload_n dX2_vehicles_101 rfl ?_
                  refine t_geta 46 32 (by decide) dX2_vehicles_102 q3139 rfl ?_
                  refine j_iload dX2_vehicles_105 rfl ?_
                  refine m_aload_n dX2_vehicles_107 rfl ?_
                  refine t_geta 12 8 (by decide) dX2_vehicles_108 q3105 rfl ?_
                  refine j_bipush dX2_vehicles_111 (by decide) ?_
                  refine j_iload dX2_vehicles_113 rfl ?_
                  refine j_imul dX2_vehicles_115 ?_
                  refine m_aload_n dX2_vehicles_116 rfl ?_
                  refine t_geta 10 6 (by decide) dX2_vehicles_117 q3103 rfl ?_
                  refine j_iload dX2_vehicles_120 rfl ?_
                  refine t_aldB 6 (by decide) (n := 24) (sg.2 10) dX2_vehicles_122 rfl (Nat.le_of_ble_eq_true rfl) (oa10 (hT.2 10)) ⟨by omega, by omega⟩ (fun b122 => ?_)
                  refine j_iadd dX2_vehicles_123 ?_
                  refine j_iconst dX2_vehicles_124 ?_
                  refine j_isub dX2_vehicles_125 ?_
                  refine t_aldB 8 (by decide) (n := 192) (sg.2 12) dX2_vehicles_126 rfl (Nat.le_of_ble_eq_true rfl) (oa12 (hT.2 12)) ⟨by omega, by omega⟩ (fun b126 => ?_)
                  refine m_invS [(.ref (m + 32)), (vi e), (vi ((sg.2 12) (((8 * t) + ((sg.2 10) t)) - 1)))] dX2_vehicles_127 q3610 q3611 q133 q3612 (c_put46 K 0 h m _ _ _ (hT.ovr (fa1 (mf0 (v := 0) ⟨by first | decide | omega | (split <;> omega) | assumption, by first | decide | omega | (split <;> omega) | assumption⟩) fa0) (fa1 ho2.1 (fa1 o81 fa0))) ⟨by omega, by omega⟩ ⟨by omega, by omega⟩ (show (lst g6 e.toNat).Pairwise (· ≤ ·) by rw [hI.2.2.2]; exact (srt_ok _).1)) pdX2_put ⟨Nat.le_of_ble_eq_true rfl, by decide, by omega⟩ (kk_z fun r127 h127 q127 => ?_) kx_z
                  obtain ⟨g127, rfl, o127, rfl, l127⟩ := q127
                  refine mw_tov (b := ovr sg [(0, 0)] [(46, g127), (47, g81)]) (ovr_ovr _ _ _ _ _) ?_
                  refine mw_top (x' := (e + 1)) rfl ?_
                  have l127 : lst g127 (e + 1).toNat = insL (sg.2 12 (8 * t + sg.2 10 t - 1)) (lst g6 e.toNat) := l127
                  refine m_goto 135 dX2_vehicles_130 (by decide) ?_
                  refine j_istore [some (.ref m), some (vi day), some (vi mn), some (vi v), some (vi (b + 1)), some (vi (e + 1)), some (vi t), none] dX2_vehicles_135 (by decide) rfl rfl ?_
                  refine j_iinc [some (.ref m), some (vi day), some (vi mn), some (vi v), some (vi (b + 1)), some (vi (e + 1)), some (vi (t + 1)), none] dX2_vehicles_137 rfl (by decide) rfl rfl ?_
                  refine m_goto 32 dX2_vehicles_140 (by decide) ?_
                  exact ih32 _ (by omega) _ _ _ _ _ rfl (by omega) ⟨by omega, by omega, by first | (rw [bgL_y ht.1 ⟨by omega, by omega⟩, srt_s, ← hI.2.2.1]; exact l81) | (rw [bgL_n ht.1 (by omega)]; exact hI.2.2.1), by first | (rw [edL_y ht.1 ⟨by omega, by omega⟩, srt_s, ← hI.2.2.2]; exact l127) | (rw [edL_n ht.1 (by omega)]; exact hI.2.2.2)⟩ (by first | exact ⟨o127, o81⟩ | exact ⟨o127, ho2.2⟩ | exact ⟨ho2.1, o81⟩ | exact ho2)
        exact L32 _ _ _ _ _ _ rfl (by omega) ⟨by omega, by omega, rfl, rfl⟩ ho
    refine mw_tov (b := ovr sg [(0, 0)] [(46, (sg.2 46))]) (ovr_addA _ _ _ 46) ?_
    refine mw_tov (b := ovr sg [(0, 0)] [(46, (sg.2 46)), (47, (sg.2 47))]) (ovr_addA _ _ _ 47) ?_
    exact L15 _ _ _ _ _ rfl (by omega) ⟨rfl, by omega, by omega⟩ ⟨hT.2 46, hT.2 47⟩
  · refine mw_tov (b := ovr sg [(0, 1)] []) (by rw [if_pos c6]) ?_
    refine j_iconst dX2_vehicles_9 ?_
    subst hQ; exact j_iret dX2_vehicles_10 rfl (⟨_, rfl, (Scr.ovr sg rfl rfl), (hT.ovr (fa1 (mf0 (v := 1) ⟨by first | decide | omega | (split <;> omega) | assumption, by first | decide | omega | (split <;> omega) | assumption⟩) fa0) fa0), Or.inl ⟨by omega, rfl⟩⟩)
theorem c_vehiclesByMatching (K : KT) (d : Nat) (h : MH) (m : Nat) (sg : TS) (day : Int) (hd : 3 ≤ d) (hT : TB sg) (hC : clOk sg) (h1 : In day) : Mt K yiX2_vehiclesByMatching d [.ref m, vi day] (tov K h m sg) (Rz (Qy K h m sg (fun th v => (¬ (0 ≤ day ∧ day ≤ 27) ∧ th = 1) ∨ ((0 ≤ day ∧ day ≤ 27) ∧ th = 0 ∧ v = vhN sg day (sg.1 1).toNat)))) := by
  refine mt_ofQ (by decide) (Nat.le_of_ble_eq_true rfl) (fun Q hQ => ?_)
  show MW K yiX2_vehiclesByMatching d (tov K h m (ovr sg [] [])) 0 [some (.ref m), some (vi day)] [] Q
  refine m_aload_n dX2_vehiclesByMatching_0 rfl ?_
  refine j_iload_n dX2_vehiclesByMatching_1 rfl ?_
  refine t_inv [(vi day)] dX2_vehiclesByMatching_2 q3621 q3607 q3608 q3609 rfl (c_vehicles K 2 h m sg _ (by omega) hT hC h1) pdX2_vehicles ⟨Nat.le_of_ble_eq_true rfl, by decide, by omega⟩ (kk_z fun r2 h2 q2 => ?_) kx_z
  obtain q2 := q2
  subst hQ; exact j_iret dX2_vehiclesByMatching_5 rfl q2
