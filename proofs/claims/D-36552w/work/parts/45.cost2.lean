/-! the twin: costOf, waitCost, bestWaits -/
def iniW (sg : TS) (day : Int) (W : Int → Int) (t c : Int) : Prop := ∀ t' c', vlQ sg day t' c' → (t' < t ∨ (t' = t ∧ c' < c)) → W (8 * t' + c') = latOf sg day t' c'
theorem iniW.add {sg : TS} {day t c x : Int} {W : Int → Int} (h : iniW sg day W t c) (hT : TB sg) (ht : 0 ≤ t ∧ t < 24) (hc : 0 ≤ c ∧ c < 8) (hx : rnP sg day t → x = latOf sg day t c) : iniW sg day (upz W (8 * t + c) x) t (c + 1) := by
  intro t' c' hv hl
  have n2 := oa10 (hT.2 10) t' hv.1.1 (by have := of8 (hT.1 8); have := hv.1.2; omega)
  have v3 := hv.2.1
  unfold upz
  by_cases e : 8 * t' + c' = 8 * t + c
  · have e1 : t' = t := by omega
    have e2 : c' = c := by omega
    subst e1; subst e2
    rw [if_pos rfl]; exact hx hv.2.2
  · rw [if_neg e]; exact h t' c' hv (by omega)
theorem iniW.next {sg : TS} {day t c : Int} {W : Int → Int} (h : iniW sg day W t c) (hc : sg.2 10 t ≤ c) : iniW sg day W (t + 1) 0 := by
  intro t' c' hv hl
  by_cases e : t' = t
  · subst e; exact h t' c' hv (Or.inr ⟨rfl, by have := hv.2.1; omega⟩)
  · exact h t' c' hv (Or.inl (by have := hv.2.1; omega))
theorem iniW.coi {sg : TS} {day mask : Int} {W : Int → Int} (h : iniW sg day W (sg.1 8) 0) (hT : TB sg) (ho : okA 42 W) : CoI sg day mask W := by
  have e : ∀ t c, vlQ sg day t c → W (8 * t + c) = latOf sg day t c := fun t c hv => h t c hv (Or.inl hv.1.2)
  refine ⟨ho, fun t c hv => ?_, fun W' g t c hv => ?_⟩
  · rw [e t c hv]; have := latOf_b hT day t c; omega
  · rw [e t c hv]; exact g.1 t c hv
theorem adT.add {sg : TS} {day t c : Int} {W : Int → Int} (h : adT sg day W t c) (hx : W (8 * t + c - 1) ≤ W (8 * t + c)) : adT sg day W t (c + 1) := by
  intro t' c' hv h1 hl
  by_cases e : t' = t ∧ c' = c
  · obtain ⟨rfl, rfl⟩ := e; exact hx
  · exact h t' c' hv h1 (by omega)
theorem adT.next {sg : TS} {day t c : Int} {W : Int → Int} (h : adT sg day W t c) (hc : ¬ rnP sg day t ∨ sg.2 10 t ≤ c) : adT sg day W (t + 1) 1 := by
  intro t' c' hv h1 hl
  by_cases e : t' = t
  · subst e
    rcases hc with hc | hc
    · exact absurd hv.2.2 hc
    · exact h t' c' hv h1 (Or.inr ⟨rfl, by have := hv.2.1; omega⟩)
  · exact h t' c' hv h1 (Or.inl (by omega))
theorem adW.add {sg : TS} {day mask n : Int} {W : Int → Int} (h : adW sg day mask W n) (hx : mask / 2 ^ n.toNat % 2 = 1 → rnP sg day (sg.2 37 n) → rnP sg day (sg.2 39 n) → missB sg W n ≤ W (8 * sg.2 39 n + sg.2 40 n)) : adW sg day mask W (n + 1) := by
  intro w h0 h1 h2 h3 h4
  by_cases e : w = n
  · subst e; exact hx h2 h3 h4
  · exact h w h0 (by omega) h2 h3 h4
/-- the adjacency behind a whole pass -/
def adA (sg : TS) (day : Int) (W : Int → Int) : Prop := adT sg day W (sg.1 8) 1
theorem gd_of {sg : TS} {day mask : Int} {W : Int → Int} (hI : CoI sg day mask W) (h1 : adA sg day W) (h2 : adW sg day mask W (sg.1 36)) : gdW sg day mask W := ⟨fun t c hv => (hI.2.1 t c hv).1, fun t c hv hc => h1 t c hv hc (Or.inl hv.1.2), h2⟩
theorem c_costOf (K : KT) (d : Nat) (h : MH) (m : Nat) (sg : TS) (day mask : Int) (hd : 2 ≤ d) (hT : TB sg) (hy : 0 ≤ day ∧ day ≤ 27) (hm : 0 ≤ mask ∧ mask ≤ 63) (hw : wsOk sg) : Mt K yiX2_costOf d [.ref m, vi day, vi mask] (tov K h m sg) (Rz fun v h' => ∃ W, h' = tov K h m (ovr sg [] [(42, W)]) ∧ okA 42 W ∧ costP sg day mask v) := by
  have f8' := of8 (hT.1 8); have f36' := of36 (hT.1 36)
  refine mt_ofQ (by decide) (Nat.le_of_ble_eq_true rfl) (fun Q hQ => ?_)
  show MW K yiX2_costOf d (tov K h m (ovr sg [] [])) 0 [some (.ref m), some (vi day), some (vi mask), none, none, none, none] [] Q
  have f8 := of8 (hT.1 8)
  have f36 := of36 (hT.1 36)
  refine j_iconst dX2_costOf_0 ?_
  refine j_istore_n [some (.ref m), some (vi day), some (vi mask), some (vi 0), none, none, none] dX2_costOf_1 (by decide) rfl rfl ?_
  have L2 : ∀ (N : Nat) (t : Int) (W : Int → Int), (24 - t).toNat = N → (0 ≤ t ∧ t ≤ sg.1 8) → (okA 42 W) → (iniW sg day W t 0) → MW K yiX2_costOf d (tov K h m (ovr sg [] [(42, W)])) 2 [some (.ref m), some (vi day), some (vi mask), some (vi t), none, none, none] [] Q := by
    intro N
    induction N using Nat.strongRecOn with
    | _ N ih2 =>
    intro t W hN2 ht ho hi
    refine j_iload_n dX2_costOf_2 rfl ?_
    refine m_aload_n dX2_costOf_3 rfl ?_
    refine t_geti 8 (by decide) (sg.1 8) dX2_costOf_4 q3101 rfl ?_
    refine j_icmp_ge 69 dX2_costOf_7 (by decide) ⟨⟨by omega, by omega⟩, ⟨by omega, by omega⟩⟩ (fun c7 => ?_) (fun c7 => ?_)
    · have hC0 : CoI sg day mask W := iniW.coi (by rw [show sg.1 8 = t by omega]; exact hi) hT ho
      refine j_iconst dX2_costOf_69 ?_
      refine j_istore_n [some (.ref m), some (vi day), some (vi mask), some (vi 1), none, none, none] dX2_costOf_70 (by decide) rfl rfl ?_
      have L71 : ∀ (N : Nat) (g : Int) (W : Int → Int), 2 * smW sg day W + g.toNat = N → (g = 0 ∨ g = 1) → (CoI sg day mask W) → (g = 0 → gdW sg day mask W) → MW K yiX2_costOf d (tov K h m (ovr sg [] [(42, W)])) 71 [some (.ref m), some (vi day), some (vi mask), some (vi g), none, none, none] [] Q := by
        intro N
        induction N using Nat.strongRecOn with
        | _ N ih71 =>
        intro g W hN71 hg hC hG
        refine j_iload_n dX2_costOf_71 rfl ?_
        refine j_if_eq 294 dX2_costOf_72 (by decide) ⟨by omega, by omega⟩ (fun c72 => ?_) (fun c72 => ?_)
        · have hGd := hG (by omega)
          refine j_iconst dX2_costOf_294 ?_
          refine j_istore [some (.ref m), some (vi day), some (vi mask), some (vi g), some (vi 0), none, none] dX2_costOf_295 (by decide) rfl rfl ?_
          refine j_iconst dX2_costOf_297 ?_
          refine j_istore [some (.ref m), some (vi day), some (vi mask), some (vi g), some (vi 0), some (vi 0), none] dX2_costOf_298 (by decide) rfl rfl ?_
          have L300 : ∀ (N : Nat) (co t : Int), (24 - t).toNat = N → (0 ≤ t ∧ t ≤ sg.1 8) → (co = cstT sg day W t.toNat ∧ 0 ≤ co ∧ co ≤ 240 * t) → MW K yiX2_costOf d (tov K h m (ovr sg [] [(42, W)])) 300 [some (.ref m), some (vi day), some (vi mask), none, some (vi co), some (vi t), none] [] Q := by
            intro N
            induction N using Nat.strongRecOn with
            | _ N ih300 =>
            intro co t hN300 ht hco
            refine j_iload dX2_costOf_300 rfl ?_
            refine m_aload_n dX2_costOf_302 rfl ?_
            refine t_geti 8 (by decide) (sg.1 8) dX2_costOf_303 q3101 rfl ?_
            refine j_icmp_ge 365 dX2_costOf_306 (by decide) ⟨⟨by omega, by omega⟩, ⟨by omega, by omega⟩⟩ (fun c306 => ?_) (fun c306 => ?_)
            · refine j_iconst dX2_costOf_365 ?_
              refine j_istore [some (.ref m), some (vi day), some (vi mask), none, some (vi co), some (vi 0), none] dX2_costOf_366 (by decide) rfl rfl ?_
              have L368 : ∀ (N : Nat) (co2 w : Int), (6 - w).toNat = N → (0 ≤ w ∧ w ≤ sg.1 36) → (co2 = cstW sg day mask W (cstT sg day W (sg.1 8).toNat) w.toNat ∧ 0 ≤ co2 ∧ co2 ≤ 240 * sg.1 8 + 5940 * w) → MW K yiX2_costOf d (tov K h m (ovr sg [] [(42, W)])) 368 [some (.ref m), some (vi day), some (vi mask), none, some (vi co2), some (vi w), none] [] Q := by
                intro N
                induction N using Nat.strongRecOn with
                | _ N ih368 =>
                intro co2 w hN368 hwb hco2
                refine j_iload dX2_costOf_368 rfl ?_
                refine m_aload_n dX2_costOf_370 rfl ?_
                refine t_geti 36 (by decide) (sg.1 36) dX2_costOf_371 q3129 rfl ?_
                refine j_icmp_ge 465 dX2_costOf_374 (by decide) ⟨⟨by omega, by omega⟩, ⟨by omega, by omega⟩⟩ (fun c374 => ?_) (fun c374 => ?_)
                · refine j_iload dX2_costOf_465 rfl ?_
                  subst hQ; exact j_iret dX2_costOf_467 rfl (⟨W, rfl, hC.1, Or.inr ⟨W, hGd, hC.2.2, fun t c hv => (hC.2.1 t c hv).2, ⟨by omega, by omega⟩, by rw [hco2.1, show w = sg.1 36 by omega]⟩⟩)
                · have hwk := hw w (by omega) (by omega)
                  have nA := oa10 (hT.2 10) (sg.2 37 w) (by omega) (by omega)
                  have nB := oa10 (hT.2 10) (sg.2 39 w) (by omega) (by omega)
                  refine j_iload_n dX2_costOf_377 rfl ?_
                  refine j_iload dX2_costOf_378 rfl ?_
                  refine j_ishr dX2_costOf_380 ⟨by omega, by omega⟩ ⟨by omega, by omega⟩ ?_
                  refine j_iconst dX2_costOf_381 ?_
                  refine j_iand1 dX2_costOf_382 ?_
                  refine j_if_ne 432 dX2_costOf_383 (by decide) ⟨by omega, by omega⟩ (fun c383 => ?_) (fun c383 => ?_)
                  · refine j_iconst dX2_costOf_432 ?_
                    refine j_istore [some (.ref m), some (vi day), some (vi mask), none, some (vi co2), some (vi w), some (vi 0)] dX2_costOf_433 (by decide) rfl rfl ?_
                    refine j_iload dX2_costOf_435 rfl ?_
                    refine j_iload dX2_costOf_437 rfl ?_
                    refine j_if_eq 455 dX2_costOf_439 (by decide) ⟨by decide, by decide⟩ (fun _ => ?_) (fun c => absurd c (by decide))
                    refine j_iconst dX2_costOf_455 ?_
                    refine j_iadd dX2_costOf_456 ?_
                    refine j_istore [some (.ref m), some (vi day), some (vi mask), none, some (vi (co2 + 0)), some (vi w), some (vi 0)] dX2_costOf_457 (by decide) rfl rfl ?_
                    refine j_iinc [some (.ref m), some (vi day), some (vi mask), none, some (vi (co2 + 0)), some (vi (w + 1)), some (vi 0)] dX2_costOf_459 rfl (by decide) rfl rfl ?_
                    refine m_goto 368 dX2_costOf_462 (by decide) ?_
                    refine mw_forget 6 ?_
                    exact ih368 _ (by omega) _ _ rfl (by omega) ⟨by rw [cstW_s hwb.1, ← hco2.1]; first | rw [if_pos ⟨by omega, by assumption, by omega⟩] | (rw [if_neg (fun h9 => by first | omega | exact absurd h9.2.1 (by assumption))]), by omega, by omega⟩
                  · refine m_aload_n dX2_costOf_386 rfl ?_
                    refine j_iload dX2_costOf_387 rfl ?_
                    refine j_iload_n dX2_costOf_389 rfl ?_
                    refine t_inv [(vi w), (vi day)] dX2_costOf_390 q3578 q3580 qs116 q3581 rfl (c_counts K 1 h m _ _ _ (by omega) (hT.ovr fa0 (fa1 hC.1 fa0)) ⟨by omega, by omega⟩ ⟨by omega, by omega⟩ ⟨by omega, by omega⟩ ⟨by omega, by omega⟩) pdX2_counts ⟨Nat.le_of_ble_eq_true rfl, by decide, by omega⟩ (kk_z fun r390 h390 q390 => ?_) kx_z
                    obtain ⟨rfl, rfl⟩ := q390
                    refine mw_top (x' := bz (sg.2 7 (28 * sg.2 9 (sg.2 37 w) + day) ≠ 0 ∧ sg.2 7 (28 * sg.2 9 (sg.2 39 w) + day) ≠ 0)) rfl ?_
                    refine j_bz_eq 432 dX2_costOf_393 (by decide) (fun c393 => ?_) (fun c393 => ?_)
                    · refine j_iconst dX2_costOf_432 ?_
                      refine j_istore [some (.ref m), some (vi day), some (vi mask), none, some (vi co2), some (vi w), some (vi 0)] dX2_costOf_433 (by decide) rfl rfl ?_
                      refine j_iload dX2_costOf_435 rfl ?_
                      refine j_iload dX2_costOf_437 rfl ?_
                      refine j_if_eq 455 dX2_costOf_439 (by decide) ⟨by decide, by decide⟩ (fun _ => ?_) (fun c => absurd c (by decide))
                      refine j_iconst dX2_costOf_455 ?_
                      refine j_iadd dX2_costOf_456 ?_
                      refine j_istore [some (.ref m), some (vi day), some (vi mask), none, some (vi (co2 + 0)), some (vi w), some (vi 0)] dX2_costOf_457 (by decide) rfl rfl ?_
                      refine j_iinc [some (.ref m), some (vi day), some (vi mask), none, some (vi (co2 + 0)), some (vi (w + 1)), some (vi 0)] dX2_costOf_459 rfl (by decide) rfl rfl ?_
                      refine m_goto 368 dX2_costOf_462 (by decide) ?_
                      refine mw_forget 6 ?_
                      exact ih368 _ (by omega) _ _ rfl (by omega) ⟨by rw [cstW_s hwb.1, ← hco2.1]; first | rw [if_pos ⟨by omega, by assumption, by omega⟩] | (rw [if_neg (fun h9 => by first | omega | exact absurd h9.2.1 (by assumption))]), by omega, by omega⟩
                    · have hcn : rnP sg day (sg.2 37 w) ∧ rnP sg day (sg.2 39 w) := by assumption
                      have hvA := (hC.2.1 (sg.2 37 w) (sg.2 38 w - 1) ⟨⟨by omega, by omega⟩, ⟨by omega, by omega⟩, hcn.1⟩).2
                      rw [show 8 * sg.2 37 w + (sg.2 38 w - 1) = 8 * sg.2 37 w + sg.2 38 w - 1 by omega] at hvA
                      have hmb := missB_b (W := W) (w := w) hT hw ⟨by omega, by omega⟩ ⟨(oa42 hC.1 _ (by omega) (by omega)).1, hvA⟩
                      refine m_aload_n dX2_costOf_396 rfl ?_
                      refine j_iload dX2_costOf_397 rfl ?_
                      refine t_inv [(vi w)] dX2_costOf_399 q3582 q3584 qs117 q3585 rfl (c_missedBy K 0 h m _ _ (by omega) (hT.ovr fa0 (fa1 hC.1 fa0)) ⟨by omega, by omega⟩ ⟨by omega, by omega⟩ (show 1 ≤ sg.2 38 w by omega)) pdX2_missedBy ⟨Nat.le_of_ble_eq_true rfl, by decide, by omega⟩ (kk_z fun r399 h399 q399 => ?_) kx_z
                      obtain ⟨rfl, rfl⟩ := q399
                      refine mw_top (x' := (missB sg W w)) rfl ?_
                      refine m_aload_n dX2_costOf_402 rfl ?_
                      refine t_geta 42 29 (by decide) dX2_costOf_403 q3135 rfl ?_
                      refine j_bipush dX2_costOf_406 (by decide) ?_
                      refine m_aload_n dX2_costOf_408 rfl ?_
                      refine t_geta 39 26 (by decide) dX2_costOf_409 q3132 rfl ?_
                      refine j_iload dX2_costOf_412 rfl ?_
                      refine t_aldB 26 (by decide) (n := 6) (sg.2 39) dX2_costOf_414 rfl (Nat.le_of_ble_eq_true rfl) (oa39 (hT.2 39)) ⟨by omega, by omega⟩ (fun b414 => ?_)
                      refine j_imul dX2_costOf_415 ?_
                      refine m_aload_n dX2_costOf_416 rfl ?_
                      refine t_geta 40 27 (by decide) dX2_costOf_417 q3133 rfl ?_
                      refine j_iload dX2_costOf_420 rfl ?_
                      refine t_aldB 27 (by decide) (n := 6) (sg.2 40) dX2_costOf_422 rfl (Nat.le_of_ble_eq_true rfl) (oa40 (hT.2 40)) ⟨by omega, by omega⟩ (fun b422 => ?_)
                      refine j_iadd dX2_costOf_423 ?_
                      refine t_aldB 29 (by decide) (n := 192) W dX2_costOf_424 rfl (Nat.le_of_ble_eq_true rfl) (oa42 hC.1) ⟨by omega, by omega⟩ (fun b424 => ?_)
                      refine j_icmp_le 432 dX2_costOf_425 (by decide) ⟨⟨by omega, by omega⟩, ⟨by omega, by omega⟩⟩ (fun c425 => ?_) (fun c425 => ?_)
                      · refine j_iconst dX2_costOf_432 ?_
                        refine j_istore [some (.ref m), some (vi day), some (vi mask), none, some (vi co2), some (vi w), some (vi 0)] dX2_costOf_433 (by decide) rfl rfl ?_
                        refine j_iload dX2_costOf_435 rfl ?_
                        refine j_iload dX2_costOf_437 rfl ?_
                        refine j_if_eq 455 dX2_costOf_439 (by decide) ⟨by decide, by decide⟩ (fun _ => ?_) (fun c => absurd c (by decide))
                        refine j_iconst dX2_costOf_455 ?_
                        refine j_iadd dX2_costOf_456 ?_
                        refine j_istore [some (.ref m), some (vi day), some (vi mask), none, some (vi (co2 + 0)), some (vi w), some (vi 0)] dX2_costOf_457 (by decide) rfl rfl ?_
                        refine j_iinc [some (.ref m), some (vi day), some (vi mask), none, some (vi (co2 + 0)), some (vi (w + 1)), some (vi 0)] dX2_costOf_459 rfl (by decide) rfl rfl ?_
                        refine m_goto 368 dX2_costOf_462 (by decide) ?_
                        refine mw_forget 6 ?_
                        exact ih368 _ (by omega) _ _ rfl (by omega) ⟨by rw [cstW_s hwb.1, ← hco2.1]; first | rw [if_pos ⟨by omega, by assumption, by omega⟩] | (rw [if_neg (fun h9 => by first | omega | exact absurd h9.2.1 (by assumption))]), by omega, by omega⟩
                      · refine j_iconst dX2_costOf_428 ?_
                        refine m_goto 433 dX2_costOf_429 (by decide) ?_
                        refine j_istore [some (.ref m), some (vi day), some (vi mask), none, some (vi co2), some (vi w), some (vi 1)] dX2_costOf_433 (by decide) rfl rfl ?_
                        refine j_iload dX2_costOf_435 rfl ?_
                        refine j_iload dX2_costOf_437 rfl ?_
                        refine j_if_eq 455 dX2_costOf_439 (by decide) ⟨by decide, by decide⟩ (fun c => absurd c (by decide)) (fun _ => ?_)
                        refine j_bipush dX2_costOf_442 (by decide) ?_
                        refine m_aload_n dX2_costOf_444 rfl ?_
                        refine t_geta 41 28 (by decide) dX2_costOf_445 q3134 rfl ?_
                        refine j_iload dX2_costOf_448 rfl ?_
                        refine t_aldB 28 (by decide) (n := 6) (sg.2 41) dX2_costOf_450 rfl (Nat.le_of_ble_eq_true rfl) (oa41 (hT.2 41)) ⟨by omega, by omega⟩ (fun b450 => ?_)
                        refine j_imul dX2_costOf_451 ?_
                        refine m_goto 456 dX2_costOf_452 (by decide) ?_
                        refine j_iadd dX2_costOf_456 ?_
                        refine j_istore [some (.ref m), some (vi day), some (vi mask), none, some (vi (co2 + (60 * ((sg.2 41) w)))), some (vi w), some (vi 1)] dX2_costOf_457 (by decide) rfl rfl ?_
                        refine j_iinc [some (.ref m), some (vi day), some (vi mask), none, some (vi (co2 + (60 * ((sg.2 41) w)))), some (vi (w + 1)), some (vi 1)] dX2_costOf_459 rfl (by decide) rfl rfl ?_
                        refine m_goto 368 dX2_costOf_462 (by decide) ?_
                        refine mw_forget 6 ?_
                        exact ih368 _ (by omega) _ _ rfl (by omega) ⟨by rw [cstW_s hwb.1, ← hco2.1]; first | rw [if_pos ⟨by omega, by assumption, by omega⟩] | (rw [if_neg (fun h9 => by first | omega | exact absurd h9.2.1 (by assumption))]), by omega, by omega⟩
              exact L368 _ _ _ rfl (by omega) ⟨by rw [hco.1, show t = sg.1 8 by omega]; rfl, by omega, by omega⟩
            · refine j_iload dX2_costOf_309 rfl ?_
              refine m_aload_n dX2_costOf_311 rfl ?_
              refine j_iload dX2_costOf_312 rfl ?_
              refine j_iload_n dX2_costOf_314 rfl ?_
              refine t_inv [(vi t), (vi day)] dX2_costOf_315 q3558 q3560 qs114 q3561 rfl (c_runs K 0 h m _ _ _ (by omega) (hT.ovr fa0 (fa1 hC.1 fa0)) ⟨by omega, by omega⟩ ⟨by omega, by omega⟩ ⟨by omega, by omega⟩ ⟨by omega, by omega⟩) pdX2_runs ⟨Nat.le_of_ble_eq_true rfl, by decide, by omega⟩ (kk_z fun r315 h315 q315 => ?_) kx_z
              obtain ⟨rfl, rfl, b315⟩ := q315
              refine mw_top (x' := ((sg.2 7) (28 * (sg.2 9) t + day))) rfl ?_
              change 0 ≤ ((sg.2 7) (28 * (sg.2 9) t + day)) ∧ ((sg.2 7) (28 * (sg.2 9) t + day)) ≤ 1 at b315
              refine j_if_eq 355 dX2_costOf_318 (by decide) ⟨by omega, by omega⟩ (fun c318 => ?_) (fun c318 => ?_)
              · refine j_iconst dX2_costOf_355 ?_
                refine j_iadd dX2_costOf_356 ?_
                refine j_istore [some (.ref m), some (vi day), some (vi mask), none, some (vi (co + 0)), some (vi t), none] dX2_costOf_357 (by decide) rfl rfl ?_
                refine j_iinc [some (.ref m), some (vi day), some (vi mask), none, some (vi (co + 0)), some (vi (t + 1)), none] dX2_costOf_359 rfl (by decide) rfl rfl ?_
                refine m_goto 300 dX2_costOf_362 (by decide) ?_
                exact ih300 _ (by omega) _ _ rfl (by omega) ⟨by rw [cstT_s ht.1, ← hco.1]; first | rw [if_pos (by omega)] | rw [if_neg (by omega)], by omega, by omega⟩
              · refine m_aload_n dX2_costOf_321 rfl ?_
                refine t_geta 10 6 (by decide) dX2_costOf_322 q3103 rfl ?_
                refine j_iload dX2_costOf_325 rfl ?_
                refine t_aldB 6 (by decide) (n := 24) (sg.2 10) dX2_costOf_327 rfl (Nat.le_of_ble_eq_true rfl) (oa10 (hT.2 10)) ⟨by omega, by omega⟩ (fun b327 => ?_)
                refine j_iconst dX2_costOf_328 ?_
                refine j_icmp_le 355 dX2_costOf_329 (by decide) ⟨⟨by omega, by omega⟩, ⟨by omega, by omega⟩⟩ (fun c329 => ?_) (fun c329 => ?_)
                · refine j_iconst dX2_costOf_355 ?_
                  refine j_iadd dX2_costOf_356 ?_
                  refine j_istore [some (.ref m), some (vi day), some (vi mask), none, some (vi (co + 0)), some (vi t), none] dX2_costOf_357 (by decide) rfl rfl ?_
                  refine j_iinc [some (.ref m), some (vi day), some (vi mask), none, some (vi (co + 0)), some (vi (t + 1)), none] dX2_costOf_359 rfl (by decide) rfl rfl ?_
                  refine m_goto 300 dX2_costOf_362 (by decide) ?_
                  exact ih300 _ (by omega) _ _ rfl (by omega) ⟨by rw [cstT_s ht.1, ← hco.1]; first | rw [if_pos (by omega)] | rw [if_neg (by omega)], by omega, by omega⟩
                · have hv2 := (hC.2.1 t (sg.2 10 t - 2) ⟨⟨by omega, by omega⟩, ⟨by omega, by omega⟩, by omega⟩).2
                  rw [show 8 * t + (sg.2 10 t - 2) = 8 * t + sg.2 10 t - 2 by omega] at hv2
                  refine m_aload_n dX2_costOf_332 rfl ?_
                  refine t_geta 42 29 (by decide) dX2_costOf_333 q3135 rfl ?_
                  refine j_bipush dX2_costOf_336 (by decide) ?_
                  refine j_iload dX2_costOf_338 rfl ?_
                  refine j_imul dX2_costOf_340 ?_
                  refine m_aload_n dX2_costOf_341 rfl ?_
                  refine t_geta 10 6 (by decide) dX2_costOf_342 q3103 rfl ?_
                  refine j_iload dX2_costOf_345 rfl ?_
                  refine t_aldB 6 (by decide) (n := 24) (sg.2 10) dX2_costOf_347 rfl (Nat.le_of_ble_eq_true rfl) (oa10 (hT.2 10)) ⟨by omega, by omega⟩ (fun b347 => ?_)
                  refine j_iadd dX2_costOf_348 ?_
                  refine j_iconst dX2_costOf_349 ?_
                  refine j_isub dX2_costOf_350 ?_
                  refine t_aldB 29 (by decide) (n := 192) W dX2_costOf_351 rfl (Nat.le_of_ble_eq_true rfl) (oa42 hC.1) ⟨by omega, by omega⟩ (fun b351 => ?_)
                  refine m_goto 356 dX2_costOf_352 (by decide) ?_
                  refine j_iadd dX2_costOf_356 ?_
                  refine j_istore [some (.ref m), some (vi day), some (vi mask), none, some (vi (co + (W (((8 * t) + ((sg.2 10) t)) - 2)))), some (vi t), none] dX2_costOf_357 (by decide) rfl rfl ?_
                  refine j_iinc [some (.ref m), some (vi day), some (vi mask), none, some (vi (co + (W (((8 * t) + ((sg.2 10) t)) - 2)))), some (vi (t + 1)), none] dX2_costOf_359 rfl (by decide) rfl rfl ?_
                  refine m_goto 300 dX2_costOf_362 (by decide) ?_
                  exact ih300 _ (by omega) _ _ rfl (by omega) ⟨by rw [cstT_s ht.1, ← hco.1]; first | rw [if_pos (by omega)] | rw [if_neg (by omega)], by omega, by omega⟩
          refine mw_forget 3 ?_
          exact L300 _ _ _ rfl (by omega) ⟨rfl, by omega, by omega⟩
        · refine j_iconst dX2_costOf_75 ?_
          refine j_istore_n [some (.ref m), some (vi day), some (vi mask), some (vi 0), none, none, none] dX2_costOf_76 (by decide) rfl rfl ?_
          refine j_iconst dX2_costOf_77 ?_
          refine j_istore [some (.ref m), some (vi day), some (vi mask), some (vi 0), some (vi 0), none, none] dX2_costOf_78 (by decide) rfl rfl ?_
          have L80 : ∀ (N : Nat) (g2 t : Int) (W2 : Int → Int), (24 - t).toNat = N → (0 ≤ t ∧ t ≤ sg.1 8) → (CoI sg day mask W2) → (PsI sg day W g2 W2 (adT sg day W2 t 1)) → MW K yiX2_costOf d (tov K h m (ovr sg [] [(42, W2)])) 80 [some (.ref m), some (vi day), some (vi mask), some (vi g2), some (vi t), none, none] [] Q := by
            intro N
            induction N using Nat.strongRecOn with
            | _ N ih80 =>
            intro g2 t W2 hN80 ht hC2 hP2
            have hg2 : g2 = 0 ∨ g2 = 1 := by { rcases hP2 with q | q <;> omega }
            refine j_iload dX2_costOf_80 rfl ?_
            refine m_aload_n dX2_costOf_82 rfl ?_
            refine t_geti 8 (by decide) (sg.1 8) dX2_costOf_83 q3101 rfl ?_
            refine j_icmp_ge 187 dX2_costOf_86 (by decide) ⟨⟨by omega, by omega⟩, ⟨by omega, by omega⟩⟩ (fun c86 => ?_) (fun c86 => ?_)
            · refine j_iconst dX2_costOf_187 ?_
              refine j_istore [some (.ref m), some (vi day), some (vi mask), some (vi g2), some (vi 0), none, none] dX2_costOf_188 (by decide) rfl rfl ?_
              have L190 : ∀ (N : Nat) (g4 w : Int) (W4 : Int → Int), (6 - w).toNat = N → (0 ≤ w ∧ w ≤ sg.1 36) → (CoI sg day mask W4) → (PsI sg day W g4 W4 (adA sg day W4 ∧ adW sg day mask W4 w)) → MW K yiX2_costOf d (tov K h m (ovr sg [] [(42, W4)])) 190 [some (.ref m), some (vi day), some (vi mask), some (vi g4), some (vi w), none, none] [] Q := by
                intro N
                induction N using Nat.strongRecOn with
                | _ N ih190 =>
                intro g4 w W4 hN190 hwb hC4 hP4
                have hg4 : g4 = 0 ∨ g4 = 1 := by { rcases hP4 with q | q <;> omega }
                refine j_iload dX2_costOf_190 rfl ?_
                refine m_aload_n dX2_costOf_192 rfl ?_
                refine t_geti 36 (by decide) (sg.1 36) dX2_costOf_193 q3129 rfl ?_
                refine j_icmp_ge 291 dX2_costOf_196 (by decide) ⟨⟨by omega, by omega⟩, ⟨by omega, by omega⟩⟩ (fun c196 => ?_) (fun c196 => ?_)
                · refine m_goto 71 dX2_costOf_291 (by decide) ?_
                  refine mw_forget 4 ?_
                  exact ih71 _ (by (rcases hP4 with ⟨_, rfl, _⟩ | ⟨_, _⟩ <;> omega)) _ _ rfl (by rcases hP4 with q | q <;> omega) hC4 (fun h9 => by { rcases hP4 with ⟨_, rfl, q1, q2⟩ | q; { exact gd_of hC4 q1 (by rw [show sg.1 36 = w by omega]; exact q2) }; { omega } })
                · have hwk := hw w (by omega) (by omega)
                  have nA := oa10 (hT.2 10) (sg.2 37 w) (by omega) (by omega)
                  have nB := oa10 (hT.2 10) (sg.2 39 w) (by omega) (by omega)
                  refine j_bipush dX2_costOf_199 (by decide) ?_
                  refine m_aload_n dX2_costOf_201 rfl ?_
                  refine t_geta 39 26 (by decide) dX2_costOf_202 q3132 rfl ?_
                  refine j_iload dX2_costOf_205 rfl ?_
                  refine t_aldB 26 (by decide) (n := 6) (sg.2 39) dX2_costOf_207 rfl (Nat.le_of_ble_eq_true rfl) (oa39 (hT.2 39)) ⟨by omega, by omega⟩ (fun b207 => ?_)
                  refine j_imul dX2_costOf_208 ?_
                  refine m_aload_n dX2_costOf_209 rfl ?_
                  refine t_geta 40 27 (by decide) dX2_costOf_210 q3133 rfl ?_
                  refine j_iload dX2_costOf_213 rfl ?_
                  refine t_aldB 27 (by decide) (n := 6) (sg.2 40) dX2_costOf_215 rfl (Nat.le_of_ble_eq_true rfl) (oa40 (hT.2 40)) ⟨by omega, by omega⟩ (fun b215 => ?_)
                  refine j_iadd dX2_costOf_216 ?_
                  refine j_istore [some (.ref m), some (vi day), some (vi mask), some (vi g4), some (vi w), some (vi ((8 * ((sg.2 39) w)) + ((sg.2 40) w))), none] dX2_costOf_217 (by decide) rfl rfl ?_
                  refine j_iload_n dX2_costOf_219 rfl ?_
                  refine j_iload dX2_costOf_220 rfl ?_
                  refine j_ishr dX2_costOf_222 ⟨by omega, by omega⟩ ⟨by omega, by omega⟩ ?_
                  refine j_iconst dX2_costOf_223 ?_
                  refine j_iand1 dX2_costOf_224 ?_
                  refine j_iconst dX2_costOf_225 ?_
                  refine j_icmp_ne 285 dX2_costOf_226 (by decide) ⟨⟨by omega, by omega⟩, ⟨by omega, by omega⟩⟩ (fun c226 => ?_) (fun c226 => ?_)
                  · refine j_iinc [some (.ref m), some (vi day), some (vi mask), some (vi g4), some (vi (w + 1)), some (vi ((8 * ((sg.2 39) w)) + ((sg.2 40) w))), none] dX2_costOf_285 rfl (by decide) rfl rfl ?_
                    refine m_goto 190 dX2_costOf_288 (by decide) ?_
                    refine mw_forget 5 ?_
                    exact ih190 _ (by omega) _ _ _ rfl (by omega) (by first | exact (hu6 (by omega)).1 | exact hC4) (by first | exact hP4.chg (hu6 (by omega)).2 | exact hP4.imp (fun z => ⟨z.1, z.2.add (fun a b c => by first | omega | exact absurd ⟨b, c⟩ (by assumption))⟩))
                  · refine m_aload_n dX2_costOf_229 rfl ?_
                    refine j_iload dX2_costOf_230 rfl ?_
                    refine j_iload_n dX2_costOf_232 rfl ?_
                    refine t_inv [(vi w), (vi day)] dX2_costOf_233 q3578 q3580 qs116 q3581 rfl (c_counts K 1 h m _ _ _ (by omega) (hT.ovr fa0 (fa1 hC4.1 fa0)) ⟨by omega, by omega⟩ ⟨by omega, by omega⟩ ⟨by omega, by omega⟩ ⟨by omega, by omega⟩) pdX2_counts ⟨Nat.le_of_ble_eq_true rfl, by decide, by omega⟩ (kk_z fun r233 h233 q233 => ?_) kx_z
                    obtain ⟨rfl, rfl⟩ := q233
                    refine mw_top (x' := bz (sg.2 7 (28 * sg.2 9 (sg.2 37 w) + day) ≠ 0 ∧ sg.2 7 (28 * sg.2 9 (sg.2 39 w) + day) ≠ 0)) rfl ?_
                    refine j_bz_eq 285 dX2_costOf_236 (by decide) (fun c236 => ?_) (fun c236 => ?_)
                    · refine j_iinc [some (.ref m), some (vi day), some (vi mask), some (vi g4), some (vi (w + 1)), some (vi ((8 * ((sg.2 39) w)) + ((sg.2 40) w))), none] dX2_costOf_285 rfl (by decide) rfl rfl ?_
                      refine m_goto 190 dX2_costOf_288 (by decide) ?_
                      refine mw_forget 5 ?_
                      exact ih190 _ (by omega) _ _ _ rfl (by omega) (by first | exact (hu6 (by omega)).1 | exact hC4) (by first | exact hP4.chg (hu6 (by omega)).2 | exact hP4.imp (fun z => ⟨z.1, z.2.add (fun a b c => by first | omega | exact absurd ⟨b, c⟩ (by assumption))⟩))
                    · have hcn : rnP sg day (sg.2 37 w) ∧ rnP sg day (sg.2 39 w) := by assumption
                      have hvA := (hC4.2.1 (sg.2 37 w) (sg.2 38 w - 1) ⟨⟨by omega, by omega⟩, ⟨by omega, by omega⟩, hcn.1⟩).2
                      rw [show 8 * sg.2 37 w + (sg.2 38 w - 1) = 8 * sg.2 37 w + sg.2 38 w - 1 by omega] at hvA
                      have hmb := missB_b (W := W4) (w := w) hT hw ⟨by omega, by omega⟩ ⟨(oa42 hC4.1 _ (by omega) (by omega)).1, hvA⟩
                      have hvB : vlQ sg day (sg.2 39 w) (sg.2 40 w) := ⟨⟨by omega, by omega⟩, ⟨by omega, by omega⟩, hcn.2⟩
                      have hbit : mask / 2 ^ w.toNat % 2 = 1 := by assumption
                      refine m_aload_n dX2_costOf_239 rfl ?_
                      refine t_geta 42 29 (by decide) dX2_costOf_240 q3135 rfl ?_
                      refine j_iload dX2_costOf_243 rfl ?_
                      refine t_aldB 29 (by decide) (n := 192) W4 dX2_costOf_245 rfl (Nat.le_of_ble_eq_true rfl) (oa42 hC4.1) ⟨by omega, by omega⟩ (fun b245 => ?_)
                      refine m_aload_n dX2_costOf_246 rfl ?_
                      refine j_iload dX2_costOf_247 rfl ?_
                      refine t_inv [(vi w)] dX2_costOf_249 q3582 q3584 qs117 q3585 rfl (c_missedBy K 0 h m _ _ (by omega) (hT.ovr fa0 (fa1 hC4.1 fa0)) ⟨by omega, by omega⟩ ⟨by omega, by omega⟩ (show 1 ≤ sg.2 38 w by omega)) pdX2_missedBy ⟨Nat.le_of_ble_eq_true rfl, by decide, by omega⟩ (kk_z fun r249 h249 q249 => ?_) kx_z
                      obtain ⟨rfl, rfl⟩ := q249
                      refine mw_top (x' := (missB sg W4 w)) rfl ?_
                      refine j_icmp_ge 285 dX2_costOf_252 (by decide) ⟨⟨by omega, by omega⟩, ⟨by omega, by omega⟩⟩ (fun c252 => ?_) (fun c252 => ?_)
                      · refine j_iinc [some (.ref m), some (vi day), some (vi mask), some (vi g4), some (vi (w + 1)), some (vi ((8 * ((sg.2 39) w)) + ((sg.2 40) w))), none] dX2_costOf_285 rfl (by decide) rfl rfl ?_
                        refine m_goto 190 dX2_costOf_288 (by decide) ?_
                        refine mw_forget 5 ?_
                        exact ih190 _ (by omega) _ _ _ rfl (by omega) (by first | exact (hu6 (by omega)).1 | exact hC4) (by first | exact hP4.chg (hu6 (by omega)).2 | exact hP4.imp (fun z => ⟨z.1, z.2.add (fun a b c => by first | omega | exact absurd ⟨b, c⟩ (by assumption))⟩))
                      · have hgr : ∀ W', gdW sg day mask W' → missB sg W4 w ≤ W' (8 * sg.2 39 w + sg.2 40 w) := fun W' gw => by { have q1 := missB_le hw (hC4.2.2 W' gw) (w := w) ⟨by omega, by omega⟩ hcn.1; have q2 := gw.2.2 w (by omega) (by omega) hbit hcn.1 hcn.2; omega }
                        refine m_aload_n dX2_costOf_255 rfl ?_
                        refine t_geta 42 29 (by decide) dX2_costOf_256 q3135 rfl ?_
                        refine j_iload dX2_costOf_259 rfl ?_
                        refine m_aload_n dX2_costOf_261 rfl ?_
                        refine j_iload dX2_costOf_262 rfl ?_
                        refine t_inv [(vi w)] dX2_costOf_264 q3582 q3584 qs117 q3585 rfl (c_missedBy K 0 h m _ _ (by omega) (hT.ovr fa0 (fa1 hC4.1 fa0)) ⟨by omega, by omega⟩ ⟨by omega, by omega⟩ (show 1 ≤ sg.2 38 w by omega)) pdX2_missedBy ⟨Nat.le_of_ble_eq_true rfl, by decide, by omega⟩ (kk_z fun r264 h264 q264 => ?_) kx_z
                        obtain ⟨rfl, rfl⟩ := q264
                        refine mw_top (x' := (missB sg W4 w)) rfl ?_
                        refine t_ast 29 (by decide) (n := 192) W4 [(42, (upz W4 ((8 * ((sg.2 39) w)) + ((sg.2 40) w)) (missB sg W4 w)))] dX2_costOf_267 rfl (Nat.le_of_ble_eq_true rfl) ⟨by omega, by omega⟩ rfl rfl ?_
                        refine j_iconst dX2_costOf_268 ?_
                        refine j_istore_n [some (.ref m), some (vi day), some (vi mask), some (vi 1), some (vi w), some (vi ((8 * ((sg.2 39) w)) + ((sg.2 40) w))), none] dX2_costOf_269 (by decide) rfl rfl ?_
                        have hat : upz W4 (8 * sg.2 39 w + sg.2 40 w) (missB sg W4 w) (8 * sg.2 39 w + sg.2 40 w) = missB sg W4 w := upz_at
                        have hu6 : missB sg W4 w ≤ 240 → CoI sg day mask (upz W4 (8 * sg.2 39 w + sg.2 40 w) (missB sg W4 w)) ∧ smW sg day (upz W4 (8 * sg.2 39 w + sg.2 40 w) (missB sg W4 w)) < smW sg day W4 := fun q => hC4.up hT hvB rfl ⟨by omega, q⟩ hgr
                        have ho6 : okA 42 (upz W4 (8 * sg.2 39 w + sg.2 40 w) (missB sg W4 w)) := mu42 hC4.1 (by have := (oa42 hC4.1 (8 * sg.2 39 w + sg.2 40 w) (by omega) (by omega)).1; omega)
                        refine m_aload_n dX2_costOf_270 rfl ?_
                        refine t_geta 42 29 (by decide) dX2_costOf_271 q3135 rfl ?_
                        refine j_iload dX2_costOf_274 rfl ?_
                        refine t_ald 29 (by decide) (n := 192) (upz W4 ((8 * ((sg.2 39) w)) + ((sg.2 40) w)) (missB sg W4 w)) dX2_costOf_276 rfl (Nat.le_of_ble_eq_true rfl) ⟨by omega, by omega⟩ ?_
                        refine j_sipush dX2_costOf_277 (by decide) ?_
                        refine j_icmp_le 285 dX2_costOf_280 (by decide) ⟨⟨by omega, by omega⟩, ⟨by omega, by omega⟩⟩ (fun c280 => ?_) (fun c280 => ?_)
                        · refine j_iinc [some (.ref m), some (vi day), some (vi mask), some (vi 1), some (vi (w + 1)), some (vi ((8 * ((sg.2 39) w)) + ((sg.2 40) w))), none] dX2_costOf_285 rfl (by decide) rfl rfl ?_
                          refine m_goto 190 dX2_costOf_288 (by decide) ?_
                          refine mw_forget 5 ?_
                          exact ih190 _ (by omega) _ _ _ rfl (by omega) (by first | exact (hu6 (by omega)).1 | exact hC4) (by first | exact hP4.chg (hu6 (by omega)).2 | exact hP4.imp (fun z => ⟨z.1, z.2.add (fun a b c => by first | omega | exact absurd ⟨b, c⟩ (by assumption))⟩))
                        · refine j_iconst dX2_costOf_283 ?_
                          subst hQ; exact j_iret dX2_costOf_284 rfl (⟨_, rfl, ho6, Or.inl ⟨rfl, fun W' gw => ⟨sg.2 39 w, sg.2 40 w, hvB, by have := hgr W' gw; omega⟩⟩⟩)
              exact L190 _ _ _ _ rfl (by omega) hC2 (hP2.imp (fun z => ⟨by unfold adA; rw [show sg.1 8 = t by omega]; exact z, fun w a b => by omega⟩))
            · refine j_iconst dX2_costOf_89 ?_
              refine j_istore [some (.ref m), some (vi day), some (vi mask), some (vi g2), some (vi t), some (vi 1), none] dX2_costOf_90 (by decide) rfl rfl ?_
              have L92 : ∀ (N : Nat) (g3 c : Int) (W3 : Int → Int), (9 - c).toNat = N → (1 ≤ c ∧ c ≤ 9) → (CoI sg day mask W3) → (PsI sg day W g3 W3 (adT sg day W3 t c)) → MW K yiX2_costOf d (tov K h m (ovr sg [] [(42, W3)])) 92 [some (.ref m), some (vi day), some (vi mask), some (vi g3), some (vi t), some (vi c), none] [] Q := by
                intro N
                induction N using Nat.strongRecOn with
                | _ N ih92 =>
                intro g3 c W3 hN92 hc hC3 hP3
                have hg3 : g3 = 0 ∨ g3 = 1 := by { rcases hP3 with q | q <;> omega }
                refine m_aload_n dX2_costOf_92 rfl ?_
                refine j_iload dX2_costOf_93 rfl ?_
                refine j_iload_n dX2_costOf_95 rfl ?_
                refine t_inv [(vi t), (vi day)] dX2_costOf_96 q3558 q3560 qs114 q3561 rfl (c_runs K 0 h m _ _ _ (by omega) (hT.ovr fa0 (fa1 hC3.1 fa0)) ⟨by omega, by omega⟩ ⟨by omega, by omega⟩ ⟨by omega, by omega⟩ ⟨by omega, by omega⟩) pdX2_runs ⟨Nat.le_of_ble_eq_true rfl, by decide, by omega⟩ (kk_z fun r96 h96 q96 => ?_) kx_z
                obtain ⟨rfl, rfl, b96⟩ := q96
                refine mw_top (x' := ((sg.2 7) (28 * (sg.2 9) t + day))) rfl ?_
                change 0 ≤ ((sg.2 7) (28 * (sg.2 9) t + day)) ∧ ((sg.2 7) (28 * (sg.2 9) t + day)) ≤ 1 at b96
                refine j_if_eq 181 dX2_costOf_99 (by decide) ⟨by omega, by omega⟩ (fun c99 => ?_) (fun c99 => ?_)
                · refine j_iinc [some (.ref m), some (vi day), some (vi mask), some (vi g3), some (vi (t + 1)), some (vi c), none] dX2_costOf_181 rfl (by decide) rfl rfl ?_
                  refine m_goto 80 dX2_costOf_184 (by decide) ?_
                  refine mw_forget 5 ?_
                  exact ih80 _ (by omega) _ _ _ rfl (by omega) hC3 (hP3.imp (fun z => z.next (by first | exact Or.inl (by omega) | exact Or.inr (by omega))))
                · refine j_iload dX2_costOf_102 rfl ?_
                  refine m_aload_n dX2_costOf_104 rfl ?_
                  refine t_geta 10 6 (by decide) dX2_costOf_105 q3103 rfl ?_
                  refine j_iload dX2_costOf_108 rfl ?_
                  refine t_aldB 6 (by decide) (n := 24) (sg.2 10) dX2_costOf_110 rfl (Nat.le_of_ble_eq_true rfl) (oa10 (hT.2 10)) ⟨by omega, by omega⟩ (fun b110 => ?_)
                  refine j_icmp_ge 181 dX2_costOf_111 (by decide) ⟨⟨by omega, by omega⟩, ⟨by omega, by omega⟩⟩ (fun c111 => ?_) (fun c111 => ?_)
                  · refine j_iinc [some (.ref m), some (vi day), some (vi mask), some (vi g3), some (vi (t + 1)), some (vi c), none] dX2_costOf_181 rfl (by decide) rfl rfl ?_
                    refine m_goto 80 dX2_costOf_184 (by decide) ?_
                    refine mw_forget 5 ?_
                    exact ih80 _ (by omega) _ _ _ rfl (by omega) hC3 (hP3.imp (fun z => z.next (by first | exact Or.inl (by omega) | exact Or.inr (by omega))))
                  · have hrn : rnP sg day t := by omega
                    refine m_aload_n dX2_costOf_114 rfl ?_
                    refine t_geta 42 29 (by decide) dX2_costOf_115 q3135 rfl ?_
                    refine j_bipush dX2_costOf_118 (by decide) ?_
                    refine j_iload dX2_costOf_120 rfl ?_
                    refine j_imul dX2_costOf_122 ?_
                    refine j_iload dX2_costOf_123 rfl ?_
                    refine j_iadd dX2_costOf_125 ?_
                    refine t_aldB 29 (by decide) (n := 192) W3 dX2_costOf_126 rfl (Nat.le_of_ble_eq_true rfl) (oa42 hC3.1) ⟨by omega, by omega⟩ (fun b126 => ?_)
                    refine m_aload_n dX2_costOf_127 rfl ?_
                    refine t_geta 42 29 (by decide) dX2_costOf_128 q3135 rfl ?_
                    refine j_bipush dX2_costOf_131 (by decide) ?_
                    refine j_iload dX2_costOf_133 rfl ?_
                    refine j_imul dX2_costOf_135 ?_
                    refine j_iload dX2_costOf_136 rfl ?_
                    refine j_iadd dX2_costOf_138 ?_
                    refine j_iconst dX2_costOf_139 ?_
                    refine j_isub dX2_costOf_140 ?_
                    refine t_aldB 29 (by decide) (n := 192) W3 dX2_costOf_141 rfl (Nat.le_of_ble_eq_true rfl) (oa42 hC3.1) ⟨by omega, by omega⟩ (fun b141 => ?_)
                    refine j_icmp_ge 175 dX2_costOf_142 (by decide) ⟨⟨by omega, by omega⟩, ⟨by omega, by omega⟩⟩ (fun c142 => ?_) (fun c142 => ?_)
                    · refine j_iinc [some (.ref m), some (vi day), some (vi mask), some (vi g3), some (vi t), some (vi (c + 1)), none] dX2_costOf_175 rfl (by decide) rfl rfl ?_
                      refine m_goto 92 dX2_costOf_178 (by decide) ?_
                      exact ih92 _ (by omega) _ _ _ rfl (by omega) (by first | exact hup.1 | exact hC3) (by first | exact hP3.chg hup.2 | exact hP3.imp (fun z => z.add (by omega)))
                    · have hv1 := (hC3.2.1 t (c - 1) ⟨⟨by omega, by omega⟩, ⟨by omega, by omega⟩, hrn⟩).2
                      rw [show 8 * t + (c - 1) = 8 * t + c - 1 by omega] at hv1
                      have hup := hC3.up hT (t := t) (c := c) (q := 8 * t + c) (x := W3 (8 * t + c - 1)) ⟨⟨by omega, by omega⟩, ⟨by omega, by omega⟩, hrn⟩ rfl ⟨by omega, hv1⟩ (fun W' gw => by { have q1 := hC3.2.2 W' gw t (c - 1) ⟨⟨by omega, by omega⟩, ⟨by omega, by omega⟩, hrn⟩; rw [show 8 * t + (c - 1) = 8 * t + c - 1 by omega] at q1; have q2 := gw.2.1 t c ⟨⟨by omega, by omega⟩, ⟨by omega, by omega⟩, hrn⟩ (by omega); omega })
                      refine m_aload_n dX2_costOf_145 rfl ?_
                      refine t_geta 42 29 (by decide) dX2_costOf_146 q3135 rfl ?_
                      refine j_bipush dX2_costOf_149 (by decide) ?_
                      refine j_iload dX2_costOf_151 rfl ?_
                      refine j_imul dX2_costOf_153 ?_
                      refine j_iload dX2_costOf_154 rfl ?_
                      refine j_iadd dX2_costOf_156 ?_
                      refine m_aload_n dX2_costOf_157 rfl ?_
                      refine t_geta 42 29 (by decide) dX2_costOf_158 q3135 rfl ?_
                      refine j_bipush dX2_costOf_161 (by decide) ?_
                      refine j_iload dX2_costOf_163 rfl ?_
                      refine j_imul dX2_costOf_165 ?_
                      refine j_iload dX2_costOf_166 rfl ?_
                      refine j_iadd dX2_costOf_168 ?_
                      refine j_iconst dX2_costOf_169 ?_
                      refine j_isub dX2_costOf_170 ?_
                      refine t_aldB 29 (by decide) (n := 192) W3 dX2_costOf_171 rfl (Nat.le_of_ble_eq_true rfl) (oa42 hC3.1) ⟨by omega, by omega⟩ (fun b171 => ?_)
                      refine t_ast 29 (by decide) (n := 192) W3 [(42, (upz W3 ((8 * t) + c) (W3 (((8 * t) + c) - 1))))] dX2_costOf_172 rfl (Nat.le_of_ble_eq_true rfl) ⟨by omega, by omega⟩ rfl rfl ?_
                      refine j_iconst dX2_costOf_173 ?_
                      refine j_istore_n [some (.ref m), some (vi day), some (vi mask), some (vi 1), some (vi t), some (vi c), none] dX2_costOf_174 (by decide) rfl rfl ?_
                      refine j_iinc [some (.ref m), some (vi day), some (vi mask), some (vi 1), some (vi t), some (vi (c + 1)), none] dX2_costOf_175 rfl (by decide) rfl rfl ?_
                      refine m_goto 92 dX2_costOf_178 (by decide) ?_
                      exact ih92 _ (by omega) _ _ _ rfl (by omega) (by first | exact hup.1 | exact hC3) (by first | exact hP3.chg hup.2 | exact hP3.imp (fun z => z.add (by omega)))
              exact L92 _ _ _ _ rfl (by omega) hC2 hP2
          exact L80 _ _ _ _ rfl (by omega) hC (Or.inl ⟨rfl, rfl, fun t' c' hv h1 hl => by have := hv.1; omega⟩)
      exact L71 _ _ _ rfl (by omega) hC0 (fun h9 => by omega)
    · refine j_iconst dX2_costOf_10 ?_
      refine j_istore [some (.ref m), some (vi day), some (vi mask), some (vi t), some (vi 0), none, none] dX2_costOf_11 (by decide) rfl rfl ?_
      have L13 : ∀ (N : Nat) (c : Int) (W2 : Int → Int), (8 - c).toNat = N → (0 ≤ c ∧ c ≤ 8) → (okA 42 W2) → (iniW sg day W2 t c) → MW K yiX2_costOf d (tov K h m (ovr sg [] [(42, W2)])) 13 [some (.ref m), some (vi day), some (vi mask), some (vi t), some (vi c), none, none] [] Q := by
        intro N
        induction N using Nat.strongRecOn with
        | _ N ih13 =>
        intro c W2 hN13 hc ho2 hi2
        refine j_iload dX2_costOf_13 rfl ?_
        refine m_aload_n dX2_costOf_15 rfl ?_
        refine t_geta 10 6 (by decide) dX2_costOf_16 q3103 rfl ?_
        refine j_iload_n dX2_costOf_19 rfl ?_
        refine t_aldB 6 (by decide) (n := 24) (sg.2 10) dX2_costOf_20 rfl (Nat.le_of_ble_eq_true rfl) (oa10 (hT.2 10)) ⟨by omega, by omega⟩ (fun b20 => ?_)
        refine j_icmp_ge 63 dX2_costOf_21 (by decide) ⟨⟨by omega, by omega⟩, ⟨by omega, by omega⟩⟩ (fun c21 => ?_) (fun c21 => ?_)
        · refine j_iinc [some (.ref m), some (vi day), some (vi mask), some (vi (t + 1)), some (vi c), none, none] dX2_costOf_63 rfl (by decide) rfl rfl ?_
          refine m_goto 2 dX2_costOf_66 (by decide) ?_
          refine mw_forget 4 ?_
          exact ih2 _ (by omega) _ _ rfl (by omega) ho2 (hi2.next (by omega))
        · refine m_aload_n dX2_costOf_24 rfl ?_
          refine t_geta 42 29 (by decide) dX2_costOf_25 q3135 rfl ?_
          refine j_bipush dX2_costOf_28 (by decide) ?_
          refine j_iload_n dX2_costOf_30 rfl ?_
          refine j_imul dX2_costOf_31 ?_
          refine j_iload dX2_costOf_32 rfl ?_
          refine j_iadd dX2_costOf_34 ?_
          refine m_aload_n dX2_costOf_35 rfl ?_
          refine j_iload_n dX2_costOf_36 rfl ?_
          refine j_iload_n dX2_costOf_37 rfl ?_
          refine t_inv [(vi t), (vi day)] dX2_costOf_38 q3558 q3560 qs114 q3561 rfl (c_runs K 0 h m _ _ _ (by omega) (hT.ovr fa0 (fa1 ho2 fa0)) ⟨by omega, by omega⟩ ⟨by omega, by omega⟩ ⟨by omega, by omega⟩ ⟨by omega, by omega⟩) pdX2_runs ⟨Nat.le_of_ble_eq_true rfl, by decide, by omega⟩ (kk_z fun r38 h38 q38 => ?_) kx_z
          obtain ⟨rfl, rfl, b38⟩ := q38
          refine mw_top (x' := ((sg.2 7) (28 * (sg.2 9) t + day))) rfl ?_
          change 0 ≤ ((sg.2 7) (28 * (sg.2 9) t + day)) ∧ ((sg.2 7) (28 * (sg.2 9) t + day)) ≤ 1 at b38
          refine j_if_eq 55 dX2_costOf_41 (by decide) ⟨by omega, by omega⟩ (fun c41 => ?_) (fun c41 => ?_)
          · refine j_iconst dX2_costOf_55 ?_
            refine t_ast 29 (by decide) (n := 192) W2 [(42, (upz W2 ((8 * t) + c) 0))] dX2_costOf_56 rfl (Nat.le_of_ble_eq_true rfl) ⟨by omega, by omega⟩ rfl rfl ?_
            refine j_iinc [some (.ref m), some (vi day), some (vi mask), some (vi t), some (vi (c + 1)), none, none] dX2_costOf_57 rfl (by decide) rfl rfl ?_
            refine m_goto 13 dX2_costOf_60 (by decide) ?_
            exact ih13 _ (by omega) _ _ rfl (by omega) (mu42 ho2 (by have := latOf_b hT day t c; omega)) (hi2.add hT (by omega) (by omega) (fun h9 => by first | rfl | exact absurd h9 (by omega)))
          · refine m_aload_n dX2_costOf_44 rfl ?_
            refine j_iload_n dX2_costOf_45 rfl ?_
            refine j_iload_n dX2_costOf_46 rfl ?_
            refine j_iload dX2_costOf_47 rfl ?_
            refine t_inv [(vi day), (vi t), (vi c)] dX2_costOf_49 q3401 q3403 qs90 q3404 rfl (c_lateOf K 1 h m _ _ _ _ (by omega) (hT.ovr fa0 (fa1 ho2 fa0)) ⟨by omega, by omega⟩ ⟨by omega, by omega⟩ ⟨by omega, by omega⟩) pdX2_lateOf ⟨Nat.le_of_ble_eq_true rfl, by decide, by omega⟩ (kk_z fun r49 h49 q49 => ?_) kx_z
            obtain ⟨rfl, rfl⟩ := q49
            refine mw_top (x' := latOf sg day t c) rfl ?_
            refine m_goto 56 dX2_costOf_52 (by decide) ?_
            refine t_ast 29 (by decide) (n := 192) W2 [(42, (upz W2 ((8 * t) + c) (latOf sg day t c)))] dX2_costOf_56 rfl (Nat.le_of_ble_eq_true rfl) ⟨by omega, by omega⟩ rfl rfl ?_
            refine j_iinc [some (.ref m), some (vi day), some (vi mask), some (vi t), some (vi (c + 1)), none, none] dX2_costOf_57 rfl (by decide) rfl rfl ?_
            refine m_goto 13 dX2_costOf_60 (by decide) ?_
            exact ih13 _ (by omega) _ _ rfl (by omega) (mu42 ho2 (by have := latOf_b hT day t c; omega)) (hi2.add hT (by omega) (by omega) (fun h9 => by first | rfl | exact absurd h9 (by omega)))
      exact L13 _ _ _ rfl (by omega) ho hi
  refine mw_tov (b := ovr sg [] [(42, (sg.2 42))]) (ovr_addA _ _ _ 42) ?_
  exact L2 _ _ _ rfl (by omega) (hT.2 42) (fun t' c' hv hl => by have := hv.1; have := hv.2.1; omega)
theorem pw6 {n : Int} (h : 0 ≤ n ∧ n ≤ 6) : (1 : Int) ≤ 2 ^ n.toNat ∧ (2 : Int) ^ n.toNat ≤ 64 := by
  have h2 : n = 0 ∨ n = 1 ∨ n = 2 ∨ n = 3 ∨ n = 4 ∨ n = 5 ∨ n = 6 := by omega
  rcases h2 with rfl | rfl | rfl | rfl | rfl | rfl | rfl <;> decide
theorem costP_b {sg : TS} {day mask v : Int} (h : costP sg day mask v) : -1 ≤ v ∧ v ≤ 50000 := by
  rcases h with h | ⟨W, _, _, _, h, _⟩ <;> omega
/-- what costs are made of -/
def t2 (sg : TS) : TS := ovr (fun _ => 0, fun _ _ => 0) [(8, sg.1 8), (14, sg.1 14), (36, sg.1 36)] [(2, sg.2 2), (7, sg.2 7), (9, sg.2 9), (10, sg.2 10), (11, sg.2 11), (12, sg.2 12), (13, sg.2 13), (15, sg.2 15), (16, sg.2 16), (17, sg.2 17), (18, sg.2 18), (37, sg.2 37), (38, sg.2 38), (39, sg.2 39), (40, sg.2 40), (41, sg.2 41)]
theorem cstT_t2 (sg : TS) (day : Int) (W : Int → Int) (n : Nat) : cstT sg day W n = cstT (t2 sg) day W n := by
  induction n with
  | zero => rfl
  | succ n ih => unfold cstT; rw [ih]; rfl
theorem cstW_t2 (sg : TS) (day mask b : Int) (W : Int → Int) (n : Nat) : cstW sg day mask W b n = cstW (t2 sg) day mask W b n := by
  induction n with
  | zero => rfl
  | succ n ih => unfold cstW; rw [ih]; rfl
theorem costP_t2 (sg : TS) (day mask v : Int) : costP sg day mask v ↔ costP (t2 sg) day mask v := by
  have e : ∀ W : Int → Int, cstW (t2 sg) day mask W (cstT (t2 sg) day W (sg.1 8).toNat) (sg.1 36).toNat = cstW sg day mask W (cstT sg day W (sg.1 8).toNat) (sg.1 36).toNat := fun W => by rw [← cstT_t2, ← cstW_t2]
  constructor
  · rintro (h | ⟨W, h1, h2, h3, h4, h5⟩)
    · exact Or.inl h
    · exact Or.inr ⟨W, h1, h2, h3, h4, h5.trans (e W).symm⟩
  · rintro (h | ⟨W, h1, h2, h3, h4, h5⟩)
    · exact Or.inl h
    · exact Or.inr ⟨W, h1, h2, h3, h4, h5.trans (e W)⟩
theorem costP_te {a b : TS} (h : t2 a = t2 b) {day mask v : Int} (hc : costP a day mask v) : costP b day mask v := by
  rw [costP_t2, ← h, ← costP_t2]; exact hc
theorem c_waitCost (K : KT) (d : Nat) (h : MH) (m : Nat) (sg : TS) (day mask : Int) (hd : 3 ≤ d) (hT : TB sg) (hw : wsOk sg) (h1 : In day) (h2 : In mask) : Mt K yiX2_waitCost d [.ref m, vi day, vi mask] (tov K h m sg) (Rz (Qy K h m sg (fun th v => (¬ ((0 ≤ day ∧ day ≤ 27) ∧ 0 ≤ mask ∧ mask ≤ 2 ^ (sg.1 36).toNat - 1) ∧ th = 1) ∨ (((0 ≤ day ∧ day ≤ 27) ∧ 0 ≤ mask ∧ mask ≤ 2 ^ (sg.1 36).toNat - 1) ∧ ∃ c, costP sg day mask c ∧ ((c < 0 ∧ th = 2) ∨ (0 ≤ c ∧ th = 0 ∧ v = c)))))) := by
  have := h1.1; have := h1.2; have := h2.1; have := h2.2; have f36' := of36 (hT.1 36); have hp := pw6 f36'
  refine mt_ofQ (by decide) (Nat.le_of_ble_eq_true rfl) (fun Q hQ => ?_)
  show MW K yiX2_waitCost d (tov K h m (ovr sg [] [])) 0 [some (.ref m), some (vi day), some (vi mask), none] [] Q
  have f36 := of36 (hT.1 36)
  refine m_aload_n dX2_waitCost_0 rfl ?_
  refine j_iload_n dX2_waitCost_1 rfl ?_
  refine j_iconst dX2_waitCost_2 ?_
  refine j_bipush dX2_waitCost_3 (by decide) ?_
  refine m_invS [(vi day), (vi 0), (vi 27)] dX2_waitCost_5 q3253 q3254 q133 q3255 (c_isIn K 0 _ _ _ _ ⟨by omega, by omega⟩ ⟨by omega, by omega⟩ ⟨by omega, by omega⟩) pdX2_isIn ⟨Nat.le_of_ble_eq_true rfl, by decide, by omega⟩ (kk_z fun r5 h5 q5 => ?_) kx_z
  obtain ⟨rfl, rfl⟩ := q5
  refine mw_top (x' := bz (0 ≤ day ∧ day ≤ 27)) rfl ?_
  refine j_bz_eq 27 dX2_waitCost_8 (by decide) (fun c8 => ?_) (fun c8 => ?_)
  · refine j_iconst dX2_waitCost_27 ?_
    refine m_goto 32 dX2_waitCost_28 (by decide) ?_
    refine j_iconst dX2_waitCost_32 ?_
    refine t_inv [(vi 1), (vi 1)] dX2_waitCost_33 q3256 q3258 qs76 q3259 rfl (c_isThrown1 K 0 h m _ _) pdX2_isThrown ⟨Nat.le_of_ble_eq_true rfl, by decide, by omega⟩ (kk_z fun r33 h33 q33 => ?_) kx_z
    obtain ⟨rfl, rfl⟩ := q33
    refine mw_tov (b := ovr sg [(0, 1)] []) (ovr_ovr _ _ _ _ _) ?_
    refine j_if_eq 41 dX2_waitCost_36 (by decide) ⟨by decide, by decide⟩ (fun c => absurd c (by decide)) (fun _ => ?_)
    refine j_iconst dX2_waitCost_39 ?_
    subst hQ; exact j_iret dX2_waitCost_40 rfl (⟨_, rfl, (Scr.ovr sg rfl rfl), (hT.ovr (fa1 (mf0 (v := 1) ⟨by first | decide | omega | (split <;> omega) | assumption, by first | decide | omega | (split <;> omega) | assumption⟩) fa0) fa0), Or.inl ⟨by omega, rfl⟩⟩)
  · refine j_iload_n dX2_waitCost_11 rfl ?_
    refine j_iconst dX2_waitCost_12 ?_
    refine j_iconst dX2_waitCost_13 ?_
    refine m_aload_n dX2_waitCost_14 rfl ?_
    refine t_geti 36 (by decide) (sg.1 36) dX2_waitCost_15 q3129 rfl ?_
    refine j_ishl1 dX2_waitCost_18 ⟨by omega, by omega⟩ ?_
    refine j_iconst dX2_waitCost_19 ?_
    refine j_isub dX2_waitCost_20 ?_
    refine m_invS [(vi mask), (vi 0), (vi ((2 ^ (sg.1 36).toNat) - 1))] dX2_waitCost_21 q3253 q3254 q133 q3255 (c_isIn K 0 _ _ _ _ ⟨by omega, by omega⟩ ⟨by omega, by omega⟩ ⟨by omega, by omega⟩) pdX2_isIn ⟨Nat.le_of_ble_eq_true rfl, by decide, by omega⟩ (kk_z fun r21 h21 q21 => ?_) kx_z
    obtain ⟨rfl, rfl⟩ := q21
    refine mw_top (x' := bz (0 ≤ mask ∧ mask ≤ ((2 ^ (sg.1 36).toNat) - 1))) rfl ?_
    refine j_bz_ne 31 dX2_waitCost_24 (by decide) (fun c24 => ?_) (fun c24 => ?_)
    · refine j_iconst dX2_waitCost_31 ?_
      refine j_iconst dX2_waitCost_32 ?_
      refine t_inv [(vi 0), (vi 1)] dX2_waitCost_33 q3256 q3258 qs76 q3259 rfl (c_isThrown0 K 0 h m _ _) pdX2_isThrown ⟨Nat.le_of_ble_eq_true rfl, by decide, by omega⟩ (kk_z fun r33 h33 q33 => ?_) kx_z
      obtain ⟨rfl, rfl⟩ := q33
      refine mw_tov (b := ovr sg [(0, 0)] []) (ovr_ovr _ _ _ _ _) ?_
      refine j_if_eq 41 dX2_waitCost_36 (by decide) ⟨by decide, by decide⟩ (fun _ => ?_) (fun c => absurd c (by decide))
      refine m_aload_n dX2_waitCost_41 rfl ?_
      refine j_iload_n dX2_waitCost_42 rfl ?_
      refine j_iload_n dX2_waitCost_43 rfl ?_
      refine t_inv [(vi day), (vi mask)] dX2_waitCost_44 q3574 q3576 qs115 q3577 rfl (c_costOf K 2 h m _ _ _ (by omega) (hT.ovr (fa1 (mf0 (v := 0) ⟨by first | decide | omega | (split <;> omega) | assumption, by first | decide | omega | (split <;> omega) | assumption⟩) fa0) fa0) ⟨by omega, by omega⟩ ⟨by omega, by omega⟩ hw) pdX2_costOf ⟨Nat.le_of_ble_eq_true rfl, by decide, by omega⟩ (kk_z fun r44 h44 q44 => ?_) kx_z
      obtain ⟨W44, rfl, o44, c44⟩ := q44
      refine mw_tov (b := ovr sg [(0, 0)] [(42, W44)]) (ovr_ovr _ _ _ _ _) ?_
      have hcb := costP_b c44
      refine j_istore_n [some (.ref m), some (vi day), some (vi mask), some (vi r44)] dX2_waitCost_47 (by decide) rfl rfl ?_
      refine m_aload_n dX2_waitCost_48 rfl ?_
      refine j_iload_n dX2_waitCost_49 rfl ?_
      refine j_if_ge 57 dX2_waitCost_50 (by decide) ⟨by omega, by omega⟩ (fun c50 => ?_) (fun c50 => ?_)
      · refine j_iconst dX2_waitCost_57 ?_
        refine j_iconst dX2_waitCost_58 ?_
        refine t_inv [(vi 0), (vi 2)] dX2_waitCost_59 q3256 q3258 qs76 q3259 rfl (c_isThrown0 K 0 h m _ _) pdX2_isThrown ⟨Nat.le_of_ble_eq_true rfl, by decide, by omega⟩ (kk_z fun r59 h59 q59 => ?_) kx_z
        obtain ⟨rfl, rfl⟩ := q59
        refine mw_tov (b := ovr sg [(0, 0)] [(42, W44)]) (ovr_ovr _ _ _ _ _) ?_
        refine j_if_eq 69 dX2_waitCost_62 (by decide) ⟨by decide, by decide⟩ (fun _ => ?_) (fun c => absurd c (by decide))
        refine j_iload_n dX2_waitCost_69 rfl ?_
        subst hQ; exact j_iret dX2_waitCost_70 rfl (⟨_, rfl, (Scr.ovr sg rfl rfl), (hT.ovr (fa1 (mf0 (v := 0) ⟨by first | decide | omega | (split <;> omega) | assumption, by first | decide | omega | (split <;> omega) | assumption⟩) fa0) (fa1 o44 fa0)), Or.inr ⟨by omega, r44, costP_te (a := ovr sg [(0, 0)] []) (b := sg) rfl c44, by first | exact Or.inl ⟨by omega, rfl⟩ | exact Or.inr ⟨by omega, rfl, rfl⟩⟩⟩)
      · refine j_iconst dX2_waitCost_53 ?_
        refine m_goto 58 dX2_waitCost_54 (by decide) ?_
        refine j_iconst dX2_waitCost_58 ?_
        refine t_inv [(vi 1), (vi 2)] dX2_waitCost_59 q3256 q3258 qs76 q3259 rfl (c_isThrown1 K 0 h m _ _) pdX2_isThrown ⟨Nat.le_of_ble_eq_true rfl, by decide, by omega⟩ (kk_z fun r59 h59 q59 => ?_) kx_z
        obtain ⟨rfl, rfl⟩ := q59
        refine mw_tov (b := ovr sg [(0, 2)] [(42, W44)]) (ovr_ovr _ _ _ _ _) ?_
        refine j_if_eq 69 dX2_waitCost_62 (by decide) ⟨by decide, by decide⟩ (fun c => absurd c (by decide)) (fun _ => ?_)
        refine j_iconst dX2_waitCost_65 ?_
        refine m_goto 70 dX2_waitCost_66 (by decide) ?_
        subst hQ; exact j_iret dX2_waitCost_70 rfl (⟨_, rfl, (Scr.ovr sg rfl rfl), (hT.ovr (fa1 (mf0 (v := 2) ⟨by first | decide | omega | (split <;> omega) | assumption, by first | decide | omega | (split <;> omega) | assumption⟩) fa0) (fa1 o44 fa0)), Or.inr ⟨by omega, r44, costP_te (a := ovr sg [(0, 0)] []) (b := sg) rfl c44, by first | exact Or.inl ⟨by omega, rfl⟩ | exact Or.inr ⟨by omega, rfl, rfl⟩⟩⟩)
    · refine j_iconst dX2_waitCost_27 ?_
      refine m_goto 32 dX2_waitCost_28 (by decide) ?_
      refine j_iconst dX2_waitCost_32 ?_
      refine t_inv [(vi 1), (vi 1)] dX2_waitCost_33 q3256 q3258 qs76 q3259 rfl (c_isThrown1 K 0 h m _ _) pdX2_isThrown ⟨Nat.le_of_ble_eq_true rfl, by decide, by omega⟩ (kk_z fun r33 h33 q33 => ?_) kx_z
      obtain ⟨rfl, rfl⟩ := q33
      refine mw_tov (b := ovr sg [(0, 1)] []) (ovr_ovr _ _ _ _ _) ?_
      refine j_if_eq 41 dX2_waitCost_36 (by decide) ⟨by decide, by decide⟩ (fun c => absurd c (by decide)) (fun _ => ?_)
      refine j_iconst dX2_waitCost_39 ?_
      subst hQ; exact j_iret dX2_waitCost_40 rfl (⟨_, rfl, (Scr.ovr sg rfl rfl), (hT.ovr (fa1 (mf0 (v := 1) ⟨by first | decide | omega | (split <;> omega) | assumption, by first | decide | omega | (split <;> omega) | assumption⟩) fa0) fa0), Or.inl ⟨by omega, rfl⟩⟩)
/-- the least cost of the first masks, and the mask that has it -/
def bsL (c : Int → Int) : Nat → Int
  | 0 => 1000000
  | k + 1 => if 0 ≤ c (k : Int) ∧ c (k : Int) < bsL c k then c (k : Int) else bsL c k
def bsB (c : Int → Int) : Nat → Int
  | 0 => 0
  | k + 1 => if 0 ≤ c (k : Int) ∧ c (k : Int) < bsL c k then (k : Int) else bsB c k
theorem bsL_s {c : Int → Int} {k : Int} (hk : 0 ≤ k) : bsL c (k + 1).toNat = if 0 ≤ c k ∧ c k < bsL c k.toNat then c k else bsL c k.toNat := by
  have e : (k + 1).toNat = k.toNat + 1 := by omega
  rw [e]; show (if 0 ≤ c (k.toNat : Int) ∧ c (k.toNat : Int) < bsL c k.toNat then c (k.toNat : Int) else bsL c k.toNat) = _
  rw [show (k.toNat : Int) = k by omega]
theorem bsB_s {c : Int → Int} {k : Int} (hk : 0 ≤ k) : bsB c (k + 1).toNat = if 0 ≤ c k ∧ c k < bsL c k.toNat then k else bsB c k.toNat := by
  have e : (k + 1).toNat = k.toNat + 1 := by omega
  rw [e]; show (if 0 ≤ c (k.toNat : Int) ∧ c (k.toNat : Int) < bsL c k.toNat then (k.toNat : Int) else bsB c k.toNat) = _
  rw [show (k.toNat : Int) = k by omega]
theorem bs_cg {c c' : Int → Int} (n : Nat) (h : ∀ j : Nat, j < n → c (j : Int) = c' (j : Int)) : bsL c n = bsL c' n ∧ bsB c n = bsB c' n := by
  induction n with
  | zero => exact ⟨rfl, rfl⟩
  | succ n ih =>
    have e := ih (fun j hj => h j (by omega))
    unfold bsL bsB
    rw [e.1, e.2, h n (by omega)]
    exact ⟨rfl, rfl⟩
theorem bs_up {c : Int → Int} {k x : Int} (hk : 0 ≤ k) : bsL (upz c k x) k.toNat = bsL c k.toNat ∧ bsB (upz c k x) k.toNat = bsB c k.toNat := bs_cg k.toNat (fun j hj => by unfold upz; rw [if_neg (by omega)])
def bestP (sg : TS) (day v : Int) : Prop := ∃ c : Int → Int, (∀ k, 0 ≤ k → k < 2 ^ (sg.1 36).toNat → costP sg day k (c k)) ∧ v = bsB c ((2 : Int) ^ (sg.1 36).toNat).toNat
theorem c_bestWaits (K : KT) (d : Nat) (h : MH) (m : Nat) (sg : TS) (day : Int) (hd : 3 ≤ d) (hT : TB sg) (hw : wsOk sg) (h1 : In day) : Mt K yiX2_bestWaits d [.ref m, vi day] (tov K h m sg) (Rz (Qy K h m sg (fun th v => (¬ (0 ≤ day ∧ day ≤ 27) ∧ th = 1) ∨ ((0 ≤ day ∧ day ≤ 27) ∧ th = 0 ∧ bestP sg day v)))) := by
  have := h1.1; have := h1.2; have f36' := of36 (hT.1 36); have hp := pw6 f36'
  refine mt_ofQ (by decide) (Nat.le_of_ble_eq_true rfl) (fun Q hQ => ?_)
  show MW K yiX2_bestWaits d (tov K h m (ovr sg [] [])) 0 [some (.ref m), some (vi day), none, none, none, none] [] Q
  have f36 := of36 (hT.1 36)
  refine m_aload_n dX2_bestWaits_0 rfl ?_
  refine j_iload_n dX2_bestWaits_1 rfl ?_
  refine j_iconst dX2_bestWaits_2 ?_
  refine t_inv [(vi day), (vi 1)] dX2_bestWaits_3 q3297 q3299 qs80 q3300 rfl (c_isNoDay K 1 h m _ _ _ (by omega) ⟨by omega, by omega⟩) pdX2_isNoDay ⟨Nat.le_of_ble_eq_true rfl, by decide, by omega⟩ (kk_z fun r3 h3 q3 => ?_) kx_z
  obtain ⟨rfl, rfl⟩ := q3
  refine mw_tov (b := ovr sg [(0, (if ¬ (0 ≤ day ∧ day ≤ 27) then 1 else 0))] []) (ovr_ovr _ _ _ _ _) ?_
  refine mw_top (x' := bz (¬ (0 ≤ day ∧ day ≤ 27))) rfl ?_
  refine j_bz_eq 11 dX2_bestWaits_6 (by decide) (fun c6 => ?_) (fun c6 => ?_)
  · refine mw_tov (b := ovr sg [(0, 0)] []) (by rw [if_neg c6]) ?_
    refine j_iconst dX2_bestWaits_11 ?_
    refine j_istore_n [some (.ref m), some (vi day), some (vi 0), none, none, none] dX2_bestWaits_12 (by decide) rfl rfl ?_
    refine j_ldc (1000000) dX2_bestWaits_13 q3264 (by decide) ?_
    refine j_istore_n [some (.ref m), some (vi day), some (vi 0), some (vi 1000000), none, none] dX2_bestWaits_15 (by decide) rfl rfl ?_
    refine j_iconst dX2_bestWaits_16 ?_
    refine j_istore [some (.ref m), some (vi day), some (vi 0), some (vi 1000000), some (vi 0), none] dX2_bestWaits_17 (by decide) rfl rfl ?_
    have L19 : ∀ (N : Nat) (be le k : Int) (W c : Int → Int), (64 - k).toNat = N → (0 ≤ k ∧ k ≤ 2 ^ (sg.1 36).toNat) → (∀ j, 0 ≤ j → j < k → costP sg day j (c j)) → (le = bsL c k.toNat ∧ 0 ≤ le ∧ le ≤ 1000000) → (be = bsB c k.toNat) → (okA 42 W) → MW K yiX2_bestWaits d (tov K h m (ovr sg [(0, 0)] [(42, W)])) 19 [some (.ref m), some (vi day), some (vi be), some (vi le), some (vi k), none] [] Q := by
      intro N
      induction N using Nat.strongRecOn with
      | _ N ih19 =>
      intro be le k W c hN19 hk hc hl hb ho
      refine j_iload dX2_bestWaits_19 rfl ?_
      refine j_iconst dX2_bestWaits_21 ?_
      refine m_aload_n dX2_bestWaits_22 rfl ?_
      refine t_geti 36 (by decide) (sg.1 36) dX2_bestWaits_23 q3129 rfl ?_
      refine j_ishl1 dX2_bestWaits_26 ⟨by omega, by omega⟩ ?_
      refine j_icmp_ge 62 dX2_bestWaits_27 (by decide) ⟨⟨by omega, by omega⟩, ⟨by omega, by omega⟩⟩ (fun c27 => ?_) (fun c27 => ?_)
      · refine j_iload_n dX2_bestWaits_62 rfl ?_
        subst hQ; exact j_iret dX2_bestWaits_63 rfl (⟨_, rfl, (Scr.ovr sg rfl rfl), (hT.ovr (fa1 (mf0 (v := 0) ⟨by first | decide | omega | (split <;> omega) | assumption, by first | decide | omega | (split <;> omega) | assumption⟩) fa0) (fa1 ho fa0)), Or.inr ⟨by omega, rfl, c, fun j a b => hc j a (by omega), by rw [hb, show k = 2 ^ (sg.1 36).toNat by omega]⟩⟩)
      · refine m_aload_n dX2_bestWaits_30 rfl ?_
        refine j_iload_n dX2_bestWaits_31 rfl ?_
        refine j_iload dX2_bestWaits_32 rfl ?_
        refine t_inv [(vi day), (vi k)] dX2_bestWaits_34 q3574 q3576 qs115 q3577 rfl (c_costOf K 2 h m _ _ _ (by omega) (hT.ovr (fa1 (mf0 (v := 0) ⟨by first | decide | omega | (split <;> omega) | assumption, by first | decide | omega | (split <;> omega) | assumption⟩) fa0) (fa1 ho fa0)) ⟨by omega, by omega⟩ ⟨by omega, by omega⟩ hw) pdX2_costOf ⟨Nat.le_of_ble_eq_true rfl, by decide, by omega⟩ (kk_z fun r34 h34 q34 => ?_) kx_z
        obtain ⟨W34, rfl, o34, c34⟩ := q34
        refine mw_tov (b := ovr sg [(0, 0)] [(42, W34)]) (ovr_ovr _ _ _ _ _) ?_
        have hcb := costP_b c34
        refine j_istore [some (.ref m), some (vi day), some (vi be), some (vi le), some (vi k), some (vi r34)] dX2_bestWaits_37 (by decide) rfl rfl ?_
        refine j_iload dX2_bestWaits_39 rfl ?_
        refine j_if_lt 56 dX2_bestWaits_41 (by decide) ⟨by omega, by omega⟩ (fun c41 => ?_) (fun c41 => ?_)
        · refine j_iinc [some (.ref m), some (vi day), some (vi be), some (vi le), some (vi (k + 1)), some (vi r34)] dX2_bestWaits_56 rfl (by decide) rfl rfl ?_
          refine m_goto 19 dX2_bestWaits_59 (by decide) ?_
          refine mw_forget 5 ?_
          exact ih19 _ (by omega) _ _ _ _ (upz c k r34) rfl (by omega) (fun j a b => by { by_cases e : j = k; { subst e; rw [upz_at]; exact costP_te (a := ovr sg [(0, 0)] [(42, W)]) (b := sg) rfl c34 }; { have u : upz c k r34 j = c j := by { unfold upz; rw [if_neg e] }; rw [u]; exact hc j a (by omega) } }) ⟨by rw [bsL_s hk.1, upz_at, (bs_up hk.1).1, ← hl.1]; first | rw [if_pos (by omega)] | rw [if_neg (by omega)], by omega, by omega⟩ (by rw [bsB_s hk.1, upz_at, (bs_up hk.1).1, (bs_up hk.1).2, ← hl.1]; first | rw [if_pos (by omega)] | (rw [if_neg (by omega)]; exact hb)) o34
        · refine j_iload dX2_bestWaits_44 rfl ?_
          refine j_iload_n dX2_bestWaits_46 rfl ?_
          refine j_icmp_ge 56 dX2_bestWaits_47 (by decide) ⟨⟨by omega, by omega⟩, ⟨by omega, by omega⟩⟩ (fun c47 => ?_) (fun c47 => ?_)
          · refine j_iinc [some (.ref m), some (vi day), some (vi be), some (vi le), some (vi (k + 1)), some (vi r34)] dX2_bestWaits_56 rfl (by decide) rfl rfl ?_
            refine m_goto 19 dX2_bestWaits_59 (by decide) ?_
            refine mw_forget 5 ?_
            exact ih19 _ (by omega) _ _ _ _ (upz c k r34) rfl (by omega) (fun j a b => by { by_cases e : j = k; { subst e; rw [upz_at]; exact costP_te (a := ovr sg [(0, 0)] [(42, W)]) (b := sg) rfl c34 }; { have u : upz c k r34 j = c j := by { unfold upz; rw [if_neg e] }; rw [u]; exact hc j a (by omega) } }) ⟨by rw [bsL_s hk.1, upz_at, (bs_up hk.1).1, ← hl.1]; first | rw [if_pos (by omega)] | rw [if_neg (by omega)], by omega, by omega⟩ (by rw [bsB_s hk.1, upz_at, (bs_up hk.1).1, (bs_up hk.1).2, ← hl.1]; first | rw [if_pos (by omega)] | (rw [if_neg (by omega)]; exact hb)) o34
          · refine j_iload dX2_bestWaits_50 rfl ?_
            refine j_istore_n [some (.ref m), some (vi day), some (vi be), some (vi r34), some (vi k), some (vi r34)] dX2_bestWaits_52 (by decide) rfl rfl ?_
            refine j_iload dX2_bestWaits_53 rfl ?_
            refine j_istore_n [some (.ref m), some (vi day), some (vi k), some (vi r34), some (vi k), some (vi r34)] dX2_bestWaits_55 (by decide) rfl rfl ?_
            refine j_iinc [some (.ref m), some (vi day), some (vi k), some (vi r34), some (vi (k + 1)), some (vi r34)] dX2_bestWaits_56 rfl (by decide) rfl rfl ?_
            refine m_goto 19 dX2_bestWaits_59 (by decide) ?_
            refine mw_forget 5 ?_
            exact ih19 _ (by omega) _ _ _ _ (upz c k r34) rfl (by omega) (fun j a b => by { by_cases e : j = k; { subst e; rw [upz_at]; exact costP_te (a := ovr sg [(0, 0)] [(42, W)]) (b := sg) rfl c34 }; { have u : upz c k r34 j = c j := by { unfold upz; rw [if_neg e] }; rw [u]; exact hc j a (by omega) } }) ⟨by rw [bsL_s hk.1, upz_at, (bs_up hk.1).1, ← hl.1]; first | rw [if_pos (by omega)] | rw [if_neg (by omega)], by omega, by omega⟩ (by rw [bsB_s hk.1, upz_at, (bs_up hk.1).1, (bs_up hk.1).2, ← hl.1]; first | rw [if_pos (by omega)] | (rw [if_neg (by omega)]; exact hb)) o34
    refine mw_tov (b := ovr sg [(0, 0)] [(42, (sg.2 42))]) (ovr_addA _ _ _ 42) ?_
    exact L19 _ _ _ _ _ (fun _ => 0) rfl (by omega) (fun j a b => by omega) ⟨rfl, by omega, by omega⟩ rfl (hT.2 42)
  · refine mw_tov (b := ovr sg [(0, 1)] []) (by rw [if_pos c6]) ?_
    refine j_iconst dX2_bestWaits_9 ?_
    subst hQ; exact j_iret dX2_bestWaits_10 rfl (⟨_, rfl, (Scr.ovr sg rfl rfl), (hT.ovr (fa1 (mf0 (v := 1) ⟨by first | decide | omega | (split <;> omega) | assumption, by first | decide | omega | (split <;> omega) | assumption⟩) fa0) fa0), Or.inl ⟨by omega, rfl⟩⟩)
