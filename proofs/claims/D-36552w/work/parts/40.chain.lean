/-! the twin: choices, chains -/
/-- one can be at stop s at minute t with n rides at most -/
def ArN (sg : TS) (fr mi : Int) (n : Nat) (s t : Int) : Prop := b0 (sg.2 4) fr mi s ≤ t ∨ (∃ t', EvN sg (b0 (sg.2 4) fr mi) BG n s t' ∧ t' ≤ t) ∨ ∃ s' t', (0 ≤ s' ∧ s' < sg.1 1) ∧ EvN sg (b0 (sg.2 4) fr mi) BG n s' t' ∧ s' ≠ s ∧ t' + sg.2 4 (12 * s' + s) ≤ t
def EAn (sg : TS) (fr mi : Int) (n : Nat) (s v : Int) : Prop := (v = 1000000 ∨ (-2000 ≤ v ∧ v ≤ 300000)) ∧ ∀ t, t < 900000 → (v ≤ t ↔ ArN sg fr mi n s t)
theorem EAn.uniq {sg : TS} {fr mi s v w : Int} {n : Nat} (h1 : EAn sg fr mi n s v) (h2 : EAn sg fr mi n s w) : v = w := by
  have a := h1.1; have b := h2.1
  by_cases e1 : v < 900000
  · have := (h2.2 v e1).mpr ((h1.2 v e1).mp (by omega))
    have := (h1.2 w (by omega)).mpr ((h2.2 w (by omega)).mp (by omega))
    omega
  · by_cases e2 : w < 900000
    · have := (h1.2 w e2).mpr ((h2.2 w e2).mp (by omega)); omega
    · omega
theorem Lab.ean {sg : TS} {fr mi s : Int} {n : Nat} {f r : Int → Int} (h : Lab sg (b0 (sg.2 4) fr mi) BG (EvN sg (b0 (sg.2 4) fr mi) BG n) f r) (hf : okA 23 f) (hr : okA 24 r) (hD : Dich f ∧ Dich r) (hs : 0 ≤ s ∧ s < sg.1 1) (hn : sg.1 1 ≤ 12) : EAn sg fr mi n s (minL f r s) := by
  have d1 := hD.1 s hs.1 (by omega); have d2 := hD.2 s hs.1 (by omega)
  have b1 := oa23 hf s hs.1 (by omega); have b2 := oa24 hr s hs.1 (by omega)
  unfold minL
  refine ⟨by split <;> omega, fun t ht => ?_⟩
  have h1 := h.1 s t hs.1 hs.2 ht
  have h2 := h.2 s t hs.1 hs.2 ht
  have e : (if f s < r s then f s else r s) ≤ t ↔ f s ≤ t ∨ r s ≤ t := by split <;> omega
  rw [e, h1, h2]
  unfold ArN
  have hB : ¬ BG s ≤ t := by show ¬ (1000000 : Int) ≤ t; omega
  constructor
  · rintro ((h3 | h3) | (h3 | h3))
    · exact Or.inl h3
    · exact Or.inr (Or.inr h3)
    · exact absurd h3 hB
    · exact Or.inr (Or.inl h3)
  · rintro (h3 | h3 | h3)
    · exact Or.inl (Or.inl h3)
    · exact Or.inr (Or.inr h3)
    · exact Or.inl (Or.inr h3)
/-- the best of the first k, and how many times it fell -/
def chB (a : Int → Int) : Nat → Int
  | 0 => 1000000
  | k + 1 => if a (k : Int) < chB a k then a (k : Int) else chB a k
def chM (a : Int → Int) : Nat → Int
  | 0 => 0
  | k + 1 => if a (k : Int) < chB a k then chM a k + 1 else chM a k
theorem chB_s {a : Int → Int} {k : Int} (hk : 0 ≤ k) : chB a (k + 1).toNat = if a k < chB a k.toNat then a k else chB a k.toNat := by
  have e : (k + 1).toNat = k.toNat + 1 := by omega
  rw [e]; show (if a (k.toNat : Int) < chB a k.toNat then a (k.toNat : Int) else chB a k.toNat) = _
  rw [show (k.toNat : Int) = k by omega]
theorem chM_s {a : Int → Int} {k : Int} (hk : 0 ≤ k) : chM a (k + 1).toNat = if a k < chB a k.toNat then chM a k.toNat + 1 else chM a k.toNat := by
  have e : (k + 1).toNat = k.toNat + 1 := by omega
  rw [e]; show (if a (k.toNat : Int) < chB a k.toNat then chM a k.toNat + 1 else chM a k.toNat) = _
  rw [show (k.toNat : Int) = k by omega]
theorem chM_b (a : Int → Int) (k : Nat) : 0 ≤ chM a k ∧ chM a k ≤ k := by
  induction k with
  | zero => exact ⟨Int.le_refl 0, by show (0 : Int) ≤ 0; decide⟩
  | succ k ih => unfold chM; split <;> omega
/-- what the choice of an index is -/
def chI (a : Int → Int) (N ix q w : Int) : Prop := ∃ k, 0 ≤ k ∧ k < N ∧ a k < chB a k.toNat ∧ chM a k.toNat = ix ∧ q = k ∧ w = a k
/-- the arrivals by rounds at a stop -/
def rowA (sg : TS) (s : Int) : Int → Int := fun k => if sg.2 26 (12 * k + s) < sg.2 27 (12 * k + s) then sg.2 26 (12 * k + s) else sg.2 27 (12 * k + s)
theorem chc_i {a : Int → Int} {k ix w : Int} {P : Prop} (hk : 0 ≤ k) (h1 : a k < chB a k.toNat) (h2 : chM a k.toNat = ix) (hw : w = a k) : chI a (k + 1) ix k w ∨ P := Or.inl ⟨k, hk, by omega, h1, h2, rfl, hw⟩
theorem chc_n {a : Int → Int} {k ix q w : Int} (h : chI a k ix q w ∨ ∀ j, 0 ≤ j → j < k → ¬ (a j < chB a j.toNat ∧ chM a j.toNat = ix)) (hn : ¬ (a k < chB a k.toNat ∧ chM a k.toNat = ix)) : chI a (k + 1) ix q w ∨ ∀ j, 0 ≤ j → j < k + 1 → ¬ (a j < chB a j.toNat ∧ chM a j.toNat = ix) := by
  rcases h with ⟨j, h1, h2, h3⟩ | h
  · exact Or.inl ⟨j, h1, by omega, h3⟩
  · refine Or.inr (fun j h1 h2 => ?_)
    by_cases e : j = k
    · subst e; exact hn
    · exact h j h1 (by omega)
/-- every index below the number is met -/
theorem chM_hit (a : Int → Int) (N : Int) {ix : Int} (h0 : 0 ≤ ix) (h1 : ix < chM a N.toNat) (hn : ∀ k, 0 ≤ k → k < N → ¬ (a k < chB a k.toNat ∧ chM a k.toNat = ix)) : False := by
  have key : ∀ n : Nat, (n : Int) ≤ N → chM a n ≤ ix := by
    intro n
    induction n with
    | zero => intro _; exact h0
    | succ n ih =>
      intro hn2
      have h2 := ih (by omega)
      have h3 := hn (n : Int) (by omega) (by omega)
      rw [show ((n : Int)).toNat = n by omega] at h3
      unfold chM
      split
      · next e => have : ¬ chM a n = ix := fun e2 => h3 ⟨e, e2⟩
                  omega
      · exact h2
  by_cases e : 0 ≤ N
  · have := key N.toNat (by omega); omega
  · rw [show N.toNat = 0 by omega] at h1
    exact absurd h1 (by show ¬ ix < 0; omega)
theorem c_choicesOf (K : KT) (d : Nat) (h : MH) (m : Nat) (sg : TS) (s ix x y : Int) (hd : 1 ≤ d) (hT : TB sg) (hs : 0 ≤ s ∧ s < 12) (hi : In ix) (hx : 0 ≤ x ∧ x ≤ 74) (hy : -2000 ≤ y ∧ y ≤ 1000000) : Mt K yiX2_choicesOf d [.ref m, vi s, vi ix] (tov K h m (ovr sg [(48, x), (49, y)] [])) (Rz fun v h' => ∃ q w, h' = tov K h m (ovr sg [(48, q), (49, w)] []) ∧ (0 ≤ q ∧ q ≤ 74) ∧ (-2000 ≤ w ∧ w ≤ 1000000) ∧ v = chM (rowA sg s) (sg.1 28).toNat ∧ (chI (rowA sg s) (sg.1 28) ix q w ∨ ∀ k, 0 ≤ k → k < sg.1 28 → ¬ (rowA sg s k < chB (rowA sg s) k.toNat ∧ chM (rowA sg s) k.toNat = ix))) := by
  have := hi.1; have := hi.2; have f28' := of28 (hT.1 28)
  refine mt_ofQ (by decide) (Nat.le_of_ble_eq_true rfl) (fun Q hQ => ?_)
  show MW K yiX2_choicesOf d (tov K h m (ovr sg [(48, x), (49, y)] [])) 0 [some (.ref m), some (vi s), some (vi ix), none, none, none, none] [] Q
  have f28 := of28 (hT.1 28)
  refine j_iconst dX2_choicesOf_0 ?_
  refine j_istore_n [some (.ref m), some (vi s), some (vi ix), some (vi 0), none, none, none] dX2_choicesOf_1 (by decide) rfl rfl ?_
  refine j_ldc (1000000) dX2_choicesOf_2 q3264 (by decide) ?_
  refine j_istore [some (.ref m), some (vi s), some (vi ix), some (vi 0), some (vi 1000000), none, none] dX2_choicesOf_4 (by decide) rfl rfl ?_
  refine j_iconst dX2_choicesOf_6 ?_
  refine j_istore [some (.ref m), some (vi s), some (vi ix), some (vi 0), some (vi 1000000), some (vi 0), none] dX2_choicesOf_7 (by decide) rfl rfl ?_
  have L9 : ∀ (N : Nat) (mn be k q w : Int), (74 - k).toNat = N → (0 ≤ k ∧ k ≤ sg.1 28) → (mn = chM (rowA sg s) k.toNat ∧ 0 ≤ mn ∧ mn ≤ k) → (be = chB (rowA sg s) k.toNat ∧ -2000 ≤ be ∧ be ≤ 1000000) → ((0 ≤ q ∧ q ≤ 74) ∧ (-2000 ≤ w ∧ w ≤ 1000000)) → (chI (rowA sg s) k ix q w ∨ ∀ j, 0 ≤ j → j < k → ¬ (rowA sg s j < chB (rowA sg s) j.toNat ∧ chM (rowA sg s) j.toNat = ix)) → MW K yiX2_choicesOf d (tov K h m (ovr sg [(48, q), (49, w)] [])) 9 [some (.ref m), some (vi s), some (vi ix), some (vi mn), some (vi be), some (vi k), none] [] Q := by
    intro N
    induction N using Nat.strongRecOn with
    | _ N ih9 =>
    intro mn be k q w hN9 hk hm hb hq hc
    refine j_iload dX2_choicesOf_9 rfl ?_
    refine m_aload_n dX2_choicesOf_11 rfl ?_
    refine t_geti 28 (by decide) (sg.1 28) dX2_choicesOf_12 q3121 rfl ?_
    refine j_icmp_ge 64 dX2_choicesOf_15 (by decide) ⟨⟨by omega, by omega⟩, ⟨by omega, by omega⟩⟩ (fun c15 => ?_) (fun c15 => ?_)
    · refine j_iload_n dX2_choicesOf_64 rfl ?_
      subst hQ; exact j_iret dX2_choicesOf_65 rfl (⟨q, w, rfl, hq.1, hq.2, by rw [hm.1, show k = sg.1 28 by omega], by rw [show sg.1 28 = k by omega]; exact hc⟩)
    · refine m_aload_n dX2_choicesOf_18 rfl ?_
      refine j_iload dX2_choicesOf_19 rfl ?_
      refine j_iload_n dX2_choicesOf_21 rfl ?_
      refine t_inv [(vi k), (vi s)] dX2_choicesOf_22 q3510 q3512 qs108 q3513 rfl (c_atBy K 0 h m _ _ _ (by omega) (hT.ovr (fa1 (mf48 (v := q) ⟨by first | decide | omega | (split <;> omega) | assumption, by first | decide | omega | (split <;> omega) | assumption⟩) (fa1 (mf49 (v := w) ⟨by first | decide | omega | (split <;> omega) | assumption, by first | decide | omega | (split <;> omega) | assumption⟩) fa0)) fa0) ⟨by omega, by omega⟩ ⟨by omega, by omega⟩ ⟨by omega, by omega⟩ ⟨by omega, by omega⟩) pdX2_atBy ⟨Nat.le_of_ble_eq_true rfl, by decide, by omega⟩ (kk_z fun r22 h22 q22 => ?_) kx_z
      obtain ⟨rfl, rfl⟩ := q22
      refine mw_top (x' := (if (sg.2 26) (12 * k + s) < (sg.2 27) (12 * k + s) then (sg.2 26) (12 * k + s) else (sg.2 27) (12 * k + s))) rfl ?_
      have b26 := oa26 (hT.2 26) (12 * k + s) (by omega) (by omega)
      have b27 := oa27 (hT.2 27) (12 * k + s) (by omega) (by omega)
      refine j_istore [some (.ref m), some (vi s), some (vi ix), some (vi mn), some (vi be), some (vi k), some (vi (if (sg.2 26) (12 * k + s) < (sg.2 27) (12 * k + s) then (sg.2 26) (12 * k + s) else (sg.2 27) (12 * k + s)))] dX2_choicesOf_25 (by decide) rfl rfl ?_
      refine j_iload dX2_choicesOf_27 rfl ?_
      refine j_iload dX2_choicesOf_29 rfl ?_
      refine j_icmp_ge 58 dX2_choicesOf_31 (by decide) ⟨⟨by omega, by omega⟩, ⟨by omega, by omega⟩⟩ (fun c31 => ?_) (fun c31 => ?_)
      · refine j_iinc [some (.ref m), some (vi s), some (vi ix), some (vi mn), some (vi be), some (vi (k + 1)), some (vi (if (sg.2 26) (12 * k + s) < (sg.2 27) (12 * k + s) then (sg.2 26) (12 * k + s) else (sg.2 27) (12 * k + s)))] dX2_choicesOf_58 rfl (by decide) rfl rfl ?_
        refine m_goto 9 dX2_choicesOf_61 (by decide) ?_
        refine mw_forget 6 ?_
        exact ih9 _ (by omega) _ _ _ _ _ rfl (by omega) ⟨by rw [chM_s hk.1, ← hb.1]; first | (rw [if_pos (show rowA sg s k < be by unfold rowA; omega)]; omega) | (rw [if_neg (show ¬ rowA sg s k < be by unfold rowA; omega)]; omega), by omega, by omega⟩ ⟨by rw [chB_s hk.1, ← hb.1]; first | (rw [if_pos (show rowA sg s k < be by unfold rowA; omega)]; rfl) | rw [if_neg (show ¬ rowA sg s k < be by unfold rowA; omega)], by omega, by omega⟩ (by omega) (by first | exact chc_i hk.1 (by rw [← hb.1]; unfold rowA; omega) (by omega) rfl | exact chc_n hc (by rw [← hb.1, ← hm.1]; unfold rowA; omega))
      · refine j_iload_n dX2_choicesOf_34 rfl ?_
        refine j_iload_n dX2_choicesOf_35 rfl ?_
        refine j_icmp_ne 51 dX2_choicesOf_36 (by decide) ⟨⟨by omega, by omega⟩, ⟨by omega, by omega⟩⟩ (fun c36 => ?_) (fun c36 => ?_)
        · refine j_iload dX2_choicesOf_51 rfl ?_
          refine j_istore [some (.ref m), some (vi s), some (vi ix), some (vi mn), some (vi (if (sg.2 26) (12 * k + s) < (sg.2 27) (12 * k + s) then (sg.2 26) (12 * k + s) else (sg.2 27) (12 * k + s))), some (vi k), some (vi (if (sg.2 26) (12 * k + s) < (sg.2 27) (12 * k + s) then (sg.2 26) (12 * k + s) else (sg.2 27) (12 * k + s)))] dX2_choicesOf_53 (by decide) rfl rfl ?_
          refine j_iinc [some (.ref m), some (vi s), some (vi ix), some (vi (mn + 1)), some (vi (if (sg.2 26) (12 * k + s) < (sg.2 27) (12 * k + s) then (sg.2 26) (12 * k + s) else (sg.2 27) (12 * k + s))), some (vi k), some (vi (if (sg.2 26) (12 * k + s) < (sg.2 27) (12 * k + s) then (sg.2 26) (12 * k + s) else (sg.2 27) (12 * k + s)))] dX2_choicesOf_55 rfl (by decide) rfl rfl ?_
          refine j_iinc [some (.ref m), some (vi s), some (vi ix), some (vi (mn + 1)), some (vi (if (sg.2 26) (12 * k + s) < (sg.2 27) (12 * k + s) then (sg.2 26) (12 * k + s) else (sg.2 27) (12 * k + s))), some (vi (k + 1)), some (vi (if (sg.2 26) (12 * k + s) < (sg.2 27) (12 * k + s) then (sg.2 26) (12 * k + s) else (sg.2 27) (12 * k + s)))] dX2_choicesOf_58 rfl (by decide) rfl rfl ?_
          refine m_goto 9 dX2_choicesOf_61 (by decide) ?_
          refine mw_forget 6 ?_
          exact ih9 _ (by omega) _ _ _ _ _ rfl (by omega) ⟨by rw [chM_s hk.1, ← hb.1]; first | (rw [if_pos (show rowA sg s k < be by unfold rowA; omega)]; omega) | (rw [if_neg (show ¬ rowA sg s k < be by unfold rowA; omega)]; omega), by omega, by omega⟩ ⟨by rw [chB_s hk.1, ← hb.1]; first | (rw [if_pos (show rowA sg s k < be by unfold rowA; omega)]; rfl) | rw [if_neg (show ¬ rowA sg s k < be by unfold rowA; omega)], by omega, by omega⟩ (by omega) (by first | exact chc_i hk.1 (by rw [← hb.1]; unfold rowA; omega) (by omega) rfl | exact chc_n hc (by rw [← hb.1, ← hm.1]; unfold rowA; omega))
        · refine m_aload_n dX2_choicesOf_39 rfl ?_
          refine j_iload dX2_choicesOf_40 rfl ?_
          refine t_puti 48 (by decide) [(48, k), (49, w)] dX2_choicesOf_42 q3141 rfl rfl rfl rfl ?_
          refine m_aload_n dX2_choicesOf_45 rfl ?_
          refine j_iload dX2_choicesOf_46 rfl ?_
          refine t_puti 49 (by decide) [(48, k), (49, (if (sg.2 26) (12 * k + s) < (sg.2 27) (12 * k + s) then (sg.2 26) (12 * k + s) else (sg.2 27) (12 * k + s)))] dX2_choicesOf_48 q3142 rfl rfl rfl rfl ?_
          refine j_iload dX2_choicesOf_51 rfl ?_
          refine j_istore [some (.ref m), some (vi s), some (vi ix), some (vi mn), some (vi (if (sg.2 26) (12 * k + s) < (sg.2 27) (12 * k + s) then (sg.2 26) (12 * k + s) else (sg.2 27) (12 * k + s))), some (vi k), some (vi (if (sg.2 26) (12 * k + s) < (sg.2 27) (12 * k + s) then (sg.2 26) (12 * k + s) else (sg.2 27) (12 * k + s)))] dX2_choicesOf_53 (by decide) rfl rfl ?_
          refine j_iinc [some (.ref m), some (vi s), some (vi ix), some (vi (mn + 1)), some (vi (if (sg.2 26) (12 * k + s) < (sg.2 27) (12 * k + s) then (sg.2 26) (12 * k + s) else (sg.2 27) (12 * k + s))), some (vi k), some (vi (if (sg.2 26) (12 * k + s) < (sg.2 27) (12 * k + s) then (sg.2 26) (12 * k + s) else (sg.2 27) (12 * k + s)))] dX2_choicesOf_55 rfl (by decide) rfl rfl ?_
          refine j_iinc [some (.ref m), some (vi s), some (vi ix), some (vi (mn + 1)), some (vi (if (sg.2 26) (12 * k + s) < (sg.2 27) (12 * k + s) then (sg.2 26) (12 * k + s) else (sg.2 27) (12 * k + s))), some (vi (k + 1)), some (vi (if (sg.2 26) (12 * k + s) < (sg.2 27) (12 * k + s) then (sg.2 26) (12 * k + s) else (sg.2 27) (12 * k + s)))] dX2_choicesOf_58 rfl (by decide) rfl rfl ?_
          refine m_goto 9 dX2_choicesOf_61 (by decide) ?_
          refine mw_forget 6 ?_
          exact ih9 _ (by omega) _ _ _ _ _ rfl (by omega) ⟨by rw [chM_s hk.1, ← hb.1]; first | (rw [if_pos (show rowA sg s k < be by unfold rowA; omega)]; omega) | (rw [if_neg (show ¬ rowA sg s k < be by unfold rowA; omega)]; omega), by omega, by omega⟩ ⟨by rw [chB_s hk.1, ← hb.1]; first | (rw [if_pos (show rowA sg s k < be by unfold rowA; omega)]; rfl) | rw [if_neg (show ¬ rowA sg s k < be by unfold rowA; omega)], by omega, by omega⟩ (by omega) (by first | exact chc_i hk.1 (by rw [← hb.1]; unfold rowA; omega) (by omega) rfl | exact chc_n hc (by rw [← hb.1, ← hm.1]; unfold rowA; omega))
  exact L9 _ _ _ _ _ _ rfl (by omega) ⟨rfl, by omega, by omega⟩ ⟨rfl, by omega, by omega⟩ ⟨hx, hy⟩ (Or.inr (fun j a b => by omega))
theorem EvN_te {a b : TS} (h : tt a = tt b) (f0 r0 : Int → Int) (n : Nat) : EvN a f0 r0 n = EvN b f0 r0 n := by rw [EvN_tt a, EvN_tt b, h]
theorem ArN_te {a b : TS} (h : tt a = tt b) {fr mi s t : Int} {n : Nat} : ArN a fr mi n s t ↔ ArN b fr mi n s t := by
  unfold ArN; rw [EvN_te h, te_1 h, te_4 h]
theorem EAn.te {a b : TS} (h : tt a = tt b) {fr mi s v : Int} {n : Nat} (hL : EAn a fr mi n s v) : EAn b fr mi n s v := ⟨hL.1, fun t ht => (hL.2 t ht).trans (ArN_te h)⟩
theorem Scr.trans {a b c : TS} (h1 : Scr a b) (h2 : Scr b c) : Scr a c := ⟨fun k hk => (h2.1 k hk).trans (h1.1 k hk), fun k hk => (h2.2 k hk).trans (h1.2 k hk)⟩
/-- what the rounds tell of a stop -/
def chR (sg : TS) (fr to day mi N : Int) (a : Int → Int) : Prop := (2 ≤ N ∧ N ≤ 74) ∧ (∀ k : Nat, (k : Int) < N → EAn (sd sg day) fr mi k to (a k)) ∧ ∀ n : Nat, N - 1 ≤ n → EAn (sd sg day) fr mi n to (a (N - 1))
theorem chR_of {sg sg1 : TS} {fr to day mi N : Int} {fA rA : Int → Int} (ht : tt (sd sg1 day) = tt (sd sg day)) (h4 : sg1.2 4 = (sd sg1 day).2 4) (hn : (sd sg1 day).1 1 ≤ 12) (hs : 0 ≤ to ∧ to < (sd sg1 day).1 1) (hN : 2 ≤ N ∧ N ≤ 74) (h1 : RowOk (sd sg1 day) (b0 (sg1.2 4) fr mi) N fA rA) (h2 : ∀ n : Nat, N - 1 ≤ n → Lab (sd sg1 day) (b0 (sg1.2 4) fr mi) BG (EvN (sd sg1 day) (b0 (sg1.2 4) fr mi) BG n) (rwF fA (N - 1)) (rwF rA (N - 1))) : chR sg fr to day mi N (fun k => minL (rwF fA k) (rwF rA k) to) := by
  rw [h4] at h1 h2
  refine ⟨hN, fun k hk => ?_, fun n hn2 => ?_⟩
  · obtain ⟨a1, a2, a3, a4⟩ := h1 k hk
    exact (a4.ean a1 a2 a3 hs hn).te ht
  · obtain ⟨a1, a2, a3, a4⟩ := h1 (N - 1).toNat (by omega)
    rw [show (((N - 1).toNat : Nat) : Int) = N - 1 by omega] at a1 a2 a3
    exact ((h2 n hn2).ean a1 a2 a3 hs hn).te ht
theorem ask0 {n fr to day mi : Int} (h : askT n fr to day mi = 0) : (0 ≤ fr ∧ fr < n) ∧ (0 ≤ to ∧ to < n) ∧ (0 ≤ day ∧ day ≤ 27) ∧ 0 ≤ mi ∧ mi ≤ 1439 := by
  revert h; unfold askT; (repeat' split) <;> omega
theorem askB (n fr to day mi : Int) : 0 ≤ askT n fr to day mi ∧ askT n fr to day mi ≤ 4 := by unfold askT; (repeat' split) <;> omega
theorem c_choices (K : KT) (d : Nat) (h : MH) (m : Nat) (sg : TS) (fr to day mi : Int) (hd : 4 ≤ d) (hF : WF sg) (hcut : sg.1 5 = -1) (hcl : clS sg ≤ 23) (h1 : In fr) (h2 : In to) (h3 : In day) (h4 : In mi) : Mt K yiX2_choices d [.ref m, vi fr, vi to, vi day, vi mi] (tov K h m sg) (Rz (Qy K h m sg (fun th v => (askT (sg.1 1) fr to day mi ≠ 0 ∧ th = askT (sg.1 1) fr to day mi) ∨ (askT (sg.1 1) fr to day mi = 0 ∧ th = 0 ∧ ∃ N a, chR sg fr to day mi N a ∧ v = chM a N.toNat)))) := by
  have hT := hF.1
  have := h1.1; have := h1.2; have := h2.1; have := h2.2; have := h3.1; have := h3.2; have := h4.1; have := h4.2; have f1 := of1 (hT.1 1)
  have hB := askB (sg.1 1) fr to day mi
  refine mt_ofQ (by decide) (Nat.le_of_ble_eq_true rfl) (fun Q hQ => ?_)
  show MW K yiX2_choices d (tov K h m (ovr sg [] [])) 0 [some (.ref m), some (vi fr), some (vi to), some (vi day), some (vi mi)] [] Q
  refine m_aload_n dX2_choices_0 rfl ?_
  refine j_iload_n dX2_choices_1 rfl ?_
  refine j_iload_n dX2_choices_2 rfl ?_
  refine j_iload_n dX2_choices_3 rfl ?_
  refine j_iload dX2_choices_4 rfl ?_
  refine t_inv [(vi fr), (vi to), (vi day), (vi mi)] dX2_choices_6 q3413 q3415 qs91 q3416 rfl (c_isAskedWrong K 2 h m _ _ _ _ _ (by omega) hT ⟨by omega, by omega⟩ ⟨by omega, by omega⟩ ⟨by omega, by omega⟩ ⟨by omega, by omega⟩) pdX2_isAskedWrong ⟨Nat.le_of_ble_eq_true rfl, by decide, by omega⟩ (kk_z fun r6 h6 q6 => ?_) kx_z
  obtain ⟨rfl, rfl⟩ := q6
  refine mw_tov (b := ovr sg [(0, (askT (sg.1 1) fr to day mi))] []) (ovr_ovr _ _ _ _ _) ?_
  refine mw_top (x' := bz (askT (sg.1 1) fr to day mi ≠ 0)) rfl ?_
  refine j_bz_eq 14 dX2_choices_9 (by decide) (fun c9 => ?_) (fun c9 => ?_)
  · have e0 : askT (sg.1 1) fr to day mi = 0 := by omega
    have hA := ask0 e0
    refine m_aload_n dX2_choices_14 rfl ?_
    refine j_iload_n dX2_choices_15 rfl ?_
    refine j_iload_n dX2_choices_16 rfl ?_
    refine j_iload dX2_choices_17 rfl ?_
    refine t_inv [(vi fr), (vi day), (vi mi)] dX2_choices_19 q3494 q3496 qs104 q3497 rfl (c_tellRounds K 3 h m _ _ _ _ (by omega) ⟨(hT.ovr (fa1 (mf0 (v := (askT (sg.1 1) fr to day mi)) ⟨by first | decide | omega | (split <;> omega) | assumption, by first | decide | omega | (split <;> omega) | assumption⟩) fa0) fa0), hF.2.1, hF.2.2.1, hF.2.2.2⟩ hcut hcl ⟨by omega, by omega⟩ ⟨by omega, by omega⟩ ⟨by omega, by omega⟩) pdX2_tellRounds ⟨Nat.le_of_ble_eq_true rfl, by decide, by omega⟩ (kk_v fun h19 q19 => ?_) kx_v
    obtain ⟨N19, f19, r19, fA19, rA19, rfl, x19, y19, z19, w19, n19, u19, t19⟩ := q19
    refine mw_tov (b := ovr sg [(0, (askT (sg.1 1) fr to day mi)), (22, day), (25, 0), (28, N19)] [(23, f19), (24, r19), (26, fA19), (27, rA19)]) (ovr_ovr _ _ _ _ _) ?_
    have hTB : TB (ovr sg [(0, askT (sg.1 1) fr to day mi), (22, day), (25, 0), (28, N19)] [(23, f19), (24, r19), (26, fA19), (27, rA19)]) := hT.ovr (fa1 (mf0 (v := askT (sg.1 1) fr to day mi) hB) (fa1 (mf22 (v := day) hA.2.2.1) (fa1 (mf25 (v := 0) ⟨by decide, by decide⟩) (fa1 (mf28 (v := N19) ⟨by omega, by omega⟩) fa0)))) (fa1 x19 (fa1 y19 (fa1 z19 (fa1 w19 fa0))))
    have f48 := of48 (hT.1 48)
    have f49 := of49 (hT.1 49)
    refine m_aload_n dX2_choices_22 rfl ?_
    refine mw_tov (b := ovr sg [(0, (askT (sg.1 1) fr to day mi)), (22, day), (25, 0), (28, N19), (48, (sg.1 48))] [(23, f19), (24, r19), (26, fA19), (27, rA19)]) (ovr_addF _ _ _ 48) ?_
    refine mw_tov (b := ovr sg [(0, (askT (sg.1 1) fr to day mi)), (22, day), (25, 0), (28, N19), (48, (sg.1 48)), (49, (sg.1 49))] [(23, f19), (24, r19), (26, fA19), (27, rA19)]) (ovr_addF _ _ _ 49) ?_
    refine mw_tov (b := ovr (ovr sg [(0, askT (sg.1 1) fr to day mi), (22, day), (25, 0), (28, N19)] [(23, f19), (24, r19), (26, fA19), (27, rA19)]) [(48, (sg.1 48)), (49, (sg.1 49))] []) (ovr_ovr sg [(0, (askT (sg.1 1) fr to day mi)), (22, day), (25, 0), (28, N19)] [(48, (sg.1 48)), (49, (sg.1 49))] [(23, f19), (24, r19), (26, fA19), (27, rA19)] []).symm ?_
    refine j_iload_n dX2_choices_23 rfl ?_
    refine j_iconst dX2_choices_24 ?_
    refine t_inv [(vi to), (vi (-1))] dX2_choices_25 q3506 q3508 qs107 q3509 rfl (c_choicesOf K 1 h m (ovr sg [(0, askT (sg.1 1) fr to day mi), (22, day), (25, 0), (28, N19)] [(23, f19), (24, r19), (26, fA19), (27, rA19)]) _ _ _ _ (by omega) hTB ⟨by omega, by omega⟩ ⟨by omega, by omega⟩ f48 f49) pdX2_choicesOf ⟨Nat.le_of_ble_eq_true rfl, by decide, by omega⟩ (kk_z fun r25 h25 q25 => ?_) kx_z
    obtain ⟨q, w, rfl, g1, g2, g3, g4⟩ := q25
    subst hQ; exact j_iret dX2_choices_28 rfl (⟨_, rfl, (Scr.ovr sg rfl rfl).trans (Scr.ovr _ rfl rfl), hTB.ovr (fa1 (mf48 (v := q) g1) (fa1 (mf49 (v := w) g2) fa0)) fa0, Or.inr ⟨e0, e0, N19, _, chR_of (sg1 := ovr sg [(0, askT (sg.1 1) fr to day mi)] []) rfl rfl (by show sg.1 1 ≤ 12; omega) ⟨by omega, by show to < sg.1 1; omega⟩ n19 u19 t19, g3⟩⟩)
  · refine j_iconst dX2_choices_12 ?_
    subst hQ; exact j_iret dX2_choices_13 rfl (⟨_, rfl, Scr.ovr sg rfl rfl, hT.ovr (fa1 (mf0 (v := askT (sg.1 1) fr to day mi) hB) fa0) fa0, Or.inl ⟨by omega, rfl⟩⟩)
theorem c_choice (K : KT) (d : Nat) (h : MH) (m : Nat) (sg : TS) (fr to day mi ix : Int) (hd : 4 ≤ d) (hF : WF sg) (hcut : sg.1 5 = -1) (hcl : clS sg ≤ 23) (h1 : In fr) (h2 : In to) (h3 : In day) (h4 : In mi) (h5 : In ix) : Mt K yiX2_choice d [.ref m, vi fr, vi to, vi day, vi mi, vi ix] (tov K h m sg) (Rz (Qy K h m sg (fun th v => (askT (sg.1 1) fr to day mi ≠ 0 ∧ th = askT (sg.1 1) fr to day mi) ∨ (askT (sg.1 1) fr to day mi = 0 ∧ ∃ N a, chR sg fr to day mi N a ∧ ((¬ (0 ≤ ix ∧ ix ≤ chM a N.toNat - 1) ∧ th = 3) ∨ ((0 ≤ ix ∧ ix ≤ chM a N.toNat - 1) ∧ th = 0 ∧ ∃ q w, chI a N ix q w ∧ v = 5000 * q + w)))))) := by
  have hT := hF.1
  have := h1.1; have := h1.2; have := h2.1; have := h2.2; have := h3.1; have := h3.2; have := h4.1; have := h4.2; have := h5.1; have := h5.2; have f1 := of1 (hT.1 1)
  have hB := askB (sg.1 1) fr to day mi
  refine mt_ofQ (by decide) (Nat.le_of_ble_eq_true rfl) (fun Q hQ => ?_)
  show MW K yiX2_choice d (tov K h m (ovr sg [] [])) 0 [some (.ref m), some (vi fr), some (vi to), some (vi day), some (vi mi), some (vi ix)] [] Q
  have f48 := of48 (hT.1 48)
  have f49 := of49 (hT.1 49)
  refine m_aload_n dX2_choice_0 rfl ?_
  refine j_iload_n dX2_choice_1 rfl ?_
  refine j_iload_n dX2_choice_2 rfl ?_
  refine j_iload_n dX2_choice_3 rfl ?_
  refine j_iload dX2_choice_4 rfl ?_
  refine t_inv [(vi fr), (vi to), (vi day), (vi mi)] dX2_choice_6 q3413 q3415 qs91 q3416 rfl (c_isAskedWrong K 2 h m _ _ _ _ _ (by omega) hT ⟨by omega, by omega⟩ ⟨by omega, by omega⟩ ⟨by omega, by omega⟩ ⟨by omega, by omega⟩) pdX2_isAskedWrong ⟨Nat.le_of_ble_eq_true rfl, by decide, by omega⟩ (kk_z fun r6 h6 q6 => ?_) kx_z
  obtain ⟨rfl, rfl⟩ := q6
  refine mw_tov (b := ovr sg [(0, (askT (sg.1 1) fr to day mi))] []) (ovr_ovr _ _ _ _ _) ?_
  refine mw_top (x' := bz (askT (sg.1 1) fr to day mi ≠ 0)) rfl ?_
  refine j_bz_eq 14 dX2_choice_9 (by decide) (fun c9 => ?_) (fun c9 => ?_)
  · have e0 : askT (sg.1 1) fr to day mi = 0 := by omega
    have hA := ask0 e0
    refine m_aload_n dX2_choice_14 rfl ?_
    refine j_iload_n dX2_choice_15 rfl ?_
    refine j_iload_n dX2_choice_16 rfl ?_
    refine j_iload dX2_choice_17 rfl ?_
    refine t_inv [(vi fr), (vi day), (vi mi)] dX2_choice_19 q3494 q3496 qs104 q3497 rfl (c_tellRounds K 3 h m _ _ _ _ (by omega) ⟨(hT.ovr (fa1 (mf0 (v := (askT (sg.1 1) fr to day mi)) ⟨by first | decide | omega | (split <;> omega) | assumption, by first | decide | omega | (split <;> omega) | assumption⟩) fa0) fa0), hF.2.1, hF.2.2.1, hF.2.2.2⟩ hcut hcl ⟨by omega, by omega⟩ ⟨by omega, by omega⟩ ⟨by omega, by omega⟩) pdX2_tellRounds ⟨Nat.le_of_ble_eq_true rfl, by decide, by omega⟩ (kk_v fun h19 q19 => ?_) kx_v
    obtain ⟨N19, f19, r19, fA19, rA19, rfl, x19, y19, z19, w19, n19, u19, t19⟩ := q19
    refine mw_tov (b := ovr sg [(0, (askT (sg.1 1) fr to day mi)), (22, day), (25, 0), (28, N19)] [(23, f19), (24, r19), (26, fA19), (27, rA19)]) (ovr_ovr _ _ _ _ _) ?_
    have hTB : TB (ovr sg [(0, askT (sg.1 1) fr to day mi), (22, day), (25, 0), (28, N19)] [(23, f19), (24, r19), (26, fA19), (27, rA19)]) := hT.ovr (fa1 (mf0 (v := askT (sg.1 1) fr to day mi) hB) (fa1 (mf22 (v := day) hA.2.2.1) (fa1 (mf25 (v := 0) ⟨by decide, by decide⟩) (fa1 (mf28 (v := N19) ⟨by omega, by omega⟩) fa0)))) (fa1 x19 (fa1 y19 (fa1 z19 (fa1 w19 fa0))))
    have f48' := of48 (hT.1 48)
    have f49' := of49 (hT.1 49)
    refine m_aload_n dX2_choice_22 rfl ?_
    refine mw_tov (b := ovr sg [(0, (askT (sg.1 1) fr to day mi)), (22, day), (25, 0), (28, N19), (48, (sg.1 48))] [(23, f19), (24, r19), (26, fA19), (27, rA19)]) (ovr_addF _ _ _ 48) ?_
    refine mw_tov (b := ovr sg [(0, (askT (sg.1 1) fr to day mi)), (22, day), (25, 0), (28, N19), (48, (sg.1 48)), (49, (sg.1 49))] [(23, f19), (24, r19), (26, fA19), (27, rA19)]) (ovr_addF _ _ _ 49) ?_
    refine mw_tov (b := ovr (ovr sg [(0, askT (sg.1 1) fr to day mi), (22, day), (25, 0), (28, N19)] [(23, f19), (24, r19), (26, fA19), (27, rA19)]) [(48, (sg.1 48)), (49, (sg.1 49))] []) (ovr_ovr sg [(0, (askT (sg.1 1) fr to day mi)), (22, day), (25, 0), (28, N19)] [(48, (sg.1 48)), (49, (sg.1 49))] [(23, f19), (24, r19), (26, fA19), (27, rA19)] []).symm ?_
    refine j_iload dX2_choice_23 rfl ?_
    refine j_iconst dX2_choice_25 ?_
    refine m_aload_n dX2_choice_26 rfl ?_
    refine j_iload_n dX2_choice_27 rfl ?_
    refine j_iload dX2_choice_28 rfl ?_
    refine t_inv [(vi to), (vi ix)] dX2_choice_30 q3506 q3508 qs107 q3509 rfl (c_choicesOf K 1 h m (ovr sg [(0, askT (sg.1 1) fr to day mi), (22, day), (25, 0), (28, N19)] [(23, f19), (24, r19), (26, fA19), (27, rA19)]) _ _ _ _ (by omega) hTB ⟨by omega, by omega⟩ ⟨by omega, by omega⟩ f48' f49') pdX2_choicesOf ⟨Nat.le_of_ble_eq_true rfl, by decide, by omega⟩ (kk_z fun r30 h30 q30 => ?_) kx_z
    obtain ⟨q, w, rfl, g1, g2, g3, g4⟩ := q30
    have hmb := chM_b (rowA (ovr sg [(0, askT (sg.1 1) fr to day mi), (22, day), (25, 0), (28, N19)] [(23, f19), (24, r19), (26, fA19), (27, rA19)]) to) (N19).toNat
    have g3' : r30 = chM (rowA (ovr sg [(0, askT (sg.1 1) fr to day mi), (22, day), (25, 0), (28, N19)] [(23, f19), (24, r19), (26, fA19), (27, rA19)]) to) (N19).toNat := g3
    refine j_iconst dX2_choice_33 ?_
    refine j_isub dX2_choice_34 ?_
    refine m_invS [(vi ix), (vi 0), (vi (r30 - 1))] dX2_choice_35 q3253 q3254 q133 q3255 (c_isIn K 0 _ _ _ _ ⟨by omega, by omega⟩ ⟨by omega, by omega⟩ ⟨by omega, by omega⟩) pdX2_isIn ⟨Nat.le_of_ble_eq_true rfl, by decide, by omega⟩ (kk_z fun r35 h35 q35 => ?_) kx_z
    obtain ⟨rfl, rfl⟩ := q35
    refine mw_top (x' := bz (0 ≤ ix ∧ ix ≤ (r30 - 1))) rfl ?_
    refine j_bz_ne 45 dX2_choice_38 (by decide) (fun c38 => ?_) (fun c38 => ?_)
    · refine j_iconst dX2_choice_45 ?_
      refine j_iconst dX2_choice_46 ?_
      refine t_inv [(vi 0), (vi 3)] dX2_choice_47 q3256 q3258 qs76 q3259 rfl (c_isThrown0 K 0 h m _ _) pdX2_isThrown ⟨Nat.le_of_ble_eq_true rfl, by decide, by omega⟩ (kk_z fun r47 h47 q47 => ?_) kx_z
      obtain ⟨rfl, rfl⟩ := q47
      refine mw_tov (b := ovr (ovr sg [(0, askT (sg.1 1) fr to day mi), (22, day), (25, 0), (28, N19)] [(23, f19), (24, r19), (26, fA19), (27, rA19)]) [(0, 0), (48, q), (49, w)] []) (ovr_ovr _ _ _ _ _) ?_
      refine j_if_eq 57 dX2_choice_50 (by decide) ⟨by decide, by decide⟩ (fun _ => ?_) (fun c => absurd c (by decide))
      refine j_sipush dX2_choice_57 (by decide) ?_
      refine m_aload_n dX2_choice_60 rfl ?_
      refine t_geti 48 (by decide) q dX2_choice_61 q3141 rfl ?_
      refine j_imul dX2_choice_64 ?_
      refine m_aload_n dX2_choice_65 rfl ?_
      refine t_geti 49 (by decide) w dX2_choice_66 q3142 rfl ?_
      refine j_iadd dX2_choice_69 ?_
      subst hQ; exact j_iret dX2_choice_70 rfl (⟨_, rfl, (Scr.ovr sg rfl rfl).trans (Scr.ovr _ rfl rfl), hTB.ovr (fa1 (mf0 (v := 0) ⟨by decide, by decide⟩) (fa1 (mf48 (v := q) g1) (fa1 (mf49 (v := w) g2) fa0))) fa0, Or.inr ⟨e0, N19, rowA (ovr sg [(0, askT (sg.1 1) fr to day mi), (22, day), (25, 0), (28, N19)] [(23, f19), (24, r19), (26, fA19), (27, rA19)]) to, chR_of (sg1 := ovr sg [(0, askT (sg.1 1) fr to day mi)] []) rfl rfl (by show sg.1 1 ≤ 12; omega) ⟨by omega, by show to < sg.1 1; omega⟩ n19 u19 t19, by first | exact Or.inl ⟨by omega, rfl⟩ | exact Or.inr ⟨by omega, rfl, q, w, g4.resolve_right (fun h9 => chM_hit _ N19 (ix := ix) (by omega) (by omega) h9), rfl⟩⟩⟩)
    · refine j_iconst dX2_choice_41 ?_
      refine m_goto 46 dX2_choice_42 (by decide) ?_
      refine j_iconst dX2_choice_46 ?_
      refine t_inv [(vi 1), (vi 3)] dX2_choice_47 q3256 q3258 qs76 q3259 rfl (c_isThrown1 K 0 h m _ _) pdX2_isThrown ⟨Nat.le_of_ble_eq_true rfl, by decide, by omega⟩ (kk_z fun r47 h47 q47 => ?_) kx_z
      obtain ⟨rfl, rfl⟩ := q47
      refine mw_tov (b := ovr (ovr sg [(0, askT (sg.1 1) fr to day mi), (22, day), (25, 0), (28, N19)] [(23, f19), (24, r19), (26, fA19), (27, rA19)]) [(0, 3), (48, q), (49, w)] []) (ovr_ovr _ _ _ _ _) ?_
      refine j_if_eq 57 dX2_choice_50 (by decide) ⟨by decide, by decide⟩ (fun c => absurd c (by decide)) (fun _ => ?_)
      refine j_iconst dX2_choice_53 ?_
      refine m_goto 70 dX2_choice_54 (by decide) ?_
      subst hQ; exact j_iret dX2_choice_70 rfl (⟨_, rfl, (Scr.ovr sg rfl rfl).trans (Scr.ovr _ rfl rfl), hTB.ovr (fa1 (mf0 (v := 3) ⟨by decide, by decide⟩) (fa1 (mf48 (v := q) g1) (fa1 (mf49 (v := w) g2) fa0))) fa0, Or.inr ⟨e0, N19, rowA (ovr sg [(0, askT (sg.1 1) fr to day mi), (22, day), (25, 0), (28, N19)] [(23, f19), (24, r19), (26, fA19), (27, rA19)]) to, chR_of (sg1 := ovr sg [(0, askT (sg.1 1) fr to day mi)] []) rfl rfl (by show sg.1 1 ≤ 12; omega) ⟨by omega, by show to < sg.1 1; omega⟩ n19 u19 t19, by first | exact Or.inl ⟨by omega, rfl⟩ | exact Or.inr ⟨by omega, rfl, q, w, g4.resolve_right (fun h9 => chM_hit _ N19 (ix := ix) (by omega) (by omega) h9), rfl⟩⟩⟩)
  · refine j_iconst dX2_choice_12 ?_
    subst hQ; exact j_iret dX2_choice_13 rfl (⟨_, rfl, Scr.ovr sg rfl rfl, hT.ovr (fa1 (mf0 (v := askT (sg.1 1) fr to day mi) hB) fa0) fa0, Or.inl ⟨by omega, rfl⟩⟩)
