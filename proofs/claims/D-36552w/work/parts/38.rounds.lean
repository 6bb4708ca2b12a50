/-! the twin: rounds of one ride more each -/
def kpR (g : Int → Int) (o n : Int) (f : Int → Int) : Int → Int := fun q => if o ≤ q ∧ q < o + n then f (q - o) else g q
theorem kpR_0 {g f : Int → Int} {o : Int} : g = kpR g o 0 f := by funext q; unfold kpR; rw [if_neg (by omega)]
theorem kpR_s {g f : Int → Int} {o k : Int} (hk : 0 ≤ k) : upz (kpR g o k f) (o + k) (f k) = kpR g o (k + 1) f := by
  funext q; unfold upz kpR
  by_cases e : q = o + k
  · rw [if_pos e, if_pos (by omega), show q - o = k by omega]
  · rw [if_neg e]
    by_cases h2 : o ≤ q ∧ q < o + k
    · rw [if_pos h2, if_pos (by omega)]
    · rw [if_neg h2, if_neg (by omega)]
theorem ok26_kp {g f : Int → Int} {o : Int} (hg : okA 26 g) (hf : okA 23 f) : okA 26 (kpR g o 12 f) := by
  intro q h0 h1
  unfold kpR
  split
  · exact hf (q - o) (by omega) (by show q - o < 12; omega)
  · exact hg q h0 h1
theorem ok27_kp {g f : Int → Int} {o : Int} (hg : okA 27 g) (hf : okA 24 f) : okA 27 (kpR g o 12 f) := by
  intro q h0 h1
  unfold kpR
  split
  · exact hf (q - o) (by omega) (by show q - o < 12; omega)
  · exact hg q h0 h1
theorem c_keepRound (K : KT) (d : Nat) (h : MH) (m : Nat) (sg : TS)  (hd : 0 ≤ d) (hT : TB sg)  (hr : sg.1 28 < 74) : Mt K yiX2_keepRound d [.ref m] (tov K h m sg) (Rv fun h' => h' = tov K h m (ovr sg [(28, sg.1 28 + 1)] [(26, kpR (sg.2 26) (12 * sg.1 28) 12 (sg.2 23)), (27, kpR (sg.2 27) (12 * sg.1 28) 12 (sg.2 24))])) := by
  have f28' := of28 (hT.1 28)
  refine mt_ofQ (by decide) (Nat.le_of_ble_eq_true rfl) (fun Q hQ => ?_)
  show MW K yiX2_keepRound d (tov K h m (ovr sg [] [])) 0 [some (.ref m), none] [] Q
  have f28 := of28 (hT.1 28)
  refine j_iconst dX2_keepRound_0 ?_
  refine j_istore_n [some (.ref m), some (vi 0)] dX2_keepRound_1 (by decide) rfl rfl ?_
  have L2 : ∀ (N : Nat) (k : Int) (g1 g2 : Int → Int), (12 - k).toNat = N → (0 ≤ k ∧ k ≤ 12) → (g1 = kpR (sg.2 26) (12 * sg.1 28) k (sg.2 23)) → (g2 = kpR (sg.2 27) (12 * sg.1 28) k (sg.2 24)) → MW K yiX2_keepRound d (tov K h m (ovr sg [] [(26, g1), (27, g2)])) 2 [some (.ref m), some (vi k)] [] Q := by
    intro N
    induction N using Nat.strongRecOn with
    | _ N ih2 =>
    intro k g1 g2 hN2 hk h1 h2
    refine j_iload_n dX2_keepRound_2 rfl ?_
    refine j_bipush dX2_keepRound_3 (by decide) ?_
    refine j_icmp_ge 54 dX2_keepRound_5 (by decide) ⟨⟨by omega, by omega⟩, ⟨by omega, by omega⟩⟩ (fun c5 => ?_) (fun c5 => ?_)
    · refine m_aload_n dX2_keepRound_54 rfl ?_
      refine m_dup dX2_keepRound_55 rfl ?_
      refine t_geti 28 (by decide) (sg.1 28) dX2_keepRound_56 q3121 rfl ?_
      refine j_iconst dX2_keepRound_59 ?_
      refine j_iadd dX2_keepRound_60 ?_
      refine t_puti 28 (by decide) [(28, ((sg.1 28) + 1))] dX2_keepRound_61 q3121 rfl rfl rfl rfl ?_
      subst hQ; exact j_vret dX2_keepRound_64 rfl (by rw [h1, h2, show k = 12 by omega])
    · refine m_aload_n dX2_keepRound_8 rfl ?_
      refine t_geta 26 17 (by decide) dX2_keepRound_9 q3119 rfl ?_
      refine j_bipush dX2_keepRound_12 (by decide) ?_
      refine m_aload_n dX2_keepRound_14 rfl ?_
      refine t_geti 28 (by decide) (sg.1 28) dX2_keepRound_15 q3121 rfl ?_
      refine j_imul dX2_keepRound_18 ?_
      refine j_iload_n dX2_keepRound_19 rfl ?_
      refine j_iadd dX2_keepRound_20 ?_
      refine m_aload_n dX2_keepRound_21 rfl ?_
      refine t_geta 23 15 (by decide) dX2_keepRound_22 q3116 rfl ?_
      refine j_iload_n dX2_keepRound_25 rfl ?_
      refine t_aldB 15 (by decide) (n := 12) (sg.2 23) dX2_keepRound_26 rfl (Nat.le_of_ble_eq_true rfl) (oa23 (hT.2 23)) ⟨by omega, by omega⟩ (fun b26 => ?_)
      refine t_ast 17 (by decide) (n := 888) g1 [(26, (upz g1 ((12 * (sg.1 28)) + k) ((sg.2 23) k))), (27, g2)] dX2_keepRound_27 rfl (Nat.le_of_ble_eq_true rfl) ⟨by omega, by omega⟩ rfl rfl ?_
      refine m_aload_n dX2_keepRound_28 rfl ?_
      refine t_geta 27 18 (by decide) dX2_keepRound_29 q3120 rfl ?_
      refine j_bipush dX2_keepRound_32 (by decide) ?_
      refine m_aload_n dX2_keepRound_34 rfl ?_
      refine t_geti 28 (by decide) (sg.1 28) dX2_keepRound_35 q3121 rfl ?_
      refine j_imul dX2_keepRound_38 ?_
      refine j_iload_n dX2_keepRound_39 rfl ?_
      refine j_iadd dX2_keepRound_40 ?_
      refine m_aload_n dX2_keepRound_41 rfl ?_
      refine t_geta 24 16 (by decide) dX2_keepRound_42 q3117 rfl ?_
      refine j_iload_n dX2_keepRound_45 rfl ?_
      refine t_aldB 16 (by decide) (n := 12) (sg.2 24) dX2_keepRound_46 rfl (Nat.le_of_ble_eq_true rfl) (oa24 (hT.2 24)) ⟨by omega, by omega⟩ (fun b46 => ?_)
      refine t_ast 18 (by decide) (n := 888) g2 [(26, (upz g1 ((12 * (sg.1 28)) + k) ((sg.2 23) k))), (27, (upz g2 ((12 * (sg.1 28)) + k) ((sg.2 24) k)))] dX2_keepRound_47 rfl (Nat.le_of_ble_eq_true rfl) ⟨by omega, by omega⟩ rfl rfl ?_
      refine j_iinc [some (.ref m), some (vi (k + 1))] dX2_keepRound_48 rfl (by decide) rfl rfl ?_
      refine m_goto 2 dX2_keepRound_51 (by decide) ?_
      exact ih2 _ (by omega) _ _ _ rfl (by omega) (by rw [h1]; exact kpR_s hk.1) (by rw [h2]; exact kpR_s hk.1)
  refine mw_tov (b := ovr sg [] [(26, (sg.2 26))]) (ovr_addA _ _ _ 26) ?_
  refine mw_tov (b := ovr sg [] [(26, (sg.2 26)), (27, (sg.2 27))]) (ovr_addA _ _ _ 27) ?_
  exact L2 _ _ _ _ rfl (by omega) kpR_0 kpR_0
theorem c_getsOnBy (K : KT) (d : Nat) (h : MH) (m : Nat) (sg : TS) (rd : Int) (s : Int) (t : Int) (hd : 0 ≤ d) (hT : TB sg) (i_rd : In rd) (i_s : In s) (i_t : In t) (hr : 0 ≤ rd ∧ rd < 74) (hs : 0 ≤ s ∧ s < 12) (ht : -1500 ≤ t ∧ t ≤ 5000) : Mt K yiX2_getsOnBy d [.ref m, vi rd, vi s, vi t] (tov K h m sg) (Rz fun v h' => h' = tov K h m sg ∧ v = bz (0 ≤ t ∧ (sg.2 26 (12 * rd + s) ≤ t ∨ sg.2 27 (12 * rd + s) + sg.2 2 s ≤ t))) := by
  have := i_rd.1; have := i_rd.2; have := i_s.1; have := i_s.2; have := i_t.1; have := i_t.2
  refine mt_ofQ (by decide) (Nat.le_of_ble_eq_true rfl) (fun Q hQ => ?_)
  show MW K yiX2_getsOnBy d (tov K h m (ovr sg [] [])) 0 [some (.ref m), some (vi rd), some (vi s), some (vi t)] [] Q
  refine j_iload_n dX2_getsOnBy_0 rfl ?_
  refine j_if_lt 45 dX2_getsOnBy_1 (by decide) ⟨by omega, by omega⟩ (fun c1 => ?_) (fun c1 => ?_)
  · refine j_iconst dX2_getsOnBy_45 ?_
    subst hQ; exact j_zret dX2_getsOnBy_46 rfl (by omega) (⟨rfl, by first | exact bz_t (by omega) | exact bz_f (by omega)⟩)
  · refine m_aload_n dX2_getsOnBy_4 rfl ?_
    refine t_geta 26 17 (by decide) dX2_getsOnBy_5 q3119 rfl ?_
    refine j_bipush dX2_getsOnBy_8 (by decide) ?_
    refine j_iload_n dX2_getsOnBy_10 rfl ?_
    refine j_imul dX2_getsOnBy_11 ?_
    refine j_iload_n dX2_getsOnBy_12 rfl ?_
    refine j_iadd dX2_getsOnBy_13 ?_
    refine t_aldB 17 (by decide) (n := 888) (sg.2 26) dX2_getsOnBy_14 rfl (Nat.le_of_ble_eq_true rfl) (oa26 (hT.2 26)) ⟨by omega, by omega⟩ (fun b14 => ?_)
    refine j_iload_n dX2_getsOnBy_15 rfl ?_
    refine j_icmp_le 41 dX2_getsOnBy_16 (by decide) ⟨⟨by omega, by omega⟩, ⟨by omega, by omega⟩⟩ (fun c16 => ?_) (fun c16 => ?_)
    · refine j_iconst dX2_getsOnBy_41 ?_
      refine m_goto 46 dX2_getsOnBy_42 (by decide) ?_
      subst hQ; exact j_zret dX2_getsOnBy_46 rfl (by omega) (⟨rfl, by first | exact bz_t (by omega) | exact bz_f (by omega)⟩)
    · refine m_aload_n dX2_getsOnBy_19 rfl ?_
      refine t_geta 27 18 (by decide) dX2_getsOnBy_20 q3120 rfl ?_
      refine j_bipush dX2_getsOnBy_23 (by decide) ?_
      refine j_iload_n dX2_getsOnBy_25 rfl ?_
      refine j_imul dX2_getsOnBy_26 ?_
      refine j_iload_n dX2_getsOnBy_27 rfl ?_
      refine j_iadd dX2_getsOnBy_28 ?_
      refine t_aldB 18 (by decide) (n := 888) (sg.2 27) dX2_getsOnBy_29 rfl (Nat.le_of_ble_eq_true rfl) (oa27 (hT.2 27)) ⟨by omega, by omega⟩ (fun b29 => ?_)
      refine m_aload_n dX2_getsOnBy_30 rfl ?_
      refine t_geta 2 1 (by decide) dX2_getsOnBy_31 q3095 rfl ?_
      refine j_iload_n dX2_getsOnBy_34 rfl ?_
      refine t_aldB 1 (by decide) (n := 12) (sg.2 2) dX2_getsOnBy_35 rfl (Nat.le_of_ble_eq_true rfl) (oa2 (hT.2 2)) ⟨by omega, by omega⟩ (fun b35 => ?_)
      refine j_iadd dX2_getsOnBy_36 ?_
      refine j_iload_n dX2_getsOnBy_37 rfl ?_
      refine j_icmp_gt 45 dX2_getsOnBy_38 (by decide) ⟨⟨by omega, by omega⟩, ⟨by omega, by omega⟩⟩ (fun c38 => ?_) (fun c38 => ?_)
      · refine j_iconst dX2_getsOnBy_45 ?_
        subst hQ; exact j_zret dX2_getsOnBy_46 rfl (by omega) (⟨rfl, by first | exact bz_t (by omega) | exact bz_f (by omega)⟩)
      · refine j_iconst dX2_getsOnBy_41 ?_
        refine m_goto 46 dX2_getsOnBy_42 (by decide) ?_
        subst hQ; exact j_zret dX2_getsOnBy_46 rfl (by omega) (⟨rfl, by first | exact bz_t (by omega) | exact bz_f (by omega)⟩)
theorem c_atBy (K : KT) (d : Nat) (h : MH) (m : Nat) (sg : TS) (rd : Int) (s : Int) (hd : 0 ≤ d) (hT : TB sg) (i_rd : In rd) (i_s : In s) (hr : 0 ≤ rd ∧ rd < 74) (hs : 0 ≤ s ∧ s < 12) : Mt K yiX2_atBy d [.ref m, vi rd, vi s] (tov K h m sg) (Rz fun v h' => h' = tov K h m sg ∧ v = (if sg.2 26 (12 * rd + s) < sg.2 27 (12 * rd + s) then sg.2 26 (12 * rd + s) else sg.2 27 (12 * rd + s))) := by
  have := i_rd.1; have := i_rd.2; have := i_s.1; have := i_s.2
  refine mt_ofQ (by decide) (Nat.le_of_ble_eq_true rfl) (fun Q hQ => ?_)
  show MW K yiX2_atBy d (tov K h m (ovr sg [] [])) 0 [some (.ref m), some (vi rd), some (vi s), none, none] [] Q
  refine m_aload_n dX2_atBy_0 rfl ?_
  refine t_geta 26 17 (by decide) dX2_atBy_1 q3119 rfl ?_
  refine j_bipush dX2_atBy_4 (by decide) ?_
  refine j_iload_n dX2_atBy_6 rfl ?_
  refine j_imul dX2_atBy_7 ?_
  refine j_iload_n dX2_atBy_8 rfl ?_
  refine j_iadd dX2_atBy_9 ?_
  refine t_aldB 17 (by decide) (n := 888) (sg.2 26) dX2_atBy_10 rfl (Nat.le_of_ble_eq_true rfl) (oa26 (hT.2 26)) ⟨by omega, by omega⟩ (fun b10 => ?_)
  refine j_istore_n [some (.ref m), some (vi rd), some (vi s), some (vi ((sg.2 26) ((12 * rd) + s))), none] dX2_atBy_11 (by decide) rfl rfl ?_
  refine m_aload_n dX2_atBy_12 rfl ?_
  refine t_geta 27 18 (by decide) dX2_atBy_13 q3120 rfl ?_
  refine j_bipush dX2_atBy_16 (by decide) ?_
  refine j_iload_n dX2_atBy_18 rfl ?_
  refine j_imul dX2_atBy_19 ?_
  refine j_iload_n dX2_atBy_20 rfl ?_
  refine j_iadd dX2_atBy_21 ?_
  refine t_aldB 18 (by decide) (n := 888) (sg.2 27) dX2_atBy_22 rfl (Nat.le_of_ble_eq_true rfl) (oa27 (hT.2 27)) ⟨by omega, by omega⟩ (fun b22 => ?_)
  refine j_istore [some (.ref m), some (vi rd), some (vi s), some (vi ((sg.2 26) ((12 * rd) + s))), some (vi ((sg.2 27) ((12 * rd) + s)))] dX2_atBy_23 (by decide) rfl rfl ?_
  refine j_iload_n dX2_atBy_25 rfl ?_
  refine j_iload dX2_atBy_26 rfl ?_
  refine j_icmp_ge 35 dX2_atBy_28 (by decide) ⟨⟨by omega, by omega⟩, ⟨by omega, by omega⟩⟩ (fun c28 => ?_) (fun c28 => ?_)
  · refine j_iload dX2_atBy_35 rfl ?_
    subst hQ; exact j_iret dX2_atBy_37 rfl (⟨rfl, by first | rw [if_pos (by omega)] | rw [if_neg (by omega)]⟩)
  · refine j_iload_n dX2_atBy_31 rfl ?_
    refine m_goto 37 dX2_atBy_32 (by decide) ?_
    subst hQ; exact j_iret dX2_atBy_37 rfl (⟨rfl, by first | rw [if_pos (by omega)] | rw [if_neg (by omega)]⟩)
/-! sums -/
def smN (g : Nat → Nat) : Nat → Nat
  | 0 => 0
  | k + 1 => smN g k + g k
theorem smN_le {g g' : Nat → Nat} {n : Nat} (h : ∀ k, k < n → g k ≤ g' k) : smN g n ≤ smN g' n := by
  induction n with
  | zero => exact Nat.le_refl _
  | succ n ih => unfold smN; have := ih (fun k hk => h k (by omega)); have := h n (by omega); omega
theorem smN_lt {g g' : Nat → Nat} {n j : Nat} (h : ∀ k, k < n → g k ≤ g' k) (hj : j < n) (hl : g j < g' j) : smN g n < smN g' n := by
  induction n with
  | zero => omega
  | succ n ih =>
    unfold smN
    have h1 := h n (by omega)
    by_cases e : j = n
    · subst e; have := smN_le (n := j) (fun k hk => h k (by omega)); omega
    · have := ih (fun k hk => h k (by omega)) (by omega); omega
theorem smN_add {g : Nat → Nat} (a b : Nat) : smN g (a + b) = smN g a + smN (fun k => g (a + k)) b := by
  induction b with
  | zero => rfl
  | succ b ih => show smN g (a + b) + g (a + b) = _; rw [ih]; show _ = smN g a + (smN _ b + g (a + b)); omega
def clS (sg : TS) : Nat := smN (fun t => if (t : Int) < sg.1 8 then (sg.2 10 (t : Int) - 1).toNat else 0) 24
/-- boardable by labels -/
abbrev bdB (sg : TS) (fp rp : Int → Int) (j c : Int) : Prop := 0 ≤ lvI sg j c ∧ (fp (stI sg j c) ≤ lvI sg j c ∨ rp (stI sg j c) + sg.2 2 (stI sg j c) ≤ lvI sg j c)
/-- the first boardable call -/
def fbc (sg : TS) (fp rp : Int → Int) (j : Int) : Nat → Nat
  | 0 => 0
  | m + 1 => if fbc sg fp rp j m < m then fbc sg fp rp j m else if bdB sg fp rp j (m : Int) then m else m + 1
theorem fbc_le (sg : TS) (fp rp : Int → Int) (j : Int) (m : Nat) : fbc sg fp rp j m ≤ m ∧ (∀ c, c < fbc sg fp rp j m → ¬ bdB sg fp rp j (c : Int)) ∧ (fbc sg fp rp j m < m → bdB sg fp rp j (fbc sg fp rp j m : Int)) := by
  induction m with
  | zero => exact ⟨Nat.le_refl _, fun c h => absurd h (by unfold fbc; omega), fun h => absurd h (by omega)⟩
  | succ m ih =>
    obtain ⟨h1, h2, h3⟩ := ih
    unfold fbc
    by_cases e : fbc sg fp rp j m < m
    · rw [if_pos e]; exact ⟨by omega, h2, fun _ => h3 e⟩
    · rw [if_neg e]
      have e1 : fbc sg fp rp j m = m := by omega
      by_cases e2 : bdB sg fp rp j (m : Int)
      · rw [if_pos e2]; exact ⟨by omega, fun c hc => h2 c (by omega), fun _ => e2⟩
      · rw [if_neg e2]
        refine ⟨by omega, fun c hc => ?_, fun h => absurd h (by omega)⟩
        by_cases e3 : c = m
        · rw [e3]; exact e2
        · exact h2 c (by omega)
def pot (sg : TS) (fp rp : Int → Int) : Nat := smN (fun j => if isRunP sg (j : Int) then fbc sg fp rp (j : Int) (sg.2 10 ((j : Int) % 24) - 1).toNat else 0) 72
theorem smN_3 {g w : Nat → Nat} (h : ∀ i k, i < 3 → k < 24 → g (24 * i + k) ≤ w k) : smN g 72 ≤ 3 * smN w 24 := by
  have a2 := smN_add (g := g) 48 24
  have a1 := smN_add (g := g) 24 24
  have a0 := smN_add (g := g) 0 24
  have z : smN g 0 = 0 := rfl
  have b0 : smN (fun k => g (0 + k)) 24 ≤ smN w 24 := smN_le (fun k hk => by have := h 0 k (by omega) hk; simpa using this)
  have b1 : smN (fun k => g (24 + k)) 24 ≤ smN w 24 := smN_le (fun k hk => by have := h 1 k (by omega) hk; simpa using this)
  have b2 : smN (fun k => g (48 + k)) 24 ≤ smN w 24 := smN_le (fun k hk => by have := h 2 k (by omega) hk; simpa using this)
  have e2 : smN g 72 = smN g 48 + smN (fun k => g (48 + k)) 24 := a2
  have e1 : smN g 48 = smN g 24 + smN (fun k => g (24 + k)) 24 := a1
  have e0 : smN g 24 = smN g 0 + smN (fun k => g (0 + k)) 24 := a0
  omega
theorem pot_b (sg : TS) (fp rp : Int → Int) : pot sg fp rp ≤ 3 * clS sg := by
  refine smN_3 (fun i k hi hk => ?_)
  have e2 : ((24 * i + k : Nat) : Int) % 24 = (k : Int) := by omega
  by_cases h1 : isRunP sg ((24 * i + k : Nat) : Int)
  · rw [if_pos h1, e2]
    have h2 := h1.1
    rw [e2] at h2
    rw [if_pos h2]
    exact (fbc_le sg fp rp _ _).1
  · rw [if_neg h1]; exact Nat.zero_le _
/-- closure of labels under boarding by others, up to a call -/
def RnC (sg : TS) (fp rp r : Int → Int) (j m : Int) : Prop := ∀ c' c, 0 ≤ c' → c' < c → c < m → bdB sg fp rp j c' → r (stI sg j c) ≤ cmI sg j c
/-- a boarding that brings something new -/
def wit (sg : TS) (fp rp : Int → Int) : Prop := ∃ j c' c, okR sg j ∧ 0 ≤ c' ∧ c' < c ∧ c < sg.2 10 (j % 24) ∧ bdB sg fp rp j c' ∧ cmI sg j c < rp (stI sg j c)
theorem pot_lt {sg : TS} {fo ro fp rp : Int → Int} (hT : TB sg) (hm : ∀ j c, okR sg j → 0 ≤ c → c < sg.2 10 (j % 24) → bdB sg fo ro j c → bdB sg fp rp j c) (hc : ∀ j, okR sg j → RnC sg fo ro rp j (sg.2 10 (j % 24))) (hw : wit sg fp rp) : pot sg fp rp < pot sg fo ro := by
  obtain ⟨j, c', c, h1, h2, h3, h4, h5, h6⟩ := hw
  have hle : ∀ k : Nat, k < 72 → (if isRunP sg (k : Int) then fbc sg fp rp (k : Int) (sg.2 10 ((k : Int) % 24) - 1).toNat else 0) ≤ (if isRunP sg (k : Int) then fbc sg fo ro (k : Int) (sg.2 10 ((k : Int) % 24) - 1).toNat else 0) := by
    intro k hk
    by_cases e : isRunP sg (k : Int)
    · rw [if_pos e, if_pos e]
      have a := fbc_le sg fp rp (k : Int) (sg.2 10 ((k : Int) % 24) - 1).toNat
      have b := fbc_le sg fo ro (k : Int) (sg.2 10 ((k : Int) % 24) - 1).toNat
      apply Nat.le_of_not_lt
      intro hlt
      exact a.2.1 _ hlt (hm _ _ ⟨by omega, by omega, e⟩ (by omega) (by omega) (b.2.2 (by omega)))
    · rw [if_neg e, if_neg e]; exact Nat.le_refl _
  refine smN_lt (j := j.toNat) hle (by have := h1.1; have := h1.2.1; omega) ?_
  have ej : ((j.toNat : Nat) : Int) = j := by have := h1.1; omega
  rw [ej, if_pos h1.2.2, if_pos h1.2.2]
  have a := fbc_le sg fp rp j (sg.2 10 (j % 24) - 1).toNat
  have b := fbc_le sg fo ro j (sg.2 10 (j % 24) - 1).toNat
  have ha : fbc sg fp rp j (sg.2 10 (j % 24) - 1).toNat ≤ c'.toNat := by
    apply Nat.le_of_not_lt
    intro hlt
    have := a.2.1 _ hlt
    rw [show ((c'.toNat : Nat) : Int) = c' by omega] at this
    exact this h5
  have hb : c.toNat ≤ fbc sg fo ro j (sg.2 10 (j % 24) - 1).toNat := by
    apply Nat.le_of_not_lt
    intro hlt
    have h7 := b.2.2 (by omega)
    have h8 := hc j h1 _ c (by omega) (by omega) h4 h7
    omega
  omega
def same (f g : Int → Int) : Prop := ∀ v, 0 ≤ v → v < 12 → f v = g v
def rwF (fA : Int → Int) (k : Int) : Int → Int := fun v => fA (12 * k + v)
/-- a round under way: labels between those with n rides and those with one more -/
def RnQ (sg : TS) (b : Int → Int) (n : Nat) (fp rp : Int → Int) (x : Int) (f r : Int → Int) : Prop := okA 23 f ∧ okA 24 r ∧ (Dich f ∧ Dich r) ∧ (∃ E, EvLe E (EvN sg b BG (n + 1)) ∧ Lab sg b BG E f r) ∧ ((x = 0 ∧ same f fp ∧ same r rp) ∨ (x = 1 ∧ wit sg fp rp))
theorem RnQ.off {sg : TS} {b : Int → Int} {n : Nat} {fp rp : Int → Int} {x : Int} {f r : Int → Int} (h : RnQ sg b n fp rp x f r) (hrow : Lab sg b BG (EvN sg b BG n) fp rp) (hF : WF sg) (hcut : sg.1 5 = -1) {j c' c : Int} (hj : okR sg j) (h0 : 0 ≤ c') (h1 : c' < c) (h2 : c < sg.2 10 (j % 24)) (hb : bdB sg fp rp j c') {x2 : Int} {f2 r2 : Int → Int} (hq : okA 23 f2 ∧ okA 24 r2 ∧ ((x2 = x ∧ f2 = f ∧ r2 = r ∧ (stI sg j c = sg.1 5 ∨ r (stI sg j c) ≤ cmI sg j c)) ∨ (x2 = 1 ∧ f2 = gofF sg f (stI sg j c) (cmI sg j c) ∧ r2 = upz r (stI sg j c) (cmI sg j c) ∧ stI sg j c ≠ sg.1 5 ∧ cmI sg j c < r (stI sg j c)))) : RnQ sg b n fp rp x2 f2 r2 ∧ r2 (stI sg j c) ≤ cmI sg j c ∧ ∀ v, r2 v ≤ r v := by
  obtain ⟨hT, hS, hM, hW⟩ := hF
  have hs := hS.run hj (c := c) ⟨by omega, h2⟩
  have hs' := hS.run hj (c := c') ⟨h0, by omega⟩
  have hn := oa10 (hT.2 10) (j % 24) (by have := hj.1; omega) (by have := hj.2.1; omega)
  have b1 := cmI_b hT (r := j) (c := c) ⟨hj.1, hj.2.1⟩ ⟨by omega, by omega⟩
  have b2 := lvI_b hT (r := j) (c := c') ⟨hj.1, hj.2.1⟩ ⟨by omega, by omega⟩
  have hn1 := of1 (hT.1 1)
  have hlc := hM.lc hT hj h0 h1 h2
  have hch := oa2 (hT.2 2) (stI sg j c') (by omega) (by omega)
  obtain ⟨q1, q2, q3⟩ := hq
  obtain ⟨-, -, ⟨d1, d2⟩, ⟨E, hE, hL⟩, hx⟩ := h
  rcases q3 with ⟨rfl, rfl, rfl, h9⟩ | ⟨rfl, rfl, rfl, h9, h10⟩
  · refine ⟨⟨q1, q2, ⟨d1, d2⟩, ⟨E, hE, hL⟩, hx⟩, ?_, fun v => Int.le_refl _⟩
    rcases h9 with h9 | h9
    · omega
    · exact h9
  · have hev : EvN sg b BG (n + 1) (stI sg j c) (cmI sg j c) := ⟨j, c, c', hj, h0, h1, h2, rfl, rfl, h9, by omega, hb.1, (hrow.gon hs' (by omega) hch).mp hb.2⟩
    refine ⟨⟨q1, q2, ⟨fun v a1 a2 => ?_, fun v a1 a2 => ?_⟩, ⟨evAdd E (stI sg j c) (cmI sg j c), ?_, hL.add hs h10⟩, Or.inr ⟨rfl, ?_⟩⟩, ?_, fun v => ?_⟩
    · have e1 := d1 v a1 a2
      have e2 := hW.1 (12 * stI sg j c + v) (by omega) (by omega)
      unfold gofF
      split
      · next hc => right; omega
      · exact e1
    · have e1 := d2 v a1 a2
      unfold upz
      split
      · right; omega
      · exact e1
    · rintro s' t' (h6 | ⟨rfl, rfl⟩)
      · exact hE _ _ h6
      · exact hev
    · rcases hx with ⟨-, -, e3⟩ | ⟨-, hw⟩
      · exact ⟨j, c', c, hj, h0, h1, h2, hb, by rw [← e3 _ hs.1 (by omega)]; exact h10⟩
      · exact hw
    · unfold upz; rw [if_pos rfl]; exact Int.le_refl _
    · unfold upz; split
      · next e => rw [e]; omega
      · exact Int.le_refl _
/-- a closed round tells just one ride more -/
theorem RnQ.fin {sg : TS} {b : Int → Int} {n : Nat} {fp rp : Int → Int} {x : Int} {f r : Int → Int} (h : RnQ sg b n fp rp x f r) (hrow : Lab sg b BG (EvN sg b BG n) fp rp) (hF : WF sg) (hC : ∀ j, okR sg j → RnC sg fp rp r j (sg.2 10 (j % 24))) : Lab sg b BG (EvN sg b BG (n + 1)) f r := by
  obtain ⟨hT, hS, hM, hW⟩ := hF
  obtain ⟨-, -, -, ⟨E, hE, hL⟩, -⟩ := h
  have key : ∀ s t, EvN sg b BG (n + 1) s t → r s ≤ t ∧ (0 ≤ s ∧ s < sg.1 1) ∧ t < 890000 := by
    rintro s t ⟨k, c, c', h1, h2, h3, h4, h5, h6, h7, h8, h9, h10⟩
    have hn := oa10 (hT.2 10) (k % 24) (by have := h1.1; omega) (by have := h1.2.1; omega)
    have s1 := hS.run h1 (c := c) ⟨by omega, h4⟩
    have s2 := hS.run h1 (c := c') ⟨h2, by omega⟩
    have b1 := cmI_b hT (r := k) (c := c) ⟨h1.1, h1.2.1⟩ ⟨by omega, by omega⟩
    have b2 := lvI_b hT (r := k) (c := c') ⟨h1.1, h1.2.1⟩ ⟨by omega, by omega⟩
    have hch := oa2 (hT.2 2) (stI sg k c') (by omega) (by have := of1 (hT.1 1); omega)
    have hg := (hrow.gon s2 (by omega) hch).mpr h10
    have h11 := hC k h1 c' c h2 h3 h4 ⟨h9, hg⟩
    rw [h5, h6] at h11
    rw [h5] at s1
    rw [h6] at b1
    exact ⟨h11, s1, by omega⟩
  constructor
  · intro s t a1 a2 a3
    constructor
    · intro h1
      rcases (hL.1 s t a1 a2 a3).mp h1 with h2 | ⟨t', h2, h3⟩
      · exact Or.inl h2
      · exact Or.inr ⟨t', hE _ _ h2, h3⟩
    · rintro (h2 | ⟨t', h2, h3⟩)
      · exact (hL.1 s t a1 a2 a3).mpr (Or.inl h2)
      · have := (key s t' h2).1; omega
  · intro v t a1 a2 a3
    constructor
    · intro h1
      rcases (hL.2 v t a1 a2 a3).mp h1 with h2 | ⟨s, t', h4, h2, h3⟩
      · exact Or.inl h2
      · exact Or.inr ⟨s, t', h4, hE _ _ h2, h3⟩
    · rintro (h2 | ⟨s, t', h4, h2, h3, h5⟩)
      · exact (hL.2 v t a1 a2 a3).mpr (Or.inl h2)
      · have g4 := key s t' h2
        rcases (hL.1 _ t' g4.2.1.1 g4.2.1.2 (by omega)).mp g4.1 with g5 | ⟨t2, g5, g6⟩
        · exact absurd g5 (by show ¬ (1000000 : Int) ≤ t'; omega)
        · exact (hL.2 v t a1 a2 a3).mpr (Or.inr ⟨s, t2, h4, g5, h3, by omega⟩)
/-- labels that tell n rides and n + 1 tell all -/
theorem Lab.stab {sg : TS} {b : Int → Int} {n : Nat} {f r : Int → Int} (hF : WF sg) (h1 : Lab sg b BG (EvN sg b BG n) f r) (h2 : Lab sg b BG (EvN sg b BG (n + 1)) f r) (k : Nat) : Lab sg b BG (EvN sg b BG (n + k)) f r := by
  obtain ⟨hT, hS, hM, hW⟩ := hF
  have key : EvN sg b BG (n + 1) = EvN sg b BG (n + 1 + 1) := by
    funext s t
    apply propext
    refine ⟨fun h => EvN.mono (n + 1) s t h, ?_⟩
    rintro ⟨k, c, c', a1, a2, a3, a4, a5, a6, a7, a8, a9, a10⟩
    have hn := oa10 (hT.2 10) (k % 24) (by have := a1.1; omega) (by have := a1.2.1; omega)
    have s2 := hS.run a1 (c := c') ⟨a2, by omega⟩
    have b2 := lvI_b hT (r := k) (c := c') ⟨a1.1, a1.2.1⟩ ⟨by omega, by omega⟩
    have hch := oa2 (hT.2 2) (stI sg k c') (by omega) (by have := of1 (hT.1 1); omega)
    exact ⟨k, c, c', a1, a2, a3, a4, a5, a6, a7, a8, a9, (h1.gon s2 (by omega) hch).mp ((h2.gon s2 (by omega) hch).mpr a10)⟩
  have key2 : ∀ k, EvN sg b BG (n + 1 + k) = EvN sg b BG (n + 1) := by
    intro k
    induction k with
    | zero => rfl
    | succ k ih =>
      show AltE sg b BG (EvN sg b BG (n + 1 + k)) = _
      rw [ih]; exact key.symm
  cases k with
  | zero => exact h1
  | succ k => rw [show n + (k + 1) = n + 1 + k by omega, key2]; exact h2
theorem Lab.sm {sg : TS} {f0 r0 f r f' r' : Int → Int} {E : EV} (h : Lab sg f0 r0 E f r) (hn : sg.1 1 ≤ 12) (e1 : same f f') (e2 : same r r') : Lab sg f0 r0 E f' r' :=
  ⟨fun s t a b c => by rw [← e2 s a (by omega)]; exact h.1 s t a b c, fun s t a b c => by rw [← e1 s a (by omega)]; exact h.2 s t a b c⟩
/-- the rows of all rounds -/
def RowOk (sg : TS) (b : Int → Int) (N : Int) (fA rA : Int → Int) : Prop := ∀ k : Nat, (k : Int) < N → okA 23 (rwF fA k) ∧ okA 24 (rwF rA k) ∧ (Dich (rwF fA k) ∧ Dich (rwF rA k)) ∧ Lab sg b BG (EvN sg b BG k) (rwF fA k) (rwF rA k)
theorem rw_kp {g f : Int → Int} {N : Int} : same f (rwF (kpR g (12 * N) 12 f) N) := by
  intro v a b
  unfold rwF kpR
  rw [if_pos (by omega), show 12 * N + v - 12 * N = v by omega]
theorem rw_kp2 {g f : Int → Int} {N : Int} {k : Nat} (hk : (k : Int) < N) : same (rwF g k) (rwF (kpR g (12 * N) 12 f) k) := by
  intro v a b
  unfold rwF kpR
  rw [if_neg (by omega)]
theorem okA_sm {k : Nat} {f f' : Int → Int} (h : okA k f) (h12 : (tbA k).1 = 12) (e : same f f') : okA k f' := fun q a b => by rw [← e q a (by rw [h12] at b; exact b)]; exact h q a b
theorem Dich.sm {f f' : Int → Int} (h : Dich f) (e : same f f') : Dich f' := fun q a b => by rw [← e q a b]; exact h q a b
theorem RowOk.add {sg : TS} {b : Int → Int} {N : Int} {fA rA f r : Int → Int} (h : RowOk sg b N fA rA) (hn : sg.1 1 ≤ 12) (hN : 0 ≤ N) (o1 : okA 23 f) (o2 : okA 24 r) (hD : Dich f ∧ Dich r) (hL : Lab sg b BG (EvN sg b BG N.toNat) f r) : RowOk sg b (N + 1) (kpR fA (12 * N) 12 f) (kpR rA (12 * N) 12 r) := by
  intro k hk
  by_cases e : (k : Int) = N
  · have e2 : N.toNat = k := by omega
    rw [e2] at hL
    have q1 : same f (rwF (kpR fA (12 * N) 12 f) k) := by rw [e]; exact rw_kp
    have q2 : same r (rwF (kpR rA (12 * N) 12 r) k) := by rw [e]; exact rw_kp
    exact ⟨okA_sm o1 rfl q1, okA_sm o2 rfl q2, ⟨hD.1.sm q1, hD.2.sm q2⟩, hL.sm hn q1 q2⟩
  · obtain ⟨a1, a2, a3, a4⟩ := h k (by omega)
    have q1 := rw_kp2 (g := fA) (f := f) (N := N) (k := k) (by omega)
    have q2 := rw_kp2 (g := rA) (f := r) (N := N) (k := k) (by omega)
    exact ⟨okA_sm a1 rfl q1, okA_sm a2 rfl q2, ⟨a3.1.sm q1, a3.2.sm q2⟩, a4.sm hn q1 q2⟩
