/-! the twin: vehicles -/
def lst (f : Int → Int) (n : Nat) : List Int := (List.range n).map (fun i : Nat => f (i : Int))
theorem lst_s (f : Int → Int) (n : Nat) : lst f (n + 1) = lst f n ++ [f (n : Int)] := by
  unfold lst; rw [List.range_succ, List.map_append]; rfl
theorem lst_len (f : Int → Int) (n : Nat) : (lst f n).length = n := by unfold lst; simp
theorem lst_get {f : Int → Int} {n i : Nat} (h : i < n) : (lst f n)[i]? = some (f (i : Int)) := by
  unfold lst; simp [h]
theorem lst_cg {f g : Int → Int} {n : Nat} (h : ∀ i : Nat, i < n → f (i : Int) = g (i : Int)) : lst f n = lst g n := by
  unfold lst
  apply List.map_congr_left
  intro i hi
  exact h i (List.mem_range.mp hi)
theorem lst_add (f : Int → Int) (a b : Nat) : lst f (a + b) = lst f a ++ lst (fun i => f (a + i)) b := by
  induction b with
  | zero => simp [lst]
  | succ b ih => rw [← Nat.add_assoc, lst_s, ih, lst_s, List.append_assoc]; congr 2
theorem lst_mem {f : Int → Int} {n : Nat} {x : Int} (h : x ∈ lst f n) : ∃ i : Nat, i < n ∧ x = f (i : Int) := by
  unfold lst at h
  obtain ⟨i, h1, h2⟩ := List.mem_map.mp h
  exact ⟨i, List.mem_range.mp h1, h2.symm⟩
/-- put into a rising list, behind what isn't greater -/
def insL (t : Int) : List Int → List Int
  | [] => [t]
  | x :: r => if x ≤ t then x :: insL t r else t :: x :: r
theorem insL_app {t : Int} {A B : List Int} (hA : ∀ x ∈ A, x ≤ t) (hB : ∀ x ∈ B, t < x) : insL t (A ++ B) = A ++ t :: B := by
  induction A with
  | nil =>
    cases B with
    | nil => rfl
    | cons y r => have := hB y List.mem_cons_self; show (if y ≤ t then _ else _) = _; rw [if_neg (by omega)]; rfl
  | cons y r ih =>
    show (if y ≤ t then y :: insL t (r ++ B) else _) = _
    rw [if_pos (hA y List.mem_cons_self), ih (fun x hx => hA x (List.mem_cons_of_mem _ hx))]; rfl
theorem insL_perm (t : Int) (L : List Int) : (insL t L).Perm (L ++ [t]) := by
  induction L with
  | nil => exact List.Perm.refl _
  | cons x r ih =>
    unfold insL
    split
    · exact ih.cons x
    · show (t :: x :: r).Perm (x :: r ++ [t])
      exact (List.perm_append_singleton t (x :: r)).symm
theorem insL_mem {t x : Int} {L : List Int} (h : x ∈ insL t L) : x = t ∨ x ∈ L := by
  have := (insL_perm t L).mem_iff.mp h
  rw [List.mem_append, List.mem_singleton] at this
  exact this.symm
theorem insL_sorted {t : Int} {L : List Int} (h : L.Pairwise (· ≤ ·)) : (insL t L).Pairwise (· ≤ ·) := by
  induction L with
  | nil => exact List.pairwise_singleton _ _
  | cons x r ih =>
    rw [List.pairwise_cons] at h
    unfold insL
    split
    · next e => rw [List.pairwise_cons]; exact ⟨fun y hy => (insL_mem hy).elim (fun e2 => by omega) (h.1 y), ih h.2⟩
    · next e =>
      rw [List.pairwise_cons, List.pairwise_cons]
      refine ⟨fun y hy => ?_, h⟩
      rcases List.mem_cons.mp hy with rfl | hy
      · omega
      · have := h.1 y hy; omega
def srt (L : List Int) : List Int := L.foldl (fun a t => insL t a) []
theorem srt_s (L : List Int) (t : Int) : srt (L ++ [t]) = insL t (srt L) := by unfold srt; rw [List.foldl_append]; rfl
theorem foldl_srt (L : List Int) : ∀ a : List Int, a.Pairwise (· ≤ ·) → (L.foldl (fun a t => insL t a) a).Pairwise (· ≤ ·) ∧ (L.foldl (fun a t => insL t a) a).Perm (a ++ L) := by
  induction L with
  | nil => intro a h; exact ⟨h, by simp⟩
  | cons x r ih =>
    intro a h
    have h2 := ih (insL x a) (insL_sorted h)
    refine ⟨h2.1, h2.2.trans ?_⟩
    have := (insL_perm x a).append_right r
    rw [List.append_assoc] at this
    exact this
theorem srt_ok (L : List Int) : (srt L).Pairwise (· ≤ ·) ∧ (srt L).Perm L := by
  have := foldl_srt L [] List.Pairwise.nil
  rw [List.nil_append] at this
  exact this
/-- the array behind a put -/
def pgS (f : Int → Int) (n p : Int) (g : Int → Int) : Prop := (∀ i, i ≤ p → g i = f i) ∧ (∀ i, p < i → i ≤ n → g i = f (i - 1)) ∧ ∀ i, n < i → g i = f i
theorem pg_fin {f g : Int → Int} {n p t : Int} (h : pgS f n p g) (hp : 0 ≤ p ∧ p ≤ n) (hs : (lst f n.toNat).Pairwise (· ≤ ·)) (hlo : p = 0 ∨ f (p - 1) ≤ t) (hhi : ∀ i, p ≤ i → i < n → t < f i) : lst (upz g p t) (n + 1).toNat = insL t (lst f n.toNat) := by
  obtain ⟨h1, h2, h3⟩ := h
  have e1 : n.toNat = p.toNat + (n - p).toNat := by omega
  have e2 : (n + 1).toNat = p.toNat + (1 + (n - p).toNat) := by omega
  have ep : ((p.toNat : Nat) : Int) = p := by omega
  have hmono : ∀ i j : Nat, i < j → j < n.toNat → f (i : Int) ≤ f (j : Int) := fun i j hij hj => by
    have := List.pairwise_iff_getElem.mp hs i j (by rw [lst_len]; omega) (by rw [lst_len]; omega) hij
    have a1 : (lst f n.toNat)[i]'(by rw [lst_len]; omega) = f (i : Int) := by unfold lst; simp
    have a2 : (lst f n.toNat)[j]'(by rw [lst_len]; omega) = f (j : Int) := by unfold lst; simp
    rw [a1, a2] at this; exact this
  rw [e2, e1, lst_add, lst_add, lst_add]
  rw [insL_app]
  · congr 1
    · apply lst_cg
      intro i hi
      unfold upz
      rw [if_neg (by omega)]
      exact h1 _ (by omega)
    · show [upz g p t (((p.toNat : Nat) : Int) + ((0 : Nat) : Int))] ++ _ = t :: _
      have e3 : upz g p t (((p.toNat : Nat) : Int) + ((0 : Nat) : Int)) = t := by unfold upz; rw [if_pos (by omega)]
      rw [e3, List.singleton_append]
      congr 1
      apply lst_cg
      intro i hi
      unfold upz
      rw [if_neg (by omega), h2 _ (by omega) (by omega)]
      congr 1; omega
  · intro x hx
    obtain ⟨i, g1, g2⟩ := lst_mem hx
    rcases hlo with e | e
    · omega
    · have e4 : (((p - 1).toNat : Nat) : Int) = p - 1 := by omega
      by_cases q : i = (p - 1).toNat
      · rw [g2, q, e4]; exact e
      · have := hmono i (p - 1).toNat (by omega) (by omega)
        rw [e4] at this
        omega
  · intro x hx
    obtain ⟨i, g1, g2⟩ := lst_mem hx
    rw [g2]; exact hhi _ (by omega) (by omega)
theorem c_put46 (K : KT) (d : Nat) (h : MH) (m : Nat) (sg : TS) (n t : Int) (hT : TB sg) (hn : 0 ≤ n ∧ n < 24) (ht : 0 ≤ t ∧ t ≤ 2879) (hs : (lst (sg.2 46) n.toNat).Pairwise (· ≤ ·)) : Mt K yiX2_put d [.ref (m + 32), vi n, vi t] (tov K h m sg) (Rz fun v h' => ∃ g, h' = tov K h m (ovr sg [] [(46, g)]) ∧ okA 46 g ∧ v = n + 1 ∧ lst g (n + 1).toNat = insL t (lst (sg.2 46) n.toNat)) := by
  refine mt_ofQ (by decide) (Nat.le_of_ble_eq_true rfl) (fun Q hQ => ?_)
  show MW K yiX2_put d (tov K h m (ovr sg [] [])) 0 [some (.ref (m + 32)), some (vi n), some (vi t), none] [] Q
  refine j_iload_n dX2_put_0 rfl ?_
  refine j_istore_n [some (.ref (m + 32)), some (vi n), some (vi t), some (vi n)] dX2_put_1 (by decide) rfl rfl ?_
  have L2 : ∀ (N : Nat) (p : Int) (g : Int → Int), p.toNat = N → (0 ≤ p ∧ p ≤ n) → (pgS (sg.2 46) n p g) → (∀ i, p ≤ i → i < n → t < sg.2 46 i) → (okA 46 g) → MW K yiX2_put d (tov K h m (ovr sg [] [(46, g)])) 2 [some (.ref (m + 32)), some (vi n), some (vi t), some (vi p)] [] Q := by
    intro N
    induction N using Nat.strongRecOn with
    | _ N ih2 =>
    intro p g hN2 hp hg hh ho
    have hgp := hg.1 (p - 1) (by omega)
    refine j_iload_n dX2_put_2 rfl ?_
    refine j_if_le 29 dX2_put_3 (by decide) ⟨by omega, by omega⟩ (fun c3 => ?_) (fun c3 => ?_)
    · refine m_aload_n dX2_put_29 rfl ?_
      refine j_iload_n dX2_put_30 rfl ?_
      refine j_iload_n dX2_put_31 rfl ?_
      refine t_ast 32 (by decide) (n := 24) g [(46, (upz g p t))] dX2_put_32 rfl (Nat.le_of_ble_eq_true rfl) ⟨by omega, by omega⟩ rfl rfl ?_
      refine j_iload_n dX2_put_33 rfl ?_
      refine j_iconst dX2_put_34 ?_
      refine j_iadd dX2_put_35 ?_
      subst hQ; exact j_iret dX2_put_36 rfl (⟨_, rfl, mu46 ho ht, rfl, pg_fin hg hp hs (by first | exact Or.inl (by omega) | exact Or.inr (by omega)) hh⟩)
    · refine m_aload_n dX2_put_6 rfl ?_
      refine j_iload_n dX2_put_7 rfl ?_
      refine j_iconst dX2_put_8 ?_
      refine j_isub dX2_put_9 ?_
      refine t_aldB 32 (by decide) (n := 24) g dX2_put_10 rfl (Nat.le_of_ble_eq_true rfl) (oa46 ho) ⟨by omega, by omega⟩ (fun b10 => ?_)
      refine j_iload_n dX2_put_11 rfl ?_
      refine j_icmp_le 29 dX2_put_12 (by decide) ⟨⟨by omega, by omega⟩, ⟨by omega, by omega⟩⟩ (fun c12 => ?_) (fun c12 => ?_)
      · refine m_aload_n dX2_put_29 rfl ?_
        refine j_iload_n dX2_put_30 rfl ?_
        refine j_iload_n dX2_put_31 rfl ?_
        refine t_ast 32 (by decide) (n := 24) g [(46, (upz g p t))] dX2_put_32 rfl (Nat.le_of_ble_eq_true rfl) ⟨by omega, by omega⟩ rfl rfl ?_
        refine j_iload_n dX2_put_33 rfl ?_
        refine j_iconst dX2_put_34 ?_
        refine j_iadd dX2_put_35 ?_
        subst hQ; exact j_iret dX2_put_36 rfl (⟨_, rfl, mu46 ho ht, rfl, pg_fin hg hp hs (by first | exact Or.inl (by omega) | exact Or.inr (by omega)) hh⟩)
      · refine m_aload_n dX2_put_15 rfl ?_
        refine j_iload_n dX2_put_16 rfl ?_
        refine m_aload_n dX2_put_17 rfl ?_
        refine j_iload_n dX2_put_18 rfl ?_
        refine j_iconst dX2_put_19 ?_
        refine j_isub dX2_put_20 ?_
        refine t_aldB 32 (by decide) (n := 24) g dX2_put_21 rfl (Nat.le_of_ble_eq_true rfl) (oa46 ho) ⟨by omega, by omega⟩ (fun b21 => ?_)
        refine t_ast 32 (by decide) (n := 24) g [(46, (upz g p (g (p - 1))))] dX2_put_22 rfl (Nat.le_of_ble_eq_true rfl) ⟨by omega, by omega⟩ rfl rfl ?_
        refine j_iinc [some (.ref (m + 32)), some (vi n), some (vi t), some (vi (p + (-1)))] dX2_put_23 rfl (by decide) rfl rfl ?_
        refine m_goto 2 dX2_put_26 (by decide) ?_
        exact ih2 _ (by omega) _ _ rfl (by omega) ⟨fun i a => by { unfold upz; rw [if_neg (by omega)]; exact hg.1 i (by omega) }, fun i a b => by { unfold upz; by_cases e : i = p; { rw [if_pos e, e]; exact hgp }; { rw [if_neg e]; exact hg.2.1 i (by omega) b } }, fun i a => by { unfold upz; rw [if_neg (by omega)]; exact hg.2.2 i a }⟩ (fun i a b => by { by_cases e : i = p + -1; { have e3 : i = p - 1 := by { omega }; rw [e3, ← hgp]; omega }; { exact hh i (by omega) b } }) (mu46 ho (by omega))
  refine mw_tov (b := ovr sg [] [(46, (sg.2 46))]) (ovr_addA _ _ _ 46) ?_
  exact L2 _ _ _ rfl (by omega) ⟨fun i _ => rfl, fun i a b => by omega, fun i _ => rfl⟩ (fun i a b => by omega) (hT.2 46)
theorem c_put47 (K : KT) (d : Nat) (h : MH) (m : Nat) (sg : TS) (n t : Int) (hT : TB sg) (hn : 0 ≤ n ∧ n < 24) (ht : 0 ≤ t ∧ t ≤ 2879) (hs : (lst (sg.2 47) n.toNat).Pairwise (· ≤ ·)) : Mt K yiX2_put d [.ref (m + 33), vi n, vi t] (tov K h m sg) (Rz fun v h' => ∃ g, h' = tov K h m (ovr sg [] [(47, g)]) ∧ okA 47 g ∧ v = n + 1 ∧ lst g (n + 1).toNat = insL t (lst (sg.2 47) n.toNat)) := by
  refine mt_ofQ (by decide) (Nat.le_of_ble_eq_true rfl) (fun Q hQ => ?_)
  show MW K yiX2_put d (tov K h m (ovr sg [] [])) 0 [some (.ref (m + 33)), some (vi n), some (vi t), none] [] Q
  refine j_iload_n dX2_put_0 rfl ?_
  refine j_istore_n [some (.ref (m + 33)), some (vi n), some (vi t), some (vi n)] dX2_put_1 (by decide) rfl rfl ?_
  have L2 : ∀ (N : Nat) (p : Int) (g : Int → Int), p.toNat = N → (0 ≤ p ∧ p ≤ n) → (pgS (sg.2 47) n p g) → (∀ i, p ≤ i → i < n → t < sg.2 47 i) → (okA 47 g) → MW K yiX2_put d (tov K h m (ovr sg [] [(47, g)])) 2 [some (.ref (m + 33)), some (vi n), some (vi t), some (vi p)] [] Q := by
    intro N
    induction N using Nat.strongRecOn with
    | _ N ih2 =>
    intro p g hN2 hp hg hh ho
    have hgp := hg.1 (p - 1) (by omega)
    refine j_iload_n dX2_put_2 rfl ?_
    refine j_if_le 29 dX2_put_3 (by decide) ⟨by omega, by omega⟩ (fun c3 => ?_) (fun c3 => ?_)
    · refine m_aload_n dX2_put_29 rfl ?_
      refine j_iload_n dX2_put_30 rfl ?_
      refine j_iload_n dX2_put_31 rfl ?_
      refine t_ast 33 (by decide) (n := 24) g [(47, (upz g p t))] dX2_put_32 rfl (Nat.le_of_ble_eq_true rfl) ⟨by omega, by omega⟩ rfl rfl ?_
      refine j_iload_n dX2_put_33 rfl ?_
      refine j_iconst dX2_put_34 ?_
      refine j_iadd dX2_put_35 ?_
      subst hQ; exact j_iret dX2_put_36 rfl (⟨_, rfl, mu47 ho ht, rfl, pg_fin hg hp hs (by first | exact Or.inl (by omega) | exact Or.inr (by omega)) hh⟩)
    · refine m_aload_n dX2_put_6 rfl ?_
      refine j_iload_n dX2_put_7 rfl ?_
      refine j_iconst dX2_put_8 ?_
      refine j_isub dX2_put_9 ?_
      refine t_aldB 33 (by decide) (n := 24) g dX2_put_10 rfl (Nat.le_of_ble_eq_true rfl) (oa47 ho) ⟨by omega, by omega⟩ (fun b10 => ?_)
      refine j_iload_n dX2_put_11 rfl ?_
      refine j_icmp_le 29 dX2_put_12 (by decide) ⟨⟨by omega, by omega⟩, ⟨by omega, by omega⟩⟩ (fun c12 => ?_) (fun c12 => ?_)
      · refine m_aload_n dX2_put_29 rfl ?_
        refine j_iload_n dX2_put_30 rfl ?_
        refine j_iload_n dX2_put_31 rfl ?_
        refine t_ast 33 (by decide) (n := 24) g [(47, (upz g p t))] dX2_put_32 rfl (Nat.le_of_ble_eq_true rfl) ⟨by omega, by omega⟩ rfl rfl ?_
        refine j_iload_n dX2_put_33 rfl ?_
        refine j_iconst dX2_put_34 ?_
        refine j_iadd dX2_put_35 ?_
        subst hQ; exact j_iret dX2_put_36 rfl (⟨_, rfl, mu47 ho ht, rfl, pg_fin hg hp hs (by first | exact Or.inl (by omega) | exact Or.inr (by omega)) hh⟩)
      · refine m_aload_n dX2_put_15 rfl ?_
        refine j_iload_n dX2_put_16 rfl ?_
        refine m_aload_n dX2_put_17 rfl ?_
        refine j_iload_n dX2_put_18 rfl ?_
        refine j_iconst dX2_put_19 ?_
        refine j_isub dX2_put_20 ?_
        refine t_aldB 33 (by decide) (n := 24) g dX2_put_21 rfl (Nat.le_of_ble_eq_true rfl) (oa47 ho) ⟨by omega, by omega⟩ (fun b21 => ?_)
        refine t_ast 33 (by decide) (n := 24) g [(47, (upz g p (g (p - 1))))] dX2_put_22 rfl (Nat.le_of_ble_eq_true rfl) ⟨by omega, by omega⟩ rfl rfl ?_
        refine j_iinc [some (.ref (m + 33)), some (vi n), some (vi t), some (vi (p + (-1)))] dX2_put_23 rfl (by decide) rfl rfl ?_
        refine m_goto 2 dX2_put_26 (by decide) ?_
        exact ih2 _ (by omega) _ _ rfl (by omega) ⟨fun i a => by { unfold upz; rw [if_neg (by omega)]; exact hg.1 i (by omega) }, fun i a b => by { unfold upz; by_cases e : i = p; { rw [if_pos e, e]; exact hgp }; { rw [if_neg e]; exact hg.2.1 i (by omega) b } }, fun i a => by { unfold upz; rw [if_neg (by omega)]; exact hg.2.2 i a }⟩ (fun i a b => by { by_cases e : i = p + -1; { have e3 : i = p - 1 := by { omega }; rw [e3, ← hgp]; omega }; { exact hh i (by omega) b } }) (mu47 ho (by omega))
  refine mw_tov (b := ovr sg [] [(47, (sg.2 47))]) (ovr_addA _ _ _ 47) ?_
  exact L2 _ _ _ rfl (by omega) ⟨fun i _ => rfl, fun i a b => by omega, fun i _ => rfl⟩ (fun i a b => by omega) (hT.2 47)
