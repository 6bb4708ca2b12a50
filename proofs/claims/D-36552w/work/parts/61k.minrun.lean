/-! the sort: the least length of a run -/
theorem j_iorb {K : KT} {y : YT} {d : Nat} {h : MH} {pc : Nat} {ls : List (Option Value)} {st : List Value} {Q : OT → MH → Prop} {x z : Int} (hdg : decode y.2.1 pc = .ok (.ior, 1)) (hx : (x = 0 ∨ x = 1) ∧ 0 ≤ z ∧ z ≤ 1) (k : MW K y d h (pc + 1) ls (vi (if x = 0 then z else 1) :: st) Q) : MW K y d h pc ls (vi z :: vi x :: st) Q := m_ior hdg (by
  have hz : z = 0 ∨ z = 1 := by omega
  rcases hx.1 with rfl | rfl <;> rcases hz with rfl | rfl <;> exact k)
theorem c_J35_minRunLength (K : KT) (d : Nat) (h : MH) (n : Int) (hB : kV K 12 = vi 1) (hn : 32 ≤ n ∧ n < 128) : Mt K yiJ35_minRunLength d [vi n] h (Rz fun v h' => h = h' ∧ n ≤ 4 * v ∧ 16 ≤ v ∧ v ≤ 32) := by
  refine mt_ofQ (by decide) (Nat.le_of_ble_eq_true rfl) (fun Q hQ => ?_)
  show MW K yiJ35_minRunLength d h 0 [some (vi n), none] [] Q
  refine mw_wf (fun hwf => ?_)
  refine m_gets (y := yiJ35_minRunLength) (ref := "") 12 rfl dJ35_minRunLength_0 q1989 hB ?_
  refine j_if_ne (y := yiJ35_minRunLength) 18 dJ35_minRunLength_3 (by decide) ⟨by decide, by decide⟩ (fun _ => ?_) (fun c => absurd c (by decide))
  refine j_iconst (y := yiJ35_minRunLength) dJ35_minRunLength_18 ?_
  refine j_istore_n (y := yiJ35_minRunLength) [some (vi n), some (vi 0)] dJ35_minRunLength_19 (by decide) rfl rfl ?_
  have L20 : ∀ (N : Nat) (m r : Int), m.toNat = N → ((r = 0 ∨ r = 1) ∧ ((m = n ∧ r = 0) ∨ (m = n / 2 ∧ r = n % 2) ∨ (m = n / 4 ∧ (r = 0 → n % 4 = 0)))) → (16 ≤ m) → MW K yiJ35_minRunLength d h 20 [some (vi m), some (vi r)] [] Q := by
    intro N
    induction N using Nat.strongRecOn with
    | _ N ih20 =>
    intro m r hN20 hm hm2
    refine j_iload_n (y := yiJ35_minRunLength) dJ35_minRunLength_20 rfl ?_
    refine j_bipush (y := yiJ35_minRunLength) dJ35_minRunLength_21 (by decide) ?_
    refine j_icmp_lt (y := yiJ35_minRunLength) 39 dJ35_minRunLength_23 (by decide) ⟨⟨by omega, by omega⟩, ⟨by omega, by omega⟩⟩ (fun c23 => ?_) (fun c23 => ?_)
    · refine j_iload_n (y := yiJ35_minRunLength) dJ35_minRunLength_39 rfl ?_
      refine j_iload_n (y := yiJ35_minRunLength) dJ35_minRunLength_40 rfl ?_
      refine j_iadd (y := yiJ35_minRunLength) dJ35_minRunLength_41 ?_
      subst hQ; exact j_iret (y := yiJ35_minRunLength) dJ35_minRunLength_42 rfl (⟨rfl, by omega, by omega, by omega⟩)
    · refine j_iload_n (y := yiJ35_minRunLength) dJ35_minRunLength_26 rfl ?_
      refine j_iload_n (y := yiJ35_minRunLength) dJ35_minRunLength_27 rfl ?_
      refine j_iconst (y := yiJ35_minRunLength) dJ35_minRunLength_28 ?_
      refine j_iand1 (y := yiJ35_minRunLength) dJ35_minRunLength_29 ?_
      refine j_iorb (y := yiJ35_minRunLength) dJ35_minRunLength_30 (by omega) ?_
      refine j_istore_n (y := yiJ35_minRunLength) [some (vi m), some (vi (if r = 0 then (m % 2) else 1))] dJ35_minRunLength_31 (by decide) rfl rfl ?_
      refine j_iload_n (y := yiJ35_minRunLength) dJ35_minRunLength_32 rfl ?_
      refine j_iconst (y := yiJ35_minRunLength) dJ35_minRunLength_33 ?_
      refine j_ishr (y := yiJ35_minRunLength) dJ35_minRunLength_34 ⟨by omega, by omega⟩ ⟨by omega, by omega⟩ ?_
      refine j_istore_n (y := yiJ35_minRunLength) [some (vi (m / 2 ^ (1 : Int).toNat)), some (vi (if r = 0 then (m % 2) else 1))] dJ35_minRunLength_35 (by decide) rfl rfl ?_
      have e34 : m / 2 ^ (1 : Int).toNat = m / 2 := rfl
      refine m_goto (y := yiJ35_minRunLength) 20 dJ35_minRunLength_36 (by decide) ?_
      exact ih20 _ (by omega) _ _ rfl (by split <;> omega) (by omega)
  exact L20 _ n 0 rfl (by omega) (by omega)
