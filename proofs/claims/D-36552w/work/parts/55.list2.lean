/-! java.util.ArrayList: add, iterators -/
def upn (p : Int → Nat) (n : Int) (v : Nat) : Int → Nat := fun i => if i = n then v else p i
theorem upn_at {p : Int → Nat} {n : Int} {v : Nat} : upn p n v n = v := if_pos rfl
theorem upn_ne {p : Int → Nat} {n i : Int} {v : Nat} (h : i ≠ n) : upn p n v i = p i := if_neg h
/-- what an add leaves: the list with one more, all else as it was -/
def AddQ (K : KT) (h h' : MH) (e0 a e v : Nat) (n : Int) (p : Int → Nat) : Prop := ∃ e', (e' = e ∨ h.1 ≤ e') ∧ (h.1 ≤ h'.1 ∧ h'.1 ≤ h.1 + 1) ∧ (h.2.1 ≤ h'.2.1 ∧ h'.2.1 ≤ h.2.1 + (grC n).toNat) ∧ LsA K h' e0 a e' (n + 1) (upn p n v) ∧ (∀ b, (b < h.1 ∧ b ≠ a ∧ b ≠ e) → h'.2.2 b = h.2.2 b) ∧ ∀ c, h.2.2 e = some (false, c) → h'.2.2 e = h.2.2 e
theorem c_J2_add (K : KT) (d : Nat) (h : MH) (e0 a e v : Nat) (n : Int) (p : Int → Nat) (hd : 6 ≤ d) (hE : kV K 0 = .ref e0) (hL : LsA K h e0 a e n p) (hn : n ≤ 30000) (hv : IsO h v) (hva : v ≠ a ∧ v ≠ e) (hpa : ∀ i, 0 ≤ i → i < n → p i ≠ a ∧ p i ≠ e) (hz : h.1 + 1 ≤ kC K ∧ h.2.1 + (grC n).toNat ≤ kS K) : Mt K yiJ2_add d [.ref a, .ref v] h (Rz fun r h' => 1 = r ∧ AddQ K h h' e0 a e v n p) := by
  obtain ⟨w, cap, mc, f, ho, he, hae, h0, hw, hcap, hf, hno⟩ := hL
  refine mt_ofQ (by decide) (Nat.le_of_ble_eq_true rfl) (fun Q hQ => ?_)
  show MW K yiJ2_add d h 0 [some (.ref a), some (.ref v)] [] Q
  refine mw_wf (fun hwf => ?_)
  have l_ho := hwf _ _ ho
  have l_he := hwf _ _ he
  have he0 := he
  have lv := hv.lt hwf
  have lp : ∀ i, 0 ≤ i → i < n → p i < h.1 := fun i a b => (hf i a b).2.lt hwf
  refine m_aload_n (y := yiJ2_add) dJ2_add_0 rfl ?_
  refine m_dup (y := yiJ2_add) dJ2_add_1 rfl ?_
  refine m_getf (y := yiJ2_add) kc_14 0 (by decide) dJ2_add_2 q221 (Or.inr q220) ho rfl ?_
  refine j_iconst (y := yiJ2_add) dJ2_add_5 ?_
  refine j_iadd (y := yiJ2_add) dJ2_add_6 ?_
  refine m_putf (y := yiJ2_add) kc_14 0 (by decide) dJ2_add_7 q221 (Or.inr q220) rfl ho rfl rfl (hp_put fun g1 g1H => ?_)
  have he : g1.2.2 e = some (w, oaE K cap f) := (g1H.2.2.2 _ (by omega)).trans he
  have ho : g1.2.2 a = some (true, .inr (14, [(vi (mc + 1)), (.ref e), (vi n)])) := g1H.2.2.1
  have g11 := g1H.1
  have g12 := g1H.2.1
  refine m_aload_n (y := yiJ2_add) dJ2_add_10 rfl ?_
  refine m_aload_n (y := yiJ2_add) dJ2_add_11 rfl ?_
  refine m_aload_n (y := yiJ2_add) dJ2_add_12 rfl ?_
  refine m_getfS (y := yiJ2_add) kc_14 1 (by decide) dJ2_add_13 q213 ho rfl ?_
  refine m_aload_n (y := yiJ2_add) dJ2_add_16 rfl ?_
  refine m_getfS (y := yiJ2_add) kc_14 2 (by decide) dJ2_add_17 q217 ho rfl ?_
  refine m_invV (y := yiJ2_add) (rB := (RJ2, TJ2, 3)) [(.ref v), (.ref e), (vi n)] dJ2_add_20 ho rfl q957 q959 qs5 q126 q960 rfl (c_J2_add_2 K 5 g1 e0 a e cap v w _ n f (by omega) hE ho he hae h0 hw hcap (fun i a b x hx => by { have q := hf i a b; rw [q.1] at hx; cases hx; exact q.2.mono' (g1H.2.2.2 _ (hpa i a b).1) }) (hv.mono' (g1H.2.2.2 _ hva.1)) hno hn ⟨by omega, by omega⟩) pdJ2_add_2 ⟨Nat.le_of_ble_eq_true rfl, by decide, by omega⟩ (kk_v fun h20 q20 => ?_) kx_v
  obtain ⟨e2, cap2, f2, p1, p2, p3, p4, p5, p6, p7, p8, p9, p10, p11, p12⟩ := q20
  refine mw_wf (fun hwf20 => ?_)
  have l_p420 := hwf20 _ _ p4
  refine j_iconst (y := yiJ2_add) dJ2_add_23 ?_
  subst hQ; exact j_zret (y := yiJ2_add) dJ2_add_24 rfl (by omega) (⟨rfl, e2, by omega, by omega, by omega, ⟨true, cap2, _, f2, p4, p5, p6, fun q => by omega, fun _ => rfl, by omega, fun i b c => by { by_cases e9 : i = n; { rw [e9, upn_at]; exact ⟨p9, hv.mono' ((p11 v (by omega)).trans (g1H.2.2.2 v (by omega)))⟩ }; { rw [upn_ne e9]; have q := hf i b (by omega); have q2 := lp i b (by omega); have q3 := hpa i b (by omega); exact ⟨(p8 i b (by omega)).trans q.1, q.2.mono' ((p11 _ (by omega)).trans (g1H.2.2.2 _ (by omega)))⟩ } }, p10⟩, fun b hb => (p11 b (by omega)).trans (g1H.2.2.2 b (by omega)), fun c hc => by { have e9 := Option.some.inj (he0.symm.trans hc); exact (p12 (congrArg Prod.fst e9)).trans (g1H.2.2.2 e (by omega)) }⟩)
