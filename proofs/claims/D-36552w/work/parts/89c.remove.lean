/-! java.util.PriorityQueue.remove (AbstractQueue) -/
section PQ3
variable {K : KT} {d : Nat} {h : MH} {q e : Nat} {n : Int} {p : Int → Nat} {mi rk : Nat → Int}
theorem c_J39_remove (hd : 5 ≤ d) (hA : PqA K h q e n p) (hO : HOk (kyP mi rk) n p) (hp : PlAll h q e mi rk n p) (hn : 1 ≤ n) : Mt K yiJ39_remove d [.ref q] h (Rr fun r h' => p 0 = r ∧ ∃ p', PqA K h' q e (n - 1) p' ∧ HOk (kyP mi rk) (n - 1) p' ∧ (∀ a, (∃ i, 0 ≤ i ∧ i < n - 1 ∧ p' i = a) ↔ ∃ i, 1 ≤ i ∧ i < n ∧ p i = a) ∧ h'.1 = h.1 ∧ h'.2.1 = h.2.1 ∧ ∀ b, (b ≠ q ∧ b ≠ e) → h'.2.2 b = h.2.2 b) := by
  have hA' := hA
  obtain ⟨cap, mc, f, hq, he, hcap, hf, hfn⟩ := hA
  refine mt_ofQ (by decide) (Nat.le_of_ble_eq_true rfl) (fun Q hQ => ?_)
  show MW K yiJ39_remove d h 0 [some (.ref q), none] [] Q
  refine mw_wf (fun hwf => ?_)
  have l_hq := hwf _ _ hq
  refine m_aload_n (y := yiJ39_remove) dJ39_remove_0 rfl ?_
  refine m_invA (y := yiJ39_remove) (owner := "java/util/Queue") (rB := (RJ40, TJ40, 4)) [] dJ39_remove_1 hq rfl qn0 qn1 q2295 q2296 q2297 q177 q2298 ⟨by decide, by decide, by show _ = some 0; decide +kernel⟩ (c_J40_poll (d := 4) (by omega) hA' hO hp hn) ⟨Nat.le_of_ble_eq_true rfl, by decide, by omega⟩ (kk_r fun r1 h1 q1 => ?_) kx_r
  obtain ⟨rfl, p', r2, r3, r4, r5, r6, r7⟩ := q1
  refine mw_wf (fun hwf1 => ?_)
  refine m_astore_n (y := yiJ39_remove) dJ39_remove_4 (by decide) rfl ?_
  show MW K yiJ39_remove d h1 5 [some (.ref q), some (.ref (p 0))] [] Q
  refine m_aload_n (y := yiJ39_remove) dJ39_remove_5 rfl ?_
  refine m_ifnull (y := yiJ39_remove) (x := (some (p 0))) 11 dJ39_remove_6 (by decide) (fun h9 => nomatch h9) (fun _ _ => ?_)
  refine m_aload_n (y := yiJ39_remove) dJ39_remove_9 rfl ?_
  subst hQ; exact m_aret (y := yiJ39_remove) (x := (some (p 0))) dJ39_remove_10 rfl (Or.inl ⟨_, rfl⟩) ⟨(p 0), rfl, ⟨rfl, p', r2, r3, r4, r5, r6, r7⟩⟩
end PQ3
