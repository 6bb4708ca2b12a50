/-! arraycopy over whole numbers -/
section HC
variable {K : KT} {y : YT} {d : Nat} {h : MH} {pc : Nat} {ls : List (Option Value)} {st : List Value} {Q : OT → MH → Prop}
theorem in_nn {n : Int} (h : 0 ≤ n) (hi : In n) : ¬ Int32.ofInt n < 0 := fun h9 => by have := (In.lt hi In0).mp h9; omega
theorem h_copyq {index a0 a n0 n1 : Nat} {w : Bool} {f g : Int → Option Nat} {sp dp n : Int} (hdg : decode y.2.1 pc = .ok (.invokestatic index, 3)) (hl1 : Cond.methodLink y.1.cls index arraycopyName ∈ lw_all) (ha0 : h.2.2 a0 = some (w, oaE K n0 f)) (ha : h.2.2 a = some (true, oaE K n1 g)) (hz : n0 ≤ 2147483647 ∧ n1 ≤ 2147483647) (h1 : 0 ≤ sp ∧ 0 ≤ dp ∧ 0 ≤ n) (h4 : sp + n ≤ n0) (h5 : dp + n ≤ n1) (hel : ∀ i, sp ≤ i → i < sp + n → ∀ v, f i = some v → IsO h v) (hr : (st.map fun v => v.category).sum ≤ 8 ∧ 1 ≤ d) (kk : MW K y d (hput h a (true, oaE K n1 (cpq f g sp dp n))) (pc + 3) ls st Q) : MW K y d h pc ls (vi n :: vi dp :: .ref a :: vi sp :: .ref a0 :: st) Q := by
  have i1 : In sp := ⟨by omega, by omega⟩
  have i2 : In dp := ⟨by omega, by omega⟩
  have i3 : In n := ⟨by omega, by omega⟩
  refine m_copyq hdg hl1 q408 q407 q146 ha0 ha (in_nn h1.1 i1) (in_nn h1.2.1 i2) (in_nn h1.2.2 i3) (by rw [i1.nat, i3.nat]; omega) (by rw [i2.nat, i3.nat]; omega) (fun i hi v hv => ?_) hr ?_
  · rw [i3.nat] at hi
    rw [i1.nat] at hv
    exact hel (sp + i) (by omega) (by omega) v (by rw [← hv]; unfold qfn; congr 1; omega)
  · rw [i1.nat, i2.nat, i3.nat, cpq_q h1]; exact kk
theorem h_copyi {index a0 a n0 n1 : Nat} {w : Bool} {f g : Int → Int} {sp dp n : Int} (hdg : decode y.2.1 pc = .ok (.invokestatic index, 3)) (hl1 : Cond.methodLink y.1.cls index arraycopyName ∈ lw_all) (ha0 : h.2.2 a0 = some (w, ia K n0 f)) (ha : h.2.2 a = some (true, ia K n1 g)) (hz : n0 ≤ 2147483647 ∧ n1 ≤ 2147483647) (h1 : 0 ≤ sp ∧ 0 ≤ dp ∧ 0 ≤ n) (h4 : sp + n ≤ n0) (h5 : dp + n ≤ n1) (hr : (st.map fun v => v.category).sum ≤ 8 ∧ 1 ≤ d) (kk : MW K y d (hput h a (true, ia K n1 (cpq f g sp dp n))) (pc + 3) ls st Q) : MW K y d h pc ls (vi n :: vi dp :: .ref a :: vi sp :: .ref a0 :: st) Q := by
  have i1 : In sp := ⟨by omega, by omega⟩
  have i2 : In dp := ⟨by omega, by omega⟩
  have i3 : In n := ⟨by omega, by omega⟩
  refine m_copyi 0 (by decide) rfl hdg hl1 q408 q407 q146 ha0 ha (in_nn h1.1 i1) (in_nn h1.2.1 i2) (in_nn h1.2.2 i3) (by rw [i1.nat, i3.nat]; omega) (by rw [i2.nat, i3.nat]; omega) (fun i hi => rfl) hr ?_
  rw [i1.nat, i2.nat, i3.nat, cpq_z h1]; exact kk
end HC
theorem IsO.lt {h : MH} {v : Nat} (hv : IsO h v) (hw : ∀ b e, h.2.2 b = some e → b < h.1) : v < h.1 := by
  obtain ⟨w, ci, fs, r, h1, -⟩ := hv
  exact hw v _ h1
theorem IsO.mono' {h h' : MH} {v : Nat} (e : h'.2.2 v = h.2.2 v) (hv : IsO h v) : IsO h' v := by
  obtain ⟨w, ci, fs, r, h1, h2⟩ := hv
  exact ⟨w, ci, fs, r, by rw [e]; exact h1, h2⟩
/-- cells that are known lie below the heap's size -/
theorem mw_wf {K : KT} {y : YT} {d : Nat} {h : MH} {pc : Nat} {ls : List (Option Value)} {st : List Value} {Q : OT → MH → Prop} (k : (∀ b e, h.2.2 b = some e → b < h.1) → MW K y d h pc ls st Q) : MW K y d h pc ls st Q := by
  intro p e R s m args below meth c H locs cells slots la C hR hf hc hs h1 h2 hl
  exact k (fun b e hb => by have := (hR.2.2.2.2 b e hb).lt; rw [hR.1] at this; exact this) p e R s m args below meth c H locs cells slots la C hR hf hc hs h1 h2 hl
