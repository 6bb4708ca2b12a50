/-! arrays of longs, lcmp with the branch behind it, shifts; heaps cut to a stretch of addresses -/
def lqn (f : Int → Int64) : Nat → Int64 := fun j => f (j : Int)
def laE (K : KT) (n : Nat) (f : Int → Int64) : va_E := .inl (kA K 1, n, .inr (.inl (lqn f)))
def upl (f : Int → Int64) (i : Int) (v : Int64) : Int → Int64 := fun j => if j = i then v else f j
theorem lqn_up {f : Int → Int64} {i : Int} {v : Int64} {n : Nat} (h : 0 ≤ i ∧ i < n) (hn : n ≤ 2147483647) : vp_updL (lqn f) (Int32.ofInt i).toNatClampNeg v = lqn (upl f i v) := by
  funext j
  have e := vnat h hn
  unfold vp_updL lqn upl
  by_cases hj : j = (Int32.ofInt i).toNatClampNeg
  · rw [if_pos hj, if_pos (by rw [hj]; exact e)]
  · rw [if_neg hj, if_neg (fun h9 => hj (by omega))]
theorem lqn_at {f : Int → Int64} {i : Int} {n : Nat} (h : 0 ≤ i ∧ i < n) (hn : n ≤ 2147483647) : lqn f (Int32.ofInt i).toNatClampNeg = f i := by
  unfold lqn; rw [vnat h hn]
theorem cpq_l {f g : Int → Int64} {sp dp n : Int} (h : 0 ≤ sp ∧ 0 ≤ dp ∧ 0 ≤ n) : va_cpy (lqn f) (lqn g) sp.toNat dp.toNat n.toNat = lqn (cpq f g sp dp n) := by
  funext k
  unfold va_cpy lqn cpq
  by_cases e : dp.toNat ≤ k ∧ k < dp.toNat + n.toNat
  · rw [if_pos e, if_pos (by omega)]
    congr 1; omega
  · rw [if_neg e, if_neg (by omega)]
theorem fz01 {x : Int} (h : x = 0 ∨ x = 1) : fits .boolean (vi x) = true := by rcases h with rfl | rfl <;> rfl
theorem fitB {v : Int} (h : -128 ≤ v ∧ v ≤ 127) : fits .byte (.int (Int32.ofInt v)) = true := by
  have i1 : In v := ⟨by omega, by omega⟩
  have e1 := (In.le (⟨by decide, by decide⟩ : In (-128)) i1).mpr h.1
  have e2 := (In.le i1 (⟨by decide, by decide⟩ : In 127)).mpr h.2
  show (decide ((-128 : Int32) ≤ Int32.ofInt v) && decide (Int32.ofInt v ≤ 127)) = true
  simp only [Bool.and_eq_true, decide_eq_true_eq]
  exact ⟨e1, e2⟩
/-- 1 shifted left -/
def sh1 (z : Int) : Int64 := (1 : Int64) <<< ((Int32.ofInt z).toInt64 &&& 63)
def shm (z : Int) : Int64 := (-1 : Int64) <<< ((Int32.ofInt z).toInt64 &&& 63)
section LR
variable {K : KT} {y : YT} {d : Nat} {h : MH} {pc : Nat} {ls : List (Option Value)} {st : List Value} {Q : OT → MH → Prop}
theorem h_lald {a n : Nat} {w : Bool} {f : Int → Int64} {i : Int} (hdg : decode y.2.1 pc = .ok (.laload, 1)) (ha : h.2.2 a = some (w, laE K n f)) (hi : 0 ≤ i ∧ i < n) (hn : n ≤ 2147483647) (kk : MW K y d h (pc + 1) ls (.long (f i) :: st) Q) : MW K y d h pc ls (vi i :: .ref a :: st) Q := m_lald hdg ha (vin hi hn) (by rw [lqn_at hi hn]; exact kk)
theorem h_last {a n : Nat} {f : Int → Int64} {i : Int} {x : Int64} (hdg : decode y.2.1 pc = .ok (.lastore, 1)) (ha : h.2.2 a = some (true, laE K n f)) (hi : 0 ≤ i ∧ i < n) (hn : n ≤ 2147483647) (kk : MW K y d (hput h a (true, laE K n (upl f i x))) (pc + 1) ls st Q) : MW K y d h pc ls (.long x :: vi i :: .ref a :: st) Q := m_last hdg ha (vin hi hn) (by rw [lqn_up hi hn]; exact kk)
theorem h_newa1 {n : Int} (hdg : decode y.2.1 pc = .ok (.newarray .long, 2)) (hw : Cond.arrayClass .long ∈ lw_all) (hn : 0 ≤ n ∧ n ≤ 60000000) (hz : h.1 + 1 ≤ kC K ∧ h.2.1 + n.toNat ≤ kS K) (kk : MW K y d (hnew h (true, laE K n.toNat (fun _ => 0)) n.toNat) (pc + 2) ls (.ref h.1 :: st) Q) : MW K y d h pc ls (vi n :: st) Q := by
  have hi : In n := ⟨by omega, by omega⟩
  exact m_newa 1 (by decide) hdg rfl hw n.toNat (n.toNat, .inr (.inl (lqn (fun _ => 0)))) (fun cA => vp_cell_l ..) (fun h9 => by have := (In.lt hi In0).mp h9; omega) hi.nat (by omega) hz kk
theorem h_newa2 {n : Int} (hdg : decode y.2.1 pc = .ok (.newarray .byte, 2)) (hw : Cond.arrayClass .byte ∈ lw_all) (hn : 0 ≤ n ∧ n ≤ 60000000) (hz : h.1 + 1 ≤ kC K ∧ h.2.1 + n.toNat ≤ kS K) (kk : MW K y d (hnew h (true, ba K n.toNat (fun _ => 0)) n.toNat) (pc + 2) ls (.ref h.1 :: st) Q) : MW K y d h pc ls (vi n :: st) Q := by
  have hi : In n := ⟨by omega, by omega⟩
  exact m_newa 2 (by decide) hdg rfl hw n.toNat (n.toNat, .inl (zfn (fun _ => 0))) (fun cA => vp_cell_i ..) (fun h9 => by have := (In.lt hi In0).mp h9; omega) hi.nat (by omega) hz kk
theorem h_copyl {index a0 a n0 n1 : Nat} {w : Bool} {f g : Int → Int64} {sp dp n : Int} (hdg : decode y.2.1 pc = .ok (.invokestatic index, 3)) (hl1 : Cond.methodLink y.1.cls index arraycopyName ∈ lw_all) (ha0 : h.2.2 a0 = some (w, laE K n0 f)) (ha : h.2.2 a = some (true, laE K n1 g)) (hz : n0 ≤ 2147483647 ∧ n1 ≤ 2147483647) (h1 : 0 ≤ sp ∧ 0 ≤ dp ∧ 0 ≤ n) (h4 : sp + n ≤ n0) (h5 : dp + n ≤ n1) (hr : (st.map fun v => v.category).sum ≤ 8 ∧ 1 ≤ d) (kk : MW K y d (hput h a (true, laE K n1 (cpq f g sp dp n))) (pc + 3) ls st Q) : MW K y d h pc ls (vi n :: vi dp :: .ref a :: vi sp :: .ref a0 :: st) Q := by
  have i1 : In sp := ⟨by omega, by omega⟩
  have i2 : In dp := ⟨by omega, by omega⟩
  have i3 : In n := ⟨by omega, by omega⟩
  refine m_copyl hdg hl1 q408 q407 q146 ha0 ha (in_nn h1.1 i1) (in_nn h1.2.1 i2) (in_nn h1.2.2 i3) (by rw [i1.nat, i3.nat]; omega) (by rw [i2.nat, i3.nat]; omega) hr ?_
  rw [i1.nat, i2.nat, i3.nat, cpq_l h1]; exact kk
theorem h_copyb {index a0 a n0 n1 : Nat} {w : Bool} {f g : Int → Int} {sp dp n : Int} (hdg : decode y.2.1 pc = .ok (.invokestatic index, 3)) (hl1 : Cond.methodLink y.1.cls index arraycopyName ∈ lw_all) (ha0 : h.2.2 a0 = some (w, ba K n0 f)) (ha : h.2.2 a = some (true, ba K n1 g)) (hz : n0 ≤ 2147483647 ∧ n1 ≤ 2147483647) (h1 : 0 ≤ sp ∧ 0 ≤ dp ∧ 0 ≤ n) (h4 : sp + n ≤ n0) (h5 : dp + n ≤ n1) (hb : ∀ i, sp ≤ i → i < sp + n → -128 ≤ f i ∧ f i ≤ 127) (hr : (st.map fun v => v.category).sum ≤ 8 ∧ 1 ≤ d) (kk : MW K y d (hput h a (true, ba K n1 (cpq f g sp dp n))) (pc + 3) ls st Q) : MW K y d h pc ls (vi n :: vi dp :: .ref a :: vi sp :: .ref a0 :: st) Q := by
  have i1 : In sp := ⟨by omega, by omega⟩
  have i2 : In dp := ⟨by omega, by omega⟩
  have i3 : In n := ⟨by omega, by omega⟩
  refine m_copyi 2 (by decide) rfl hdg hl1 q408 q407 q146 ha0 ha (in_nn h1.1 i1) (in_nn h1.2.1 i2) (in_nn h1.2.2 i3) (by rw [i1.nat, i3.nat]; omega) (by rw [i2.nat, i3.nat]; omega) (fun i hi => ?_) hr ?_
  · have h9 := hb (sp + i) (by omega) (by rw [i3.nat] at hi; omega)
    have e : ((sp.toNat + i : Nat) : Int) = sp + i := by omega
    rw [i1.nat]
    show fits .byte (.int (Int32.ofInt (f ((sp.toNat + i : Nat) : Int)))) = true
    rw [e]
    exact fitB h9
  · rw [i1.nat, i2.nat, i3.nat, cpq_z h1]; exact kk
theorem m_lcEq {x z : Int64} {off : Int} (tgt : Nat) (hdg : decode y.2.1 pc = .ok (.lcmp, 1)) (hdg2 : decode y.2.1 (pc + 1) = .ok (.ifCond .eq off, 3)) (ht : ((pc + 1 : Nat) : Int) + off = (tgt : Int)) (kt : x = z → MW K y d h tgt ls st Q) (kf : x ≠ z → MW K y d h (pc + 4) ls st Q) : MW K y d h pc ls (.long z :: .long x :: st) Q := m_lcmp hdg (m_if_eq tgt hdg2 ht (fun h => kt ((lg_cmp_eq x z).mp h)) (fun h => kf (fun h9 => h ((lg_cmp_eq x z).mpr h9))))
theorem m_lcNe {x z : Int64} {off : Int} (tgt : Nat) (hdg : decode y.2.1 pc = .ok (.lcmp, 1)) (hdg2 : decode y.2.1 (pc + 1) = .ok (.ifCond .ne off, 3)) (ht : ((pc + 1 : Nat) : Int) + off = (tgt : Int)) (kt : x ≠ z → MW K y d h tgt ls st Q) (kf : x = z → MW K y d h (pc + 4) ls st Q) : MW K y d h pc ls (.long z :: .long x :: st) Q := m_lcmp hdg (m_if_ne tgt hdg2 ht (fun h => kt (fun h9 => h ((lg_cmp_eq x z).mpr h9))) (fun h => kf (by
  first
  | exact (lg_cmp_eq x z).mp h
  | exact (lg_cmp_eq x z).mp (Classical.not_not.mp h))))
end LR
/-- the heap between two addresses -/
def rs (lo hi : Nat) (h : MH) : MH := (0, 0, fun b => if lo ≤ b ∧ b < hi then h.2.2 b else none)
theorem rs_eq {lo hi : Nat} {h h' : MH} (e : ∀ b, (lo ≤ b ∧ b < hi) → h'.2.2 b = h.2.2 b) : rs lo hi h' = rs lo hi h := by
  unfold rs
  congr 2
  funext b
  by_cases hb : lo ≤ b ∧ b < hi
  · rw [if_pos hb, if_pos hb, e b hb]
  · rw [if_neg hb, if_neg hb]
theorem rs_at {lo hi : Nat} {h : MH} {b : Nat} {c : Bool × va_E} (e : (rs lo hi h).2.2 b = some c) : h.2.2 b = some c ∧ lo ≤ b ∧ b < hi := by
  unfold rs at e
  dsimp only at e
  by_cases hb : lo ≤ b ∧ b < hi
  · rw [if_pos hb] at e; exact ⟨e, hb⟩
  · rw [if_neg hb] at e; cases e
theorem rs_mk {lo hi : Nat} {h : MH} {b : Nat} {c : Bool × va_E} (e : h.2.2 b = some c) (h1 : lo ≤ b) (h2 : b < hi) : (rs lo hi h).2.2 b = some c := by
  unfold rs
  dsimp only
  rw [if_pos ⟨h1, h2⟩]; exact e
theorem rs_in {lo hi lo' hi' : Nat} {h : MH} {b : Nat} {c : Bool × va_E} (e : (rs lo hi h).2.2 b = some c) (h1 : lo' ≤ lo) (h2 : hi ≤ hi') : (rs lo' hi' h).2.2 b = some c := by
  have := rs_at e
  exact rs_mk this.1 (by omega) (by omega)
theorem rs_iso {lo hi : Nat} {h : MH} {v : Nat} (e : IsO (rs lo hi h) v) : IsO h v ∧ lo ≤ v ∧ v < hi := by
  obtain ⟨w, ci, fs, r, h1, h2, h3⟩ := e
  have := rs_at h1
  exact ⟨⟨w, ci, fs, r, this.1, h2, h3⟩, this.2⟩
theorem ne_oo {h : MH} {a b ci cj : Nat} {w w' : Bool} {fs fs' : List Value} (ha : h.2.2 a = some (w, .inr (ci, fs))) (hb : h.2.2 b = some (w', .inr (cj, fs'))) (hn : ci ≠ cj) : a ≠ b := by
  intro e; subst e
  rw [ha] at hb
  cases hb
  exact hn rfl
theorem ne_oa {h : MH} {a b ci : Nat} {w w' : Bool} {fs : List Value} {x : ClassId × vp_A} (ha : h.2.2 a = some (w, .inr (ci, fs))) (hb : h.2.2 b = some (w', .inl x)) : a ≠ b := by
  intro e; subst e
  rw [ha] at hb
  cases hb
theorem ne_w {h : MH} {a b : Nat} {w w' : Bool} {x y : va_E} (ha : h.2.2 a = some (w, x)) (hb : h.2.2 b = some (w', y)) (hn : w ≠ w') : a ≠ b := by
  intro e; subst e
  rw [ha] at hb
  cases hb
  exact hn rfl
