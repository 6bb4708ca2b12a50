/-! rules over any heap: each change gives a new heap and what is known of it -/
def Hp (h h' : MH) (a : Nat) (e : Bool × va_E) (c s : Nat) : Prop := h'.1 = h.1 + c ∧ h'.2.1 = h.2.1 + s ∧ h'.2.2 a = some e ∧ ∀ b, b ≠ a → h'.2.2 b = h.2.2 b
def qfn (f : Int → Option Nat) : Nat → Option Nat := fun j => f (j : Int)
def oaE (K : KT) (n : Nat) (f : Int → Option Nat) : va_E := .inl (kA K 5, n, .inr (.inr (.inr (.inr (qfn f)))))
def aaE (K : KT) (n : Nat) (f : Int → Option Nat) : va_E := .inl (kA K 6, n, .inr (.inr (.inr (.inr (qfn f)))))
def upq (f : Int → Option Nat) (i : Int) (v : Option Nat) : Int → Option Nat := fun j => if j = i then v else f j
theorem qfn_up {f : Int → Option Nat} {i : Int} {v : Option Nat} {n : Nat} (h : 0 ≤ i ∧ i < n) (hn : n ≤ 2147483647) : va_up (qfn f) (Int32.ofInt i).toNatClampNeg v = qfn (upq f i v) := by
  funext j
  have e := vnat h hn
  unfold va_up qfn upq
  by_cases hj : j = (Int32.ofInt i).toNatClampNeg
  · rw [if_pos hj, if_pos (by rw [hj]; exact e)]
  · rw [if_neg hj, if_neg (fun h9 => hj (by omega))]
theorem qfn_at {f : Int → Option Nat} {i : Int} {n : Nat} (h : 0 ≤ i ∧ i < n) (hn : n ≤ 2147483647) : qfn f (Int32.ofInt i).toNatClampNeg = f i := by
  unfold qfn; rw [vnat h hn]
theorem nz01 {x : Int} (h : x = 0 ∨ x = 1) : narrow .boolean (vi x) = vi x := by rcases h with rfl | rfl <;> rfl
/-- a stretch copied -/
def cpq {α : Type} (f g : Int → α) (sp dp n : Int) : Int → α := fun k => if dp ≤ k ∧ k < dp + n then f (sp + (k - dp)) else g k
theorem cpq_q {f g : Int → Option Nat} {sp dp n : Int} (h : 0 ≤ sp ∧ 0 ≤ dp ∧ 0 ≤ n) : va_cpy (qfn f) (qfn g) sp.toNat dp.toNat n.toNat = qfn (cpq f g sp dp n) := by
  funext k
  unfold va_cpy qfn cpq
  by_cases e : dp.toNat ≤ k ∧ k < dp.toNat + n.toNat
  · rw [if_pos e, if_pos (by omega)]
    congr 1; omega
  · rw [if_neg e, if_neg (by omega)]
theorem cpq_z {f g : Int → Int} {sp dp n : Int} (h : 0 ≤ sp ∧ 0 ≤ dp ∧ 0 ≤ n) : va_cpy (zfn f) (zfn g) sp.toNat dp.toNat n.toNat = zfn (cpq f g sp dp n) := by
  funext k
  unfold va_cpy zfn cpq
  by_cases e : dp.toNat ≤ k ∧ k < dp.toNat + n.toNat
  · rw [if_pos e, if_pos (by omega)]
    congr 2; omega
  · rw [if_neg e, if_neg (by omega)]
section HH
variable {K : KT} {y : YT} {d : Nat} {h : MH} {pc : Nat} {ls : List (Option Value)} {st : List Value} {Q : OT → MH → Prop}
theorem hp_put {a : Nat} {e : Bool × va_E} (k : ∀ h', Hp h h' a e 0 0 → MW K y d h' pc ls st Q) : MW K y d (hput h a e) pc ls st Q := k _ ⟨rfl, rfl, if_pos rfl, fun _ hb => if_neg hb⟩
theorem hp_new {e : Bool × va_E} {n : Nat} (k : ∀ h', Hp h h' h.1 e 1 n → MW K y d h' pc ls st Q) : MW K y d (hnew h e n) pc ls st Q := k _ ⟨rfl, rfl, if_pos rfl, fun _ hb => if_neg hb⟩
theorem h_alen (t : Nat) (ht : t < 8) {a : Nat} {w : Bool} {x : vp_A} (hdg : decode y.2.1 pc = .ok (.arraylength, 1)) (ha : h.2.2 a = some (w, .inl (kA K t, x))) (kk : MW K y d h (pc + 1) ls (vi ((x.1 : Nat) : Int) :: st) Q) : MW K y d h pc ls (.ref a :: st) Q := m_alen t ht hdg ha rfl (by
  have e : Int32.ofNat x.1 = Int32.ofInt ((x.1 : Nat) : Int) := rfl
  rw [e]; exact kk)
theorem h_aald5 {a n : Nat} {w : Bool} {f : Int → Option Nat} {i : Int} (hdg : decode y.2.1 pc = .ok (.aaload, 1)) (ha : h.2.2 a = some (w, oaE K n f)) (hi : 0 ≤ i ∧ i < n) (hn : n ≤ 2147483647) (kk : MW K y d h (pc + 1) ls (va_rf (f i) :: st) Q) : MW K y d h pc ls (vi i :: .ref a :: st) Q := m_aald 5 (by decide) rfl hdg ha (vin hi hn) (by rw [qfn_at hi hn]; exact kk)
theorem h_aald6 {a n : Nat} {w : Bool} {f : Int → Option Nat} {i : Int} (hdg : decode y.2.1 pc = .ok (.aaload, 1)) (ha : h.2.2 a = some (w, aaE K n f)) (hi : 0 ≤ i ∧ i < n) (hn : n ≤ 2147483647) (kk : MW K y d h (pc + 1) ls (va_rf (f i) :: st) Q) : MW K y d h pc ls (vi i :: .ref a :: st) Q := m_aald 6 (by decide) rfl hdg ha (vin hi hn) (by rw [qfn_at hi hn]; exact kk)
theorem h_aast {a n v : Nat} {f : Int → Option Nat} {i : Int} (hdg : decode y.2.1 pc = .ok (.aastore, 1)) (ha : h.2.2 a = some (true, oaE K n f)) (hv : IsO h v) (hi : 0 ≤ i ∧ i < n) (hn : n ≤ 2147483647) (kk : MW K y d (hput h a (true, oaE K n (upq f i (some v)))) (pc + 1) ls st Q) : MW K y d h pc ls (.ref v :: vi i :: .ref a :: st) Q := m_aast hdg ha hv (vin hi hn) (by rw [qfn_up hi hn]; exact kk)
theorem h_aastN {a n : Nat} {f : Int → Option Nat} {i : Int} (hdg : decode y.2.1 pc = .ok (.aastore, 1)) (ha : h.2.2 a = some (true, oaE K n f)) (hi : 0 ≤ i ∧ i < n) (hn : n ≤ 2147483647) (kk : MW K y d (hput h a (true, oaE K n (upq f i none))) (pc + 1) ls st Q) : MW K y d h pc ls (.null :: vi i :: .ref a :: st) Q := m_aastN hdg ha (vin hi hn) (by rw [qfn_up hi hn]; exact kk)
theorem h_anewO {index : Nat} {n : Int} (hdg : decode y.2.1 pc = .ok (.anewarray index, 3)) (hw : Cond.classLink y.1.cls index "java/lang/Object" ∈ lw_all) (hn : 0 ≤ n ∧ n ≤ 60000000) (hz : h.1 + 1 ≤ kC K ∧ h.2.1 + n.toNat ≤ kS K) (kk : MW K y d (hnew h (true, oaE K n.toNat (fun _ => none)) n.toNat) (pc + 3) ls (.ref h.1 :: st) Q) : MW K y d h pc ls (vi n :: st) Q := by
  have hi : In n := ⟨by omega, by omega⟩
  exact m_anewO hdg hw n.toNat (fun h9 => by have := (In.lt hi In0).mp h9; omega) hi.nat (by omega) hz kk
theorem h_newa0 {n : Int} (hdg : decode y.2.1 pc = .ok (.newarray .int, 2)) (hw : Cond.arrayClass .int ∈ lw_all) (hn : 0 ≤ n ∧ n ≤ 60000000) (hz : h.1 + 1 ≤ kC K ∧ h.2.1 + n.toNat ≤ kS K) (kk : MW K y d (hnew h (true, ia K n.toNat (fun _ => 0)) n.toNat) (pc + 2) ls (.ref h.1 :: st) Q) : MW K y d h pc ls (vi n :: st) Q := by
  have hi : In n := ⟨by omega, by omega⟩
  exact m_newa 0 (by decide) hdg rfl hw n.toNat (n.toNat, .inl (zfn (fun _ => 0))) (fun cA => vp_cell_i ..) (fun h9 => by have := (In.lt hi In0).mp h9; omega) hi.nat (by omega) hz kk
end HH
