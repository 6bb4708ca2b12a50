/-! bits: shifts, masks; longs out of ints -/
def vl (x : Int) : Int64 := (Int32.ofInt x).toInt64
def Rf (P : UInt32 → MH → Prop) : OT → MH → Prop := fun o h' => ∃ r : UInt32, o = .inl (some (.float r)) ∧ P r h'
def Rd (P : UInt64 → MH → Prop) : OT → MH → Prop := fun o h' => ∃ r : UInt64, o = .inl (some (.double r)) ∧ P r h'
theorem sh31 : ∀ k : Fin 32, Int32.ofInt (k.val : Int) &&& 31 = Int32.ofInt (k.val : Int) := by decide +kernel
theorem sh32 : ∀ k : Fin 32, ((Int32.ofInt (k.val : Int)).toBitVec.smod 32).toNat = k.val := by decide +kernel
theorem sh1p : ∀ k : Fin 31, (Int32.ofInt 1) <<< (Int32.ofInt (k.val : Int) &&& 31) = Int32.ofInt (2 ^ k.val) := by decide +kernel
theorem vi_shr {x z : Int} (hx : In x) (hz : 0 ≤ z ∧ z < 32) : Int32.ofInt x >>> (Int32.ofInt z &&& 31) = Int32.ofInt (x / 2 ^ z.toNat) := by
  obtain ⟨k, hk⟩ : ∃ k : Fin 32, z = (k.val : Int) := ⟨⟨z.toNat, by omega⟩, by simp; omega⟩
  subst hk
  rw [sh31 k]
  have e : ((k.val : Int)).toNat = k.val := by omega
  rw [e]
  have hp : (0 : Int) < 2 ^ k.val := Int.pow_pos (by omega)
  have h2 : In (x / 2 ^ k.val) := by
    constructor
    · have h3 := hx.1
      by_cases h0 : 0 ≤ x
      · have := Int.ediv_nonneg h0 (Int.le_of_lt hp); omega
      · have h4 : x ≤ x / 2 ^ k.val := by
          have h5 : x * 2 ^ k.val ≤ x := by
            have : x * 2 ^ k.val ≤ x * 1 := Int.mul_le_mul_of_nonpos_left (by omega) (by omega)
            omega
          exact (Int.le_ediv_iff_mul_le hp).mpr h5
        omega
    · have h3 := hx.2
      by_cases h0 : 0 ≤ x
      · have := Int.ediv_le_self (2 ^ k.val) h0; omega
      · have := Int.ediv_neg_of_neg_of_pos (by omega : x < 0) hp; omega
  rw [← Int32.toInt_inj, h2.ti]
  show (Int32.ofInt x >>> Int32.ofInt (k.val : Int)).toBitVec.toInt = _
  rw [Int32.toBitVec_shiftRight, BitVec.sshiftRight_eq', sh32 k, BitVec.toInt_sshiftRight, Int.shiftRight_eq_div_pow]
  have h9 : (Int32.ofInt x).toBitVec.toInt = x := hx.ti
  rw [h9]
  norm_cast
theorem vi_and1 (x : Int) : Int32.ofInt x &&& Int32.ofInt 1 = Int32.ofInt (x % 2) := by
  apply Int32.toBitVec_inj.mp
  rw [Int32.toBitVec_and]
  apply BitVec.eq_of_toNat_eq
  rw [BitVec.toNat_and]
  have e1 : (Int32.ofInt 1).toBitVec.toNat = 1 := rfl
  have e2 : ∀ z : Int, (Int32.ofInt z).toBitVec.toNat = (z % 4294967296).toNat := fun z => BitVec.toNat_ofInt z
  rw [e1, e2, e2, Nat.and_one_is_mod]
  omega
theorem vi_orM {x : Int} {k : Nat} (hx : 0 ≤ x ∧ x < 2 ^ k) (hk : k < 31) : Int32.ofInt x ||| Int32.ofInt (2 ^ k) = Int32.ofInt (x + 2 ^ k) := by
  obtain ⟨n, rfl⟩ : ∃ n : Nat, x = (n : Int) := ⟨x.toNat, by omega⟩
  have hn : n < 2 ^ k := by have := hx.2; exact_mod_cast this
  have hk2 : 2 ^ k ≤ 2 ^ 30 := Nat.pow_le_pow_right (by omega) (by omega)
  apply Int32.toBitVec_inj.mp
  rw [Int32.toBitVec_or]
  have e1 : (Int32.ofInt (n : Int)).toBitVec = BitVec.ofNat 32 n := BitVec.ofInt_natCast 32 n
  have e2 : (Int32.ofInt (2 ^ k : Int)).toBitVec = BitVec.ofNat 32 (2 ^ k) := by
    have : (2 ^ k : Int) = ((2 ^ k : Nat) : Int) := by norm_cast
    rw [this]; exact BitVec.ofInt_natCast 32 _
  have e3 : (Int32.ofInt ((n : Int) + 2 ^ k)).toBitVec = BitVec.ofNat 32 (n + 2 ^ k) := by
    have : ((n : Int) + 2 ^ k : Int) = ((n + 2 ^ k : Nat) : Int) := by norm_cast
    rw [this]; exact BitVec.ofInt_natCast 32 _
  rw [e1, e2, e3]
  apply BitVec.eq_of_toNat_eq
  rw [BitVec.toNat_or, BitVec.toNat_ofNat, BitVec.toNat_ofNat, BitVec.toNat_ofNat, Nat.mod_eq_of_lt (by omega), Nat.mod_eq_of_lt (by omega), Nat.mod_eq_of_lt (by omega)]
  have h5 := Nat.two_pow_add_eq_or_of_lt hn 1
  rw [Nat.mul_one] at h5
  rw [Nat.add_comm, h5, Nat.or_comm]
section BR
variable {K : KT} {y : YT} {d : Nat} {h : MH} {pc : Nat} {ls : List (Option Value)} {st : List Value} {Q : OT → MH → Prop}
theorem j_ishr {x z : Int} (hdg : decode y.2.1 pc = .ok (.ishr, 1)) (hx : In x) (hz : 0 ≤ z ∧ z < 32) (k : MW K y d h (pc + 1) ls (vi (x / 2 ^ z.toNat) :: st) Q) : MW K y d h pc ls (vi z :: vi x :: st) Q := m_ishr hdg (by rw [vi_shr hx hz]; exact k)
theorem j_ishl1 {z : Int} (hdg : decode y.2.1 pc = .ok (.ishl, 1)) (hz : 0 ≤ z ∧ z < 31) (k : MW K y d h (pc + 1) ls (vi (2 ^ z.toNat) :: st) Q) : MW K y d h pc ls (vi z :: vi 1 :: st) Q := m_ishl hdg (by
  have e := sh1p ⟨z.toNat, by omega⟩
  have e2 : ((z.toNat : Nat) : Int) = z := by omega
  dsimp only at e
  rw [e2] at e
  rw [e]; exact k)
theorem j_iand1 {x : Int} (hdg : decode y.2.1 pc = .ok (.iand, 1)) (k : MW K y d h (pc + 1) ls (vi (x % 2) :: st) Q) : MW K y d h pc ls (vi 1 :: vi x :: st) Q := m_iand hdg (by rw [vi_and1]; exact k)
theorem j_ior0 {x : Int} (hdg : decode y.2.1 pc = .ok (.ior, 1)) (k : MW K y d h (pc + 1) ls (vi x :: st) Q) : MW K y d h pc ls (vi 0 :: vi x :: st) Q := m_ior hdg (by
  have e : Int32.ofInt x ||| Int32.ofInt 0 = Int32.ofInt x := Int32.or_zero
  rw [e]; exact k)
theorem j_ior1 {x : Int} (hdg : decode y.2.1 pc = .ok (.ior, 1)) (hx : x = 0 ∨ x = 1) (k : MW K y d h (pc + 1) ls (vi 1 :: st) Q) : MW K y d h pc ls (vi 1 :: vi x :: st) Q := m_ior hdg (by
  have e : Int32.ofInt x ||| Int32.ofInt 1 = Int32.ofInt 1 := by rcases hx with rfl | rfl <;> rfl
  rw [e]; exact k)
theorem j_iorM {x : Int} {n : Nat} (hdg : decode y.2.1 pc = .ok (.ior, 1)) (hx : (0 ≤ x ∧ x < 2 ^ n) ∧ n < 31) (k : MW K y d h (pc + 1) ls (vi (x + 2 ^ n) :: st) Q) : MW K y d h pc ls (vi (2 ^ n) :: vi x :: st) Q := m_ior hdg (by rw [vi_orM hx.1 hx.2]; exact k)
theorem j_i2l {x : Int} (hdg : decode y.2.1 pc = .ok (.i2l, 1)) (k : MW K y d h (pc + 1) ls (.long (vl x) :: st) Q) : MW K y d h pc ls (vi x :: st) Q := m_i2l hdg rfl k
end BR
