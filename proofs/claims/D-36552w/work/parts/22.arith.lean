/-! vi: a Java int as a whole number; rules over it. Only compares, divisions and places of arrays ask for a range -/
def vi (n : Int) : Value := .int (Int32.ofInt n)
def In (n : Int) : Prop := -2147483648 ≤ n ∧ n ≤ 2147483647
theorem In.ti {n : Int} (h : In n) : (Int32.ofInt n).toInt = n := Int32.toInt_ofInt_of_le (by have := h.1; omega) (by have := h.2; omega)
theorem In.nat {n : Int} (h : In n) : (Int32.ofInt n).toNatClampNeg = n.toNat := Int32.toNatClampNeg_ofInt_of_le (by have := h.1; omega) (by have := h.2; omega)
theorem In.lt {x z : Int} (hx : In x) (hz : In z) : Int32.ofInt x < Int32.ofInt z ↔ x < z := by rw [Int32.lt_iff_toInt_lt, hx.ti, hz.ti]
theorem In.le {x z : Int} (hx : In x) (hz : In z) : Int32.ofInt x ≤ Int32.ofInt z ↔ x ≤ z := by rw [Int32.le_iff_toInt_le, hx.ti, hz.ti]
theorem In.eq {x z : Int} (hx : In x) (hz : In z) : Int32.ofInt x = Int32.ofInt z ↔ x = z := by rw [← Int32.toInt_inj, hx.ti, hz.ti]
theorem In0 : In 0 := ⟨by decide, by decide⟩
theorem vi_of (x : Int32) : Value.int x = vi x.toInt := by unfold vi; rw [Int32.ofInt_toInt]
theorem vi_in (x : Int32) : In x.toInt := ⟨by have := x.le_toInt; omega, by have := x.toInt_lt; omega⟩
theorem vi_inj {x z : Int} (hx : In x) (hz : In z) (h : vi x = vi z) : x = z := (hx.eq hz).mp (Value.int.inj h)
theorem vin {i : Int} {n : Nat} (h : 0 ≤ i ∧ i < n) (hn : n ≤ 2147483647) : vp_in (Int32.ofInt i) n := by
  have hi : In i := ⟨by omega, by omega⟩
  intro h9
  rcases h9 with h9 | h9
  · have := (In.lt hi In0).mp h9; omega
  · rw [hi.nat] at h9; omega
theorem vnat {i : Int} {n : Nat} (h : 0 ≤ i ∧ i < n) (hn : n ≤ 2147483647) : (((Int32.ofInt i).toNatClampNeg : Nat) : Int) = i := by
  have hi : In i := ⟨by omega, by omega⟩
  rw [hi.nat]; omega
def upz (f : Int → Int) (i x : Int) : Int → Int := fun j => if j = i then x else f j
def zfn (f : Int → Int) : Nat → Int32 := fun j => Int32.ofInt (f (j : Int))
def ia (K : KT) (n : Nat) (f : Int → Int) : va_E := .inl (kA K 0, n, .inl (zfn f))
def ba (K : KT) (n : Nat) (f : Int → Int) : va_E := .inl (kA K 2, n, .inl (zfn f))
def za (K : KT) (n : Nat) (f : Int → Int) : va_E := .inl (kA K 3, n, .inl (zfn f))
theorem zfn_upd {f : Int → Int} {i x : Int} {n : Nat} (h : 0 ≤ i ∧ i < n) (hn : n ≤ 2147483647) : upd (zfn f) (Int32.ofInt i).toNatClampNeg (Int32.ofInt x) = zfn (upz f i x) := by
  funext j
  have e := vnat h hn
  unfold upd zfn upz
  by_cases hj : j = (Int32.ofInt i).toNatClampNeg
  · rw [if_pos hj, if_pos (by rw [hj]; exact e)]
  · rw [if_neg hj, if_neg (fun h9 => hj (by omega))]
theorem zfn_at {f : Int → Int} {i : Int} {n : Nat} (h : 0 ≤ i ∧ i < n) (hn : n ≤ 2147483647) : Value.int (zfn f (Int32.ofInt i).toNatClampNeg) = vi (f i) := by
  unfold zfn vi; rw [vnat h hn]
theorem In.div {x z : Int} (hx : In x) (hz : In z) (h0 : 0 ≤ x) (h1 : 0 < z) : Int32.ofInt x / Int32.ofInt z = Int32.ofInt (x / z) := by
  have h2 : In (x / z) := ⟨by have := Int.ediv_nonneg h0 (by omega : 0 ≤ z); omega, by have := Int.ediv_le_self z h0; have := hx.2; omega⟩
  rw [← Int32.toInt_inj, h2.ti, Int32.toInt_div_of_ne_right _ _ (fun h9 => by have := (In.eq hz (⟨by decide, by decide⟩ : In (-1))).mp h9; omega), hx.ti, hz.ti, Int.tdiv_eq_ediv_of_nonneg h0]
section AR
variable {K : KT} {y : YT} {d : Nat} {h : MH} {pc : Nat} {ls : List (Option Value)} {st : List Value} {Q : OT → MH → Prop}
theorem mw_forget (i : Nat) (k : MW K y d h pc (ls.set i none) st Q) : MW K y d h pc ls st Q := by
  intro p e R s m args below meth c H locs cells slots la C hR hf hc hs h1 h2 hl
  refine k p e R s m args below meth c H locs cells slots la C hR hf hc hs h1 h2 ⟨hl.1, hl.2.1, fun j v hj => ?_⟩
  rw [List.getElem?_set] at hj
  split at hj
  · split at hj <;> cases hj
  · exact hl.2.2 j v hj
theorem j_iconst {n : Int} (hdg : decode y.2.1 pc = .ok (.iconst n, 1)) (k : MW K y d h (pc + 1) ls (vi n :: st) Q) : MW K y d h pc ls st Q := m_iconst hdg rfl k
theorem j_bipush {n : Int} (hdg : decode y.2.1 pc = .ok (.bipush n, 2)) (hv : (Int8.ofInt n).toInt32 = Int32.ofInt n) (k : MW K y d h (pc + 2) ls (vi n :: st) Q) : MW K y d h pc ls st Q := m_bipush hdg hv k
theorem j_sipush {n : Int} (hdg : decode y.2.1 pc = .ok (.sipush n, 3)) (hv : (Int16.ofInt n).toInt32 = Int32.ofInt n) (k : MW K y d h (pc + 3) ls (vi n :: st) Q) : MW K y d h pc ls st Q := m_sipush hdg hv k
theorem j_ldc {index : Nat} (n : Int) {v : Int32} (hdg : decode y.2.1 pc = .ok (.ldc index, 2)) (hw : Cond.constant y.1.cls index v ∈ lw_all) (hv : v = Int32.ofInt n) (k : MW K y d h (pc + 2) ls (vi n :: st) Q) : MW K y d h pc ls st Q := m_ldc hdg hw (by rw [hv]; exact k)
theorem j_ldcw {index : Nat} (n : Int) {v : Int32} (hdg : decode y.2.1 pc = .ok (.ldc_w index, 3)) (hw : Cond.constant y.1.cls index v ∈ lw_all) (hv : v = Int32.ofInt n) (k : MW K y d h (pc + 3) ls (vi n :: st) Q) : MW K y d h pc ls st Q := m_ldcw hdg hw (by rw [hv]; exact k)
theorem j_iload_n {i : Fin 4} {x : Int} (hdg : decode y.2.1 pc = .ok (.iload_n i, 1)) (hv : ls[(i : Nat)]? = some (some (vi x))) (k : MW K y d h (pc + 1) ls (vi x :: st) Q) : MW K y d h pc ls st Q := m_iload_n hdg hv k
theorem j_iload {i : Nat} {x : Int} (hdg : decode y.2.1 pc = .ok (.iload i, 2)) (hv : ls[i]? = some (some (vi x))) (k : MW K y d h (pc + 2) ls (vi x :: st) Q) : MW K y d h pc ls st Q := m_iload hdg hv k
theorem j_istore_n {i : Fin 4} {x : Int} (ls' : List (Option Value)) (hdg : decode y.2.1 pc = .ok (.istore_n i, 1)) (hn : (i : Nat) < y.2.2.1) (ho : stOK ls (i : Nat) = true) (hl : ls.set (i : Nat) (some (vi x)) = ls') (k : MW K y d h (pc + 1) ls' st Q) : MW K y d h pc ls (vi x :: st) Q := m_istore_n hdg hn ho (by subst hl; exact k)
theorem j_istore {i : Nat} {x : Int} (ls' : List (Option Value)) (hdg : decode y.2.1 pc = .ok (.istore i, 2)) (hn : i < y.2.2.1) (ho : stOK ls i = true) (hl : ls.set i (some (vi x)) = ls') (k : MW K y d h (pc + 2) ls' st Q) : MW K y d h pc ls (vi x :: st) Q := m_istore hdg hn ho (by subst hl; exact k)
theorem j_iinc {i : Nat} {n : Int} {x : Int} (ls' : List (Option Value)) (hdg : decode y.2.1 pc = .ok (.iinc i n, 3)) (hv : ls[i]? = some (some (vi x))) (hn : i < y.2.2.1) (ho : stOK ls i = true) (hl : ls.set i (some (vi (x + n))) = ls') (k : MW K y d h (pc + 3) ls' st Q) : MW K y d h pc ls st Q := m_iinc (Int32.ofInt n) hdg hv hn ho rfl (by rw [← Int32.ofInt_add]; subst hl; exact k)
theorem j_ineg {x : Int} (hdg : decode y.2.1 pc = .ok (.ineg, 1)) (k : MW K y d h (pc + 1) ls (vi (-x) :: st) Q) : MW K y d h pc ls (vi x :: st) Q := m_ineg hdg (by rw [← Int32.ofInt_neg]; exact k)
theorem j_idiv {x z : Int} (hdg : decode y.2.1 pc = .ok (.idiv, 1)) (hx : In x ∧ In z) (h0 : 0 ≤ x ∧ 0 < z) (k : MW K y d h (pc + 1) ls (vi (x / z) :: st) Q) : MW K y d h pc ls (vi z :: vi x :: st) Q := by
  refine m_idiv hdg (fun h9 => ?_) ?_
  · have := (In.eq hx.2 In0).mp h9; omega
  · rw [In.div hx.1 hx.2 h0.1 h0.2]; exact k
theorem j_irem {x z : Int} (hdg : decode y.2.1 pc = .ok (.irem, 1)) (hx : In x ∧ In z) (h0 : 0 ≤ x ∧ 0 < z) (k : MW K y d h (pc + 1) ls (vi (x % z) :: st) Q) : MW K y d h pc ls (vi z :: vi x :: st) Q := by
  refine m_irem hdg (fun h9 => ?_) ?_
  · have := (In.eq hx.2 In0).mp h9; omega
  · rw [In.div hx.1 hx.2 h0.1 h0.2, ← Int32.ofInt_mul, ← Int32.ofInt_sub]
    have e : x - x / z * z = x % z := by have := Int.emod_add_mul_ediv x z; rw [Int.mul_comm] at this; omega
    rw [e]; exact k
theorem j_iadd {x z : Int} (hdg : decode y.2.1 pc = .ok (.iadd, 1)) (k : MW K y d h (pc + 1) ls (vi (x + z) :: st) Q) : MW K y d h pc ls (vi z :: vi x :: st) Q := m_iadd hdg (by rw [← Int32.ofInt_add]; exact k)
theorem j_isub {x z : Int} (hdg : decode y.2.1 pc = .ok (.isub, 1)) (k : MW K y d h (pc + 1) ls (vi (x - z) :: st) Q) : MW K y d h pc ls (vi z :: vi x :: st) Q := m_isub hdg (by rw [← Int32.ofInt_sub]; exact k)
theorem j_imul {x z : Int} (hdg : decode y.2.1 pc = .ok (.imul, 1)) (k : MW K y d h (pc + 1) ls (vi (x * z) :: st) Q) : MW K y d h pc ls (vi z :: vi x :: st) Q := m_imul hdg (by rw [← Int32.ofInt_mul]; exact k)
theorem j_icmp_eq {x z : Int} {off : Int} (tgt : Nat) (hdg : decode y.2.1 pc = .ok (.if_icmp .eq off, 3)) (ht : (pc : Int) + off = (tgt : Int)) (hx : In x ∧ In z) (kt : x = z → MW K y d h tgt ls st Q) (kf : x ≠ z → MW K y d h (pc + 3) ls st Q) : MW K y d h pc ls (vi z :: vi x :: st) Q := m_icmp_eq tgt hdg ht (fun q => kt ((In.eq hx.1 hx.2).mp q)) (fun q => kf (fun e => q ((In.eq hx.1 hx.2).mpr e)))
theorem j_if_eq {x : Int} {off : Int} (tgt : Nat) (hdg : decode y.2.1 pc = .ok (.ifCond .eq off, 3)) (ht : (pc : Int) + off = (tgt : Int)) (hx : In x) (kt : x = 0 → MW K y d h tgt ls st Q) (kf : x ≠ 0 → MW K y d h (pc + 3) ls st Q) : MW K y d h pc ls (vi x :: st) Q := m_if_eq tgt hdg ht (fun q => kt ((In.eq hx In0).mp q)) (fun q => kf (fun e => q ((In.eq hx In0).mpr e)))
theorem j_icmp_ne {x z : Int} {off : Int} (tgt : Nat) (hdg : decode y.2.1 pc = .ok (.if_icmp .ne off, 3)) (ht : (pc : Int) + off = (tgt : Int)) (hx : In x ∧ In z) (kt : x ≠ z → MW K y d h tgt ls st Q) (kf : x = z → MW K y d h (pc + 3) ls st Q) : MW K y d h pc ls (vi z :: vi x :: st) Q := m_icmp_ne tgt hdg ht (fun q => kt (fun e => q ((In.eq hx.1 hx.2).mpr e))) (fun q => kf ((In.eq hx.1 hx.2).mp q))
theorem j_if_ne {x : Int} {off : Int} (tgt : Nat) (hdg : decode y.2.1 pc = .ok (.ifCond .ne off, 3)) (ht : (pc : Int) + off = (tgt : Int)) (hx : In x) (kt : x ≠ 0 → MW K y d h tgt ls st Q) (kf : x = 0 → MW K y d h (pc + 3) ls st Q) : MW K y d h pc ls (vi x :: st) Q := m_if_ne tgt hdg ht (fun q => kt (fun e => q ((In.eq hx In0).mpr e))) (fun q => kf ((In.eq hx In0).mp q))
theorem j_icmp_lt {x z : Int} {off : Int} (tgt : Nat) (hdg : decode y.2.1 pc = .ok (.if_icmp .lt off, 3)) (ht : (pc : Int) + off = (tgt : Int)) (hx : In x ∧ In z) (kt : x < z → MW K y d h tgt ls st Q) (kf : z ≤ x → MW K y d h (pc + 3) ls st Q) : MW K y d h pc ls (vi z :: vi x :: st) Q := m_icmp_lt tgt hdg ht (fun q => kt ((In.lt hx.1 hx.2).mp q)) (fun q => kf (Int.not_lt.mp fun e => q ((In.lt hx.1 hx.2).mpr e)))
theorem j_if_lt {x : Int} {off : Int} (tgt : Nat) (hdg : decode y.2.1 pc = .ok (.ifCond .lt off, 3)) (ht : (pc : Int) + off = (tgt : Int)) (hx : In x) (kt : x < 0 → MW K y d h tgt ls st Q) (kf : 0 ≤ x → MW K y d h (pc + 3) ls st Q) : MW K y d h pc ls (vi x :: st) Q := m_if_lt tgt hdg ht (fun q => kt ((In.lt hx In0).mp q)) (fun q => kf (Int.not_lt.mp fun e => q ((In.lt hx In0).mpr e)))
theorem j_icmp_ge {x z : Int} {off : Int} (tgt : Nat) (hdg : decode y.2.1 pc = .ok (.if_icmp .ge off, 3)) (ht : (pc : Int) + off = (tgt : Int)) (hx : In x ∧ In z) (kt : z ≤ x → MW K y d h tgt ls st Q) (kf : x < z → MW K y d h (pc + 3) ls st Q) : MW K y d h pc ls (vi z :: vi x :: st) Q := m_icmp_ge tgt hdg ht (fun q => kt ((In.le hx.2 hx.1).mp q)) (fun q => kf (Int.not_le.mp fun e => q ((In.le hx.2 hx.1).mpr e)))
theorem j_if_ge {x : Int} {off : Int} (tgt : Nat) (hdg : decode y.2.1 pc = .ok (.ifCond .ge off, 3)) (ht : (pc : Int) + off = (tgt : Int)) (hx : In x) (kt : 0 ≤ x → MW K y d h tgt ls st Q) (kf : x < 0 → MW K y d h (pc + 3) ls st Q) : MW K y d h pc ls (vi x :: st) Q := m_if_ge tgt hdg ht (fun q => kt ((In.le In0 hx).mp q)) (fun q => kf (Int.not_le.mp fun e => q ((In.le In0 hx).mpr e)))
theorem j_icmp_gt {x z : Int} {off : Int} (tgt : Nat) (hdg : decode y.2.1 pc = .ok (.if_icmp .gt off, 3)) (ht : (pc : Int) + off = (tgt : Int)) (hx : In x ∧ In z) (kt : z < x → MW K y d h tgt ls st Q) (kf : x ≤ z → MW K y d h (pc + 3) ls st Q) : MW K y d h pc ls (vi z :: vi x :: st) Q := m_icmp_gt tgt hdg ht (fun q => kt ((In.lt hx.2 hx.1).mp q)) (fun q => kf (Int.not_lt.mp fun e => q ((In.lt hx.2 hx.1).mpr e)))
theorem j_if_gt {x : Int} {off : Int} (tgt : Nat) (hdg : decode y.2.1 pc = .ok (.ifCond .gt off, 3)) (ht : (pc : Int) + off = (tgt : Int)) (hx : In x) (kt : 0 < x → MW K y d h tgt ls st Q) (kf : x ≤ 0 → MW K y d h (pc + 3) ls st Q) : MW K y d h pc ls (vi x :: st) Q := m_if_gt tgt hdg ht (fun q => kt ((In.lt In0 hx).mp q)) (fun q => kf (Int.not_lt.mp fun e => q ((In.lt In0 hx).mpr e)))
theorem j_icmp_le {x z : Int} {off : Int} (tgt : Nat) (hdg : decode y.2.1 pc = .ok (.if_icmp .le off, 3)) (ht : (pc : Int) + off = (tgt : Int)) (hx : In x ∧ In z) (kt : x ≤ z → MW K y d h tgt ls st Q) (kf : z < x → MW K y d h (pc + 3) ls st Q) : MW K y d h pc ls (vi z :: vi x :: st) Q := m_icmp_le tgt hdg ht (fun q => kt ((In.le hx.1 hx.2).mp q)) (fun q => kf (Int.not_le.mp fun e => q ((In.le hx.1 hx.2).mpr e)))
theorem j_if_le {x : Int} {off : Int} (tgt : Nat) (hdg : decode y.2.1 pc = .ok (.ifCond .le off, 3)) (ht : (pc : Int) + off = (tgt : Int)) (hx : In x) (kt : x ≤ 0 → MW K y d h tgt ls st Q) (kf : 0 < x → MW K y d h (pc + 3) ls st Q) : MW K y d h pc ls (vi x :: st) Q := m_if_le tgt hdg ht (fun q => kt ((In.le hx In0).mp q)) (fun q => kf (Int.not_le.mp fun e => q ((In.le hx In0).mpr e)))
/-- int arrays -/
theorem j_iald {a n : Nat} {w : Bool} {f : Int → Int} {i : Int} (hdg : decode y.2.1 pc = .ok (.iaload, 1)) (ha : h.2.2 a = some (w, ia K n f)) (hn : n ≤ 2147483647) (hi : 0 ≤ i ∧ i < n) (kk : MW K y d h (pc + 1) ls (vi (f i) :: st) Q) : MW K y d h pc ls (vi i :: .ref a :: st) Q := m_iald hdg ha (vin hi hn) (by rw [zfn_at hi hn]; exact kk)
theorem j_iast {a n : Nat} {f : Int → Int} {i x : Int} (hdg : decode y.2.1 pc = .ok (.iastore, 1)) (ha : h.2.2 a = some (true, ia K n f)) (hn : n ≤ 2147483647) (hi : 0 ≤ i ∧ i < n) (kk : MW K y d (hput h a (true, ia K n (upz f i x))) (pc + 1) ls st Q) : MW K y d h pc ls (vi x :: vi i :: .ref a :: st) Q := m_iast hdg ha (vin hi hn) (by rw [zfn_upd hi hn]; exact kk)
theorem j_zald {a n : Nat} {w : Bool} {f : Int → Int} {i : Int} (hdg : decode y.2.1 pc = .ok (.baload, 1)) (ha : h.2.2 a = some (w, za K n f)) (hn : n ≤ 2147483647) (hi : 0 ≤ i ∧ i < n) (kk : MW K y d h (pc + 1) ls (vi (f i) :: st) Q) : MW K y d h pc ls (vi i :: .ref a :: st) Q := m_zald hdg ha (vin hi hn) (by rw [zfn_at hi hn]; exact kk)
theorem j_zast {a n : Nat} {f : Int → Int} {i x : Int} (hdg : decode y.2.1 pc = .ok (.bastore, 1)) (ha : h.2.2 a = some (true, za K n f)) (hn : n ≤ 2147483647) (hi : 0 ≤ i ∧ i < n) (h01 : x = 0 ∨ x = 1) (kk : MW K y d (hput h a (true, za K n (upz f i x))) (pc + 1) ls st Q) : MW K y d h pc ls (vi x :: vi i :: .ref a :: st) Q := m_zast hdg ha (vin hi hn) (by
  have e : vp_nar .boolean (Int32.ofInt x) = Int32.ofInt x := by rcases h01 with rfl | rfl <;> decide
  rw [e, zfn_upd hi hn]; exact kk)
theorem j_bald {a n : Nat} {w : Bool} {f : Int → Int} {i : Int} (hdg : decode y.2.1 pc = .ok (.baload, 1)) (ha : h.2.2 a = some (w, ba K n f)) (hn : n ≤ 2147483647) (hi : 0 ≤ i ∧ i < n) (kk : MW K y d h (pc + 1) ls (vi (f i) :: st) Q) : MW K y d h pc ls (vi i :: .ref a :: st) Q := m_bald hdg ha (vin hi hn) (by rw [zfn_at hi hn]; exact kk)
/-- answers -/
def Rz (P : Int → MH → Prop) : OT → MH → Prop := fun o h' => ∃ r : Int, o = .inl (some (vi r)) ∧ P r h'
theorem kk_z {pc' : Nat} {P : Int → MH → Prop} (kk : ∀ (r : Int) (h' : MH), P r h' → MW K y d h' pc' ls (vi r :: st) Q) : ∀ v h', Rz P (.inl v) h' → MW K y d h' pc' ls (v.toList ++ st) Q := by
  rintro v h' ⟨r, e, hp⟩
  cases e
  exact kk r h' hp
theorem kx_z {P : Int → MH → Prop} : ∀ E q h', Rz P (.inr (E, q)) h' → MX K y d h' pc ls st E q Q := by
  rintro E q h' ⟨r, e, hp⟩
  cases e
theorem j_iret {x : Int} {P : Int → MH → Prop} (hdg : decode y.2.1 pc = .ok (.ireturn, 1)) (hr : y.2.2.2.1 = some .int) (hq : P x h) : MW K y d h pc ls [vi x] (Rz P) := m_iret hdg hr ⟨x, rfl, hq⟩
theorem j_zret {x : Int} {P : Int → MH → Prop} (hdg : decode y.2.1 pc = .ok (.ireturn, 1)) (hr : y.2.2.2.1 = some .boolean) (h01 : x = 0 ∨ x = 1) (hq : P x h) : MW K y d h pc ls [vi x] (Rz P) := m_zret hdg hr (by rcases h01 with rfl | rfl <;> rfl) ⟨x, rfl, hq⟩
theorem j_vret {P : MH → Prop} (hdg : decode y.2.1 pc = .ok (.return_, 1)) (hr : y.2.2.2.1 = none) (hq : P h) : MW K y d h pc ls [] (Rv P) := m_vret hdg hr ⟨rfl, hq⟩
end AR
/-- 1 for true -/
def bz (p : Prop) [Decidable p] : Int := if p then 1 else 0
theorem bz01 (p : Prop) [Decidable p] : bz p = 0 ∨ bz p = 1 := by unfold bz; split <;> simp
theorem bz_t {p : Prop} [Decidable p] (h : p) : (1 : Int) = bz p := by unfold bz; rw [if_pos h]
theorem bz_f {p : Prop} [Decidable p] (h : ¬ p) : (0 : Int) = bz p := by unfold bz; rw [if_neg h]
theorem bz_ne {p : Prop} [Decidable p] (h : bz p ≠ 0) : p := by unfold bz at h; split at h <;> simp_all
theorem bz_eq {p : Prop} [Decidable p] (h : bz p = 0) : ¬ p := by unfold bz at h; split at h <;> simp_all
theorem bz_in (p : Prop) [Decidable p] : In (bz p) := by unfold bz; split <;> exact ⟨by decide, by decide⟩
theorem j_bz_eq {K : KT} {y : YT} {d : Nat} {h : MH} {pc : Nat} {ls : List (Option Value)} {st : List Value} {Q : OT → MH → Prop} {p : Prop} [Decidable p] {off : Int} (tgt : Nat) (hdg : decode y.2.1 pc = .ok (.ifCond .eq off, 3)) (ht : (pc : Int) + off = (tgt : Int)) (kt : ¬ p → MW K y d h tgt ls st Q) (kf : p → MW K y d h (pc + 3) ls st Q) : MW K y d h pc ls (vi (bz p) :: st) Q := j_if_eq tgt hdg ht (bz_in p) (fun q => kt (bz_eq q)) (fun q => kf (bz_ne q))
theorem j_bz_ne {K : KT} {y : YT} {d : Nat} {h : MH} {pc : Nat} {ls : List (Option Value)} {st : List Value} {Q : OT → MH → Prop} {p : Prop} [Decidable p] {off : Int} (tgt : Nat) (hdg : decode y.2.1 pc = .ok (.ifCond .ne off, 3)) (ht : (pc : Int) + off = (tgt : Int)) (kt : p → MW K y d h tgt ls st Q) (kf : ¬ p → MW K y d h (pc + 3) ls st Q) : MW K y d h pc ls (vi (bz p) :: st) Q := j_if_ne tgt hdg ht (bz_in p) (fun q => kt (bz_ne q)) (fun q => kf (bz_eq q))
theorem mw_top {K : KT} {y : YT} {d : Nat} {h : MH} {pc : Nat} {ls : List (Option Value)} {st : List Value} {Q : OT → MH → Prop} {x x' : Int} (e : x = x') (k : MW K y d h pc ls (vi x' :: st) Q) : MW K y d h pc ls (vi x :: st) Q := by subst e; exact k
theorem mt_ofQ {K : KT} {nm : MethodName} {cc : ByteArray} {L : Nat} {rt : Option FieldType} {d : Nat} {args : List Value} {h : MH} {Q0 : OT → MH → Prop} (hy : plainName nm.cls = true) (hL : (lg_sl args).length ≤ L) (hm : ∀ Q : OT → MH → Prop, Q0 = Q → MW K (nm, cc, L, rt, none) d h 0 (mArgs args L) [] Q) : Mt K (nm, cc, L, rt, none) d args h Q0 := mt_ofW hy hL (hm Q0 rfl)
