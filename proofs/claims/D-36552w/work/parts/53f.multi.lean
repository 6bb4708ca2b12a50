/-! multianewarray of two dimensions -/
/-- the outer array behind k rounds: its first k places hold what was made -/
def mkO (o : Nat) (c0 : Cell) : Nat → Cell
  | 0 => c0
  | k + 1 => (mkO o c0 k).setSlot k (.ref (o + 1 + k))
/-- the state behind k rounds -/
def mk2 (T : State) (c0 ci : Cell) : Nat → State
  | 0 => T.pushCell c0
  | k + 1 => ((mk2 T c0 ci k).pushCell ci).setCell T.heap.size (mkO T.heap.size c0 (k + 1))
theorem mk2_vm (T : State) (c0 ci : Cell) : ∀ k, (mk2 T c0 ci k).vm = T.vm
  | 0 => rfl
  | k + 1 => mk2_vm T c0 ci k
theorem mk2_size (T : State) (c0 ci : Cell) : ∀ k, (mk2 T c0 ci k).heap.size = T.heap.size + 1 + k
  | 0 => by show (T.heap.push c0).size = _; simp
  | k + 1 => by
    show (((mk2 T c0 ci k).heap.push ci).setIfInBounds _ _).size = _
    simp [mk2_size T c0 ci k]; omega
theorem mk2_at (T : State) (c0 ci : Cell) : ∀ k, (mk2 T c0 ci k).heap[T.heap.size]? = some (mkO T.heap.size c0 k)
  | 0 => by show (T.heap.push c0)[_]? = _; simp [mkO]
  | k + 1 => by
    show (((mk2 T c0 ci k).heap.push ci).setIfInBounds _ _)[_]? = _
    rw [Array.getElem?_setIfInBounds_self_of_lt]
    rw [Array.size_push, mk2_size T c0 ci k]; omega
theorem mk2_used (T : State) (c0 ci : Cell) : ∀ k, (mk2 T c0 ci k).slotsUsed = T.slotsUsed + c0.slots.size + k * ci.slots.size
  | 0 => by show (T.pushCell c0).slotsUsed = _; simp
  | k + 1 => by
    show (((mk2 T c0 ci k).pushCell ci).setCell _ _).slotsUsed = _
    simp [mk2_used T c0 ci k, Nat.succ_mul]; omega
theorem mk2_top (T : State) (c0 ci : Cell) (f : JFrame) : ∀ k, mk2 (T.setTop f) c0 ci k = (mk2 T c0 ci k).setTop f
  | 0 => by show (T.setTop f).pushCell c0 = (T.pushCell c0).setTop f; simp
  | k + 1 => by
    show ((mk2 (T.setTop f) c0 ci k).pushCell ci).setCell _ _ = (((mk2 T c0 ci k).pushCell ci).setCell _ _).setTop f
    rw [mk2_top T c0 ci f k]; simp
theorem mkO_shape (o : Nat) (c0 : Cell) : ∀ k, (mkO o c0 k).cls = c0.cls ∧ (mkO o c0 k).vm = c0.vm ∧ (mkO o c0 k).slots.size = c0.slots.size
  | 0 => ⟨rfl, rfl, rfl⟩
  | k + 1 => by
    obtain ⟨a, b, c⟩ := mkO_shape o c0 k
    refine ⟨a, b, ?_⟩
    show ((mkO o c0 k).slots.setIfInBounds _ _).size = _
    simp [c]
theorem mkO_slots (o : Nat) (cA : ClassId) (n : Nat) : ∀ k, (mkO o { cls := cA, slots := Array.replicate n .null } k).slots = Array.ofFn (fun i : Fin n => va_rf (if (i : Nat) < k then some (o + 1 + (i : Nat)) else none))
  | 0 => by
    show Array.replicate n Value.null = _
    apply Array.ext
    · simp
    · intro i h1 h2; simp [va_rf]
  | k + 1 => by
    show ((mkO o { cls := cA, slots := Array.replicate n .null } k).slots).setIfInBounds k (.ref (o + 1 + k)) = _
    rw [mkO_slots o cA n k]
    apply Array.ext
    · simp
    · intro i h1 h2
      rw [Array.getElem_setIfInBounds (by simpa using h1)]
      simp only [Array.getElem_ofFn]
      by_cases e : k = i
      · subst e; rw [if_pos rfl, if_pos (by omega)]; rfl
      · rw [if_neg e]
        by_cases e2 : i < k
        · rw [if_pos e2, if_pos (by omega)]
        · rw [if_neg e2, if_neg (by omega)]
theorem multi_make {E : CtlPost} {e : Env} {d : Bool} {acts : List Action} {s : State} {Q : Addr → Pre} {cO cI cP : ClassId} {kO kI : Class} {n1 n2 : Int32} (hkO : s.vm.classes[cO]? = some kO) (hO : kO.kind = .array cI (.array .int)) (hkI : s.vm.classes[cI]? = some kI) (hI : kI.kind = .array cP .int) (h0 : (n1 == 0) = false) (h1 : ¬ n1 < 0) (h2 : ¬ n2 < 0) (l1 : n1.toNatClampNeg ≤ 1000) (l2 : n2.toNatClampNeg ≤ 1000) (hlim : 1000 ≤ e.platform.arrayLengthLimit ∧ 4000 ≤ e.platform.maxHeapBytes) (hcells : s.heap.size + 1 + n1.toNatClampNeg ≤ e.platform.maxCells) (hslots : s.slotsUsed + n1.toNatClampNeg + n1.toNatClampNeg * n2.toNatClampNeg ≤ e.platform.maxSlots) (hq : ∀ d' acts', Q s.heap.size d' acts' (mk2 s { cls := cO, slots := Array.replicate n1.toNatClampNeg .null } { cls := cI, slots := Array.replicate n2.toNatClampNeg (.int 0) } n1.toNatClampNeg)) : wp (Jvm.Op.multianewarray.make cO [n1, n2]) Q E e d acts s := by
  unfold Jvm.Op.multianewarray.make
  simp only [h1, if_false, wp_bind', W.theClass, hkO, Option.some.injEq, exists_eq_left', hO]

  refine W.newArray_of hkO hO (by omega) (by show ¬ _ * 4 > _; omega) (by omega) (by omega) rfl (fun acts1 => ?_)
  simp only [h0, Bool.false_eq_true, if_false, wp_bind', Std.Legacy.Range.forIn_eq_forIn_range']
  refine wp_forIn_inv (fun rest s' => ∃ k, k ≤ n1.toNatClampNeg ∧ rest = List.range' k (n1.toNatClampNeg - k) 1 ∧ s' = mk2 s { cls := cO, slots := Array.replicate n1.toNatClampNeg .null } { cls := cI, slots := Array.replicate n2.toNatClampNeg (.int 0) } k) _ _ ⟨0, Nat.zero_le _, by simp [Std.Legacy.Range.size], rfl⟩ (fun x rest s' d' acts' Q' hI hQ' => ?_) (fun s' d' acts' hI => ?_)
  · obtain ⟨k, hk, hr, rfl⟩ := hI
    obtain ⟨m, hm⟩ : ∃ m, n1.toNatClampNeg - k = m + 1 := by
      cases e : n1.toNatClampNeg - k with
      | zero => rw [e] at hr; cases hr
      | succ m => exact ⟨m, rfl⟩
    rw [hm, List.range'_succ] at hr
    obtain ⟨rfl, rfl⟩ := List.cons.inj hr
    have hv := mk2_vm s { cls := cO, slots := Array.replicate n1.toNatClampNeg .null } { cls := cI, slots := Array.replicate n2.toNatClampNeg (.int 0) } x
    have hz := mk2_size s { cls := cO, slots := Array.replicate n1.toNatClampNeg .null } { cls := cI, slots := Array.replicate n2.toNatClampNeg (.int 0) } x
    have hu := mk2_used s { cls := cO, slots := Array.replicate n1.toNatClampNeg .null } { cls := cI, slots := Array.replicate n2.toNatClampNeg (.int 0) } x
    have ha := mk2_at s { cls := cO, slots := Array.replicate n1.toNatClampNeg .null } { cls := cI, slots := Array.replicate n2.toNatClampNeg (.int 0) } x
    have hs := mkO_shape s.heap.size { cls := cO, slots := Array.replicate n1.toNatClampNeg .null } x
    simp only [Array.size_replicate] at hu hs
    have hmul : (x + 1) * n2.toNatClampNeg ≤ n1.toNatClampNeg * n2.toNatClampNeg := Nat.mul_le_mul_right _ (by omega)
    rw [Nat.succ_mul] at hmul
    unfold Jvm.Op.multianewarray.make
    simp only [h2, if_false, wp_bind', W.theClass, hv, hkI, Option.some.injEq, exists_eq_left', hI]
    refine W.newArray_of (by rw [hv]; exact hkI) hI (by omega) (by show ¬ _ * 4 > _; omega) (by omega) (by omega) rfl (fun acts2 => ?_)
    have hpz : ((mk2 s { cls := cO, slots := Array.replicate n1.toNatClampNeg .null } { cls := cI, slots := Array.replicate n2.toNatClampNeg (.int 0) } x).pushCell { cls := cI, slots := Array.replicate n2.toNatClampNeg (.int 0) }).heap[s.heap.size]? = some (mkO s.heap.size { cls := cO, slots := Array.replicate n1.toNatClampNeg .null } x) := by
      show ((mk2 s _ _ x).heap.push _)[_]? = _
      rw [Array.getElem?_push, if_neg (by rw [hz]; omega)]
      exact ha
    refine ⟨mkO s.heap.size { cls := cO, slots := Array.replicate n1.toNatClampNeg .null } x, hpz, ?_, ?_, ?_, ?_⟩
    · rw [hs.2.1]; intro h9; cases h9
    · rw [hs.2.2]; show x < n1.toNatClampNeg; omega
    · rw [hs.1, hs.2.1]
      show State.fitsSlot _ cO .none x _ = true
      simp [State.fitsSlot, State.slotType?, hv, hkO, hO]
      rfl
    · refine hQ' _ _ _ ⟨x + 1, by omega, ?_, ?_⟩
      · rw [show n1.toNatClampNeg - (x + 1) = m by omega]
      · rw [hz]
        show State.setCell _ _ _ = State.setCell _ _ (mkO _ _ (x + 1))
        rfl
  · obtain ⟨k, hk, hr, rfl⟩ := hI
    have hkn : k = n1.toNatClampNeg := by
      cases e : n1.toNatClampNeg - k with
      | zero => omega
      | succ m => rw [e] at hr; cases hr
    subst hkn
    rw [wp_pure']
    exact hq _ _
/-- what 'new int[n1][n2]' leaves: n1 + 1 arrays -/
def MuQ (K : KT) (h h' : MH) (n1 n2 : Nat) : Prop := h'.1 = h.1 + 1 + n1 ∧ h'.2.1 = h.2.1 + n1 + n1 * n2 ∧ (∃ f, h'.2.2 h.1 = some (true, aaE K n1 f) ∧ ∀ i : Int, 0 ≤ i → i < n1 → f i = some (h.1 + 1 + i.toNat)) ∧ (∀ i : Nat, i < n1 → h'.2.2 (h.1 + 1 + i) = some (true, ia K n2 (fun _ => 0))) ∧ ∀ b, b < h.1 → h'.2.2 b = h.2.2 b
/-- the picture behind k rounds -/
def mkH (K : KT) (h : MH) (n1 n2 : Nat) : Nat → MH
  | 0 => hnew h (true, aaE K n1 (fun _ => none)) n1
  | k + 1 => hput (hnew (mkH K h n1 n2 k) (true, ia K n2 (fun _ => 0)) n2) h.1 (true, aaE K n1 (fun i => if 0 ≤ i ∧ i < (k : Int) + 1 then some (h.1 + 1 + i.toNat) else none))
theorem mkH_1 (K : KT) (h : MH) (n1 n2 : Nat) : ∀ k, (mkH K h n1 n2 k).1 = h.1 + 1 + k
  | 0 => rfl
  | k + 1 => by show (mkH K h n1 n2 k).1 + 1 = _; rw [mkH_1 K h n1 n2 k]; omega
theorem mkH_2 (K : KT) (h : MH) (n1 n2 : Nat) : ∀ k, (mkH K h n1 n2 k).2.1 = h.2.1 + n1 + k * n2
  | 0 => by show h.2.1 + n1 = _; omega
  | k + 1 => by show (mkH K h n1 n2 k).2.1 + n2 = _; rw [mkH_2 K h n1 n2 k, Nat.succ_mul]; omega
theorem mkH_o (K : KT) (h : MH) (n1 n2 : Nat) : ∀ k : Nat, ∃ f, (mkH K h n1 n2 k).2.2 h.1 = some (true, aaE K n1 f) ∧ ∀ i : Int, (0 ≤ i ∧ i < k → f i = some (h.1 + 1 + i.toNat)) ∧ (¬ (0 ≤ i ∧ i < k) → f i = none)
  | 0 => ⟨_, if_pos rfl, fun i => ⟨fun h9 => by omega, fun _ => rfl⟩⟩
  | k + 1 => ⟨_, if_pos rfl, fun i => ⟨fun h9 => by rw [if_pos (by omega)], fun h9 => by rw [if_neg (by omega)]⟩⟩
theorem mkH_i (K : KT) (h : MH) (n1 n2 : Nat) : ∀ k i : Nat, i < k → (mkH K h n1 n2 k).2.2 (h.1 + 1 + i) = some (true, ia K n2 (fun _ => 0))
  | 0, _, h9 => absurd h9 (Nat.not_lt_zero _)
  | k + 1, i, h9 => by
    show (if h.1 + 1 + i = h.1 then _ else if h.1 + 1 + i = (mkH K h n1 n2 k).1 then _ else _) = _
    rw [if_neg (by omega), mkH_1]
    by_cases e : i = k
    · rw [if_pos (by omega)]
    · rw [if_neg (by omega)]; exact mkH_i K h n1 n2 k i (by omega)
theorem mkH_b (K : KT) (h : MH) (n1 n2 : Nat) : ∀ (k b : Nat), b < h.1 → (mkH K h n1 n2 k).2.2 b = h.2.2 b
  | 0, b, hb => if_neg (by omega)
  | k + 1, b, hb => by
    show (if b = h.1 then _ else if b = (mkH K h n1 n2 k).1 then _ else _) = _
    rw [if_neg (by omega), mkH_1, if_neg (by omega)]
    exact mkH_b K h n1 n2 k b hb
theorem mkH_Q (K : KT) (h : MH) (n1 n2 : Nat) : MuQ K h (mkH K h n1 n2 n1) n1 n2 := by
  obtain ⟨f, h1, h2⟩ := mkH_o K h n1 n2 n1
  exact ⟨mkH_1 K h n1 n2 n1, mkH_2 K h n1 n2 n1, ⟨f, h1, fun i a b => (h2 i).1 ⟨a, b⟩⟩, mkH_i K h n1 n2 n1, fun b hb => mkH_b K h n1 n2 n1 b hb⟩
section MU
variable {K : KT} {y : YT} {d : Nat} {h : MH} {pc : Nat} {ls : List (Option Value)} {st : List Value} {Q : OT → MH → Prop}
theorem m_multi {index : Nat} {n1 n2 : Int} (hdg : decode y.2.1 pc = .ok (.multianewarray index 2, 4)) (hw : Cond.classLink y.1.cls index "[[I" ∈ lw_all) (hn : 1 ≤ n1 ∧ n1 ≤ 1000) (hn2 : 0 ≤ n2 ∧ n2 ≤ 1000) (hz : h.1 + 1 + n1.toNat ≤ kC K ∧ h.2.1 + n1.toNat + n1.toNat * n2.toNat ≤ kS K) (kk : ∀ h', MuQ K h h' n1.toNat n2.toNat → MW K y d h' (pc + 4) ls (.ref h.1 :: st) Q) : MW K y d h pc ls (vi n2 :: vi n1 :: st) Q := by
  intro p e R s m args below meth c9 H locs cells slots la C9 hR hf hc9 hs h1 h2 hl
  have hz1 := hR.1
  have hz2 := hR.2.1
  obtain ⟨r1, r2, r3, r4⟩ := C9.rc
  have i1 : In n1 := ⟨by omega, by omega⟩
  have i2 : In n2 := ⟨by omega, by omega⟩
  intro T hT X
  have hpl : e.platform.magicAccessors = ({} : Platform).magicAccessors := by rw [X.admits.platform]
  obtain ⟨comp, cA, kA9, hcomp, hidx, hkA, hkindA, hnameA⟩ := arrayOverA_spec (args := #[]) (first := s) (o := none) (idx := []) (t := .int) (C9.gl.2.2.2.2.2.2.2.2.2.2.2.2.2.2.1)
  obtain ⟨kComp, hkComp, -⟩ := Vm.findClass_spec hcomp
  have hra6 : s.vm.findClass ("[" ++ (FieldType.array .int).toString) = some (kA K 6) := C9.ra 6 (by omega)
  have hra0 : s.vm.findClass ("[" ++ (FieldType.int).toString) = some (kA K 0) := C9.ra 0 (by omega)
  have hcA : cA = kA K 6 := Option.some.inj (hnameA.symm.trans hra6)
  have hcc : comp = kA K 0 := Option.some.inj (hcomp.symm.trans hra0)
  subst hcA
  subst hcc
  obtain ⟨cc', hfcc, hcl⟩ := Cond.classLink_spec C9.2.2.2.1 (C9.al hw args) e.platform hpl
  have hccA : cc' = kA K 6 := Option.some.inj (hfcc.symm.trans hra6)
  subst hccA
  obtain ⟨hg₁, hwarm₁, hready₁⟩ := State.classEntry (e := e) X.warmed hcl
  generalize T.vm.noted m.cls index (.cls (kA K 6)) = vm₁ at hg₁ hwarm₁ hready₁
  have hal : s.vm.Alike vm₁ := hwarm₁.alike
  obtain ⟨kA₁, hkA₁, heA⟩ := hal.2.2 _ _ hkA
  have hkindA₁ : kA₁.kind = .array (kA K 0) (.array .int) := by rw [heA]; exact hkindA
  obtain ⟨-, k0, hk0, cm0, hkk0⟩ := C9.arr 0 (by omega) 0 (fun j => .int 0)
  obtain ⟨k0', hk0', he0⟩ := hal.2.2 _ _ hk0
  have hkind0 : k0'.kind = .array cm0 .int := by rw [he0]; exact hkk0
  have X₁ := X.noted hwarm₁
  have hdg0 : decode c9.code (F0 m pc la (vi n2 :: vi n1 :: st)).pc = .ok (.multianewarray index 2, 4) := by rw [C9.2.1]; exact hdg
  have key : ∀ k, k ≤ n1.toNat → ∃ locs', Stand p (kL K) e R s m args below meth c9 (mk2 (T.setVm vm₁) { cls := kA K 6, slots := Array.replicate n1.toNat .null } { cls := kA K 0, slots := Array.replicate n2.toNat (.int 0) } k) (locs ++ locs') (cells + 1 + k) (slots + n1.toNat + k * n2.toNat) ∧ Rep K (mkH K h n1.toNat n2.toNat k) (mk2 (T.setVm vm₁) { cls := kA K 6, slots := Array.replicate n1.toNat .null } { cls := kA K 0, slots := Array.replicate n2.toNat (.int 0) } k).heap ∧ ∀ z ∈ locs', mFr K z.base := by
    have hTz : T.heap.size = h.1 := by rw [hT, hz1]
    intro k
    induction k with
    | zero =>
      intro _
      refine ⟨[], ?_, ?_, fun z hz => nomatch hz⟩
      · have := X₁.pushed { cls := kA K 6, slots := Array.replicate n1.toNat .null }
        rw [Array.size_replicate] at this
        rw [List.append_nil, Nat.zero_mul]
        exact this
      · have e1 : (mk2 (T.setVm vm₁) { cls := kA K 6, slots := Array.replicate n1.toNat .null } { cls := kA K 0, slots := Array.replicate n2.toNat (.int 0) } 0).heap = H.push { cls := kA K 6, slots := Array.replicate n1.toNat .null } := by rw [← hT]; rfl
        rw [e1]
        have e2 : (H.push { cls := kA K 6, slots := Array.replicate n1.toNat .null, vm := .none })[H.size]? = some { cls := kA K 6, slots := Array.replicate n1.toNat .null, vm := .none } := by simp
        refine hR.new e2 (by simp) (fun q hq => by rw [Array.getElem?_push, if_neg (Nat.ne_of_lt hq)]) (by simp) ⟨_, e2, rfl, (fun q => by cases q), fun _ => ⟨hR.2.2.1, rfl⟩, rfl, ?_⟩
        show _ = (vp_cell _ _).slots
        rw [vp_cell_q]
        show Array.replicate _ _ = Array.ofFn _
        apply Array.ext
        · simp
        · intro i h1 h2; simp [qfn, va_rf]
    | succ k ih =>
      intro hk
      obtain ⟨locs', X2, R2, hU2⟩ := ih (by omega)
      have hsz := mk2_size (T.setVm vm₁) { cls := kA K 6, slots := Array.replicate n1.toNat .null } { cls := kA K 0, slots := Array.replicate n2.toNat (.int 0) } k
      have hat := mk2_at (T.setVm vm₁) { cls := kA K 6, slots := Array.replicate n1.toNat .null } { cls := kA K 0, slots := Array.replicate n2.toNat (.int 0) } k
      have hsh := mkO_shape (T.setVm vm₁).heap.size { cls := kA K 6, slots := Array.replicate n1.toNat .null } k
      have hTz' : (T.setVm vm₁).heap.size = h.1 := hTz
      have Y := X2.pushed { cls := kA K 0, slots := Array.replicate n2.toNat (.int 0) }
      generalize hU9 : mk2 (T.setVm vm₁) { cls := kA K 6, slots := Array.replicate n1.toNat .null } { cls := kA K 0, slots := Array.replicate n2.toNat (.int 0) } k = U at X2 R2 hsz hat Y
      have hmk : mk2 (T.setVm vm₁) { cls := kA K 6, slots := Array.replicate n1.toNat .null } { cls := kA K 0, slots := Array.replicate n2.toNat (.int 0) } (k + 1) = (U.pushCell { cls := kA K 0, slots := Array.replicate n2.toNat (.int 0) }).setCell (T.setVm vm₁).heap.size ((mkO (T.setVm vm₁).heap.size { cls := kA K 6, slots := Array.replicate n1.toNat .null } k).setSlot k (.ref ((T.setVm vm₁).heap.size + 1 + k))) := by rw [← hU9]; rfl
      rw [hmk]
      generalize (T.setVm vm₁).heap.size = o at hsz hat hsh hTz' ⊢
      subst hTz'
      have e2 : (U.heap.push { cls := kA K 0, slots := Array.replicate n2.toNat (.int 0), vm := .none })[U.heap.size]? = some { cls := kA K 0, slots := Array.replicate n2.toNat (.int 0), vm := .none } := by simp
      have R3 : Rep K (hnew (mkH K h n1.toNat n2.toNat k) (true, ia K n2.toNat (fun _ => 0)) n2.toNat) (U.heap.push { cls := kA K 0, slots := Array.replicate n2.toNat (.int 0), vm := .none }) := by
        refine R2.new e2 (by simp) (fun q hq => by rw [Array.getElem?_push, if_neg (Nat.ne_of_lt hq)]) (by simp) ⟨_, e2, rfl, (fun q => by cases q), fun _ => ⟨R2.2.2.1, rfl⟩, rfl, ?_⟩
        show _ = (vp_cell _ _).slots
        rw [vp_cell_i]
        show Array.replicate _ _ = Array.ofFn _
        apply Array.ext
        · simp
        · intro i h1 h2; simp [zfn]
      have hat2 : (U.pushCell { cls := kA K 0, slots := Array.replicate n2.toNat (.int 0) }).heap[h.1]? = some (mkO h.1 { cls := kA K 6, slots := Array.replicate n1.toNat .null } k) := by
        show (U.heap.push _)[_]? = _
        rw [Array.getElem?_push, if_neg (by rw [hsz]; omega)]
        exact hat
      refine ⟨locs' ++ [⟨h.1, k⟩], ?_, ?_, fun z hz => ?_⟩
      · have Z := Y.stored hat2 k (.ref (h.1 + 1 + k))
        rw [Array.size_replicate] at Z
        rw [← List.append_assoc, Nat.succ_mul]
        have e3 : cells + 1 + (k + 1) = cells + 1 + k + 1 := by omega
        have e4 : slots + n1.toNat + (k * n2.toNat + n2.toNat) = slots + n1.toNat + k * n2.toNat + n2.toNat := by omega
        rw [e3, e4]
        exact Z
      · have hlt : h.1 < (U.heap.push { cls := kA K 0, slots := Array.replicate n2.toNat (.int 0), vm := .none }).size := by simp; omega
        have e5 : ((U.heap.push { cls := kA K 0, slots := Array.replicate n2.toNat (.int 0), vm := .none }).setIfInBounds h.1 ((mkO h.1 { cls := kA K 6, slots := Array.replicate n1.toNat .null } k).setSlot k (.ref (h.1 + 1 + k))))[h.1]? = some ((mkO h.1 { cls := kA K 6, slots := Array.replicate n1.toNat .null } k).setSlot k (.ref (h.1 + 1 + k))) := Array.getElem?_setIfInBounds_self_of_lt hlt
        have hat3 : (U.heap.push { cls := kA K 0, slots := Array.replicate n2.toNat (.int 0), vm := .none })[h.1]? = some (mkO h.1 { cls := kA K 6, slots := Array.replicate n1.toNat .null } k) := hat2
        show Rep K (hput _ h.1 _) ((U.heap.push _).setIfInBounds h.1 _)
        refine R3.put (by rw [← hz1]; exact hR.2.2.1) (by simp) (fun q hq => by simp [Array.getElem?_setIfInBounds, Ne.symm hq]) (by rw [e5, hat3]; simp [Cell.setSlot]) ⟨_, e5, ?_, ?_, fun _ => ⟨by rw [← hz1]; exact hR.2.2.1, ?_⟩, hsh.1, ?_⟩
        · show (mkO _ _ k).vm.isStatics = false
          rw [hsh.2.1]; rfl
        · show (mkO _ _ k).vm ≠ _
          rw [hsh.2.1]; intro q; cases q
        · exact hsh.2.1
        · show (mkO _ _ (k + 1)).slots = (vp_cell _ _).slots
          rw [vp_cell_q, mkO_slots]
          show Array.ofFn _ = Array.ofFn _
          congr 1
          funext i
          unfold qfn
          congr 1
          by_cases e : (i : Nat) < k + 1
          · rw [if_pos e]; dsimp only; rw [if_pos (by omega)]; simp
          · rw [if_neg e]; dsimp only; rw [if_neg (by omega)]
      · rcases List.mem_append.mp hz with hz | hz
        · exact hU2 z hz
        · rw [List.mem_singleton] at hz
          rw [hz]
          show (kB K).size ≤ h.1
          rw [← hz1]; exact hR.2.2.1
  obtain ⟨locs', XU, RU, hU⟩ := key _ (Nat.le_refl _)
  obtain ⟨t', a1, b1⟩ := kk _ (mkH_Q K h n1.toNat n2.toNat) p e R s m args below meth c9 _ (locs ++ locs') (cells + 1 + n1.toNat) (slots + n1.toNat + n1.toNat * n2.toNat) la C9 RU (fun z hz => (List.mem_append.mp hz).elim (hf z) (hU z)) (by rw [mk2_size]; show _ = T.heap.size + 1 + _; rw [hT]; omega) (by rw [RU.2.1, mkH_2]; omega) (by omega) (by omega) hl _ rfl XU
  refine ⟨t', ?_, b1⟩
  refine Steps.instr (c := c9) (by simpa using X.here) ?_
  rw [hdg0]
  dsimp only
  rw [C9.1]
  simp only [wpRun, exec, Jvm.Op.multianewarray.sem, wp_bind']
  rw [W.resolveClassAt_transfer (s := T.setTop (F0 m pc la (vi n2 :: vi n1 :: st))) (State.method?_setTop _ X.here.top) hg₁ hready₁, W.resolveClassAt_ready (s := (T.setTop (F0 m pc la (vi n2 :: vi n1 :: st))).setVm vm₁) (m := m) (by show (T.setTop _).method? = _; exact State.method?_setTop _ X.here.top) hready₁]
  rw [wp_bind', W.popN, if_neg (by decide)]
  refine ⟨F0 m pc la (vi n2 :: vi n1 :: st), State.topJava?_setTop' _ X.here.top, [vi n1, vi n2], st, rfl, rfl, ?_⟩
  have hT1 : ((T.setTop (F0 m pc la (vi n2 :: vi n1 :: st))).setVm vm₁).setTop { F0 m pc la (vi n2 :: vi n1 :: st) with stack := st } = (T.setVm vm₁).setTop (F0 m pc la st) := by simp [F0]
  rw [hT1]
  simp only [vi, List.mapM_cons, List.mapM_nil, wp_bind', wp_pure', W.mark]
  have hlim : e.platform.arrayLengthLimit = _ := Launch.admits_arrayLengthLimit X.admits
  have hmax : e.platform.maxHeapBytes = _ := Launch.admits_maxHeapBytes X.admits
  obtain ⟨hr1, hr2⟩ := X₁.roomAbove (a := 1 + n1.toNat) (b := n1.toNat + n1.toNat * n2.toNat) (by omega) (by omega)
  have hr1 : T.heap.size + (1 + n1.toNat) ≤ e.platform.maxCells := hr1
  have hr2 : T.slotsUsed + (n1.toNat + n1.toNat * n2.toNat) ≤ e.platform.maxSlots := hr2
  refine multi_make (cP := cm0) hkA₁ hkindA₁ hk0' hkind0 (by
    rw [beq_eq_false_iff_ne]; intro h9
    have := (In.eq i1 In0).mp h9; omega) (in_nn (by omega) i1) (in_nn hn2.1 i2) (by rw [i1.nat]; omega) (by rw [i2.nat]; omega) ⟨by rw [hlim]; omega, by rw [hmax]; omega⟩ (by rw [i1.nat]; show T.heap.size + 1 + _ ≤ _; omega) (by rw [i1.nat, i2.nat]; show T.slotsUsed + _ + _ ≤ _; omega) (fun d' acts' => ?_)
  rw [i1.nat, i2.nat, mk2_top]
  simp only [wp_bind', W.mark, W.pushRef]
  refine ⟨_, State.topJava?_setTop' _ XU.here.top, ?_⟩
  intro acts
  rw [State.setTop_setTop, afterInstr_ok]
  have e9 : Array.size ((T.setVm vm₁).setTop (F0 m pc la st)).heap = h.1 := by rw [← hz1, ← hT]; rfl
  rw [e9]
  exact a1
end MU
