/-! MW: the machine at one frame of one method, over a picture h of the whole heap. h = (its size, the slots used beyond the start's heap, its known cells; 'true': made in this run, it may be written). -/
abbrev MH : Type := Nat × Nat × (Nat → Option (Bool × va_E))
/-- a run's constants: launch, class numbers and slots, array classes, the heap at the start, the most cells and slots -/
abbrev KT : Type := Launch × va_G × (Nat → ClassId) × Heap × Nat × Nat × (Nat → Value) × (Nat → Nat)
abbrev OT : Type := Option Value ⊕ (String × Nat)
/-- a method: name, code, locals, answer, handlers -/
abbrev YT : Type := MethodName × ByteArray × Nat × Option FieldType × Option (List (Nat × Nat × Nat × Nat))
def kL (K : KT) : Launch := K.1
def kD (K : KT) : va_G := K.2.1
def kA (K : KT) : Nat → ClassId := K.2.2.1
def kB (K : KT) : Heap := K.2.2.2.1
def kC (K : KT) : Nat := K.2.2.2.2.1
def kS (K : KT) : Nat := K.2.2.2.2.2.1
/-- what the statics kStat hold at the start -/
def kV (K : KT) : Nat → Value := K.2.2.2.2.2.2.1
/-- addresses of the start: 0 "tdof", 1 "fault", 2 Object[].class -/
def kN (K : KT) : Nat → Nat := K.2.2.2.2.2.2.2
def mcl : List vw_C := [(RX1, TX1, 10), (RX2, TX2, 50), (RX3, TX3, 2), (RX4, TX4, 3), (RX5, TX5, 3), (RX6, TX6, 7), (RX7, TX7, 2), (RX8, TX8, 6), (RX9, TX9, 3), (RX10, TX10, 7), (RX11, TX11, 4), (RX12, TX12, 4), (RX13, TX13, 2), (RX14, TX14, 5), (RJ2, TJ2, 3), (RJ28, TJ28, 4), (RJ18, TJ18, 3), (RJ4, TJ4, 9), (RJ33, TJ33, 6), (RJ43, TJ43, 1), (RJ6, TJ6, 4), (RJ7, TJ7, 4), (RJ25, TJ25, 1), (RJ30, TJ30, 3), (RJ40, TJ40, 4), (RJ45, TJ45, 2), (RJ35, TJ35, 8)]
/-- the statics that are read -/
def kStat : List (String × String × String) := [("java/util/ArrayList", "DEFAULTCAPACITY_EMPTY_ELEMENTDATA", "[Ljava/lang/Object;"), ("java/lang/String", "COMPACT_STRINGS", "Z"), ("jdk/internal/util/Preconditions", "SIOOBE_FORMATTER", "Ljava/util/function/BiFunction;"), ("java/lang/StringUTF16", "$assertionsDisabled", "Z"), ("java/lang/StringUTF16", "HI_BYTE_SHIFT", "I"), ("java/lang/StringUTF16", "LO_BYTE_SHIFT", "I"), ("java/lang/Integer", "DigitOnes", "[B"), ("java/lang/Integer", "DigitTens", "[B"), ("java/util/BitSet", "$assertionsDisabled", "Z"), ("java/lang/Integer$IntegerCache", "high", "I"), ("java/lang/Integer$IntegerCache", "cache", "[Ljava/lang/Integer;"), ("java/util/Arrays$LegacyMergeSort", "userRequested", "Z"), ("java/util/ComparableTimSort", "$assertionsDisabled", "Z"), ("java/util/TreeSet", "PRESENT", "Ljava/lang/Object;")]
/-- the exceptions that are thrown, of which none is another -/
def kEx : List String := [RJ12, RJ13, RJ17, RJ14, RJ31, RJ47, RX6]
/-- the array classes by number -/
def kTy : Nat → FieldType
  | 0 => .int
  | 1 => .long
  | 2 => .byte
  | 3 => .boolean
  | 4 => .double
  | 5 => .object "java/lang/Object"
  | 6 => .array .int
  | _ => .object "java/lang/Integer"
def uz (H : Heap) (b : Nat) : Nat := ((H.toList.drop b).map (fun c => c.slots.size)).sum
/-- what the heap holds at a: an array or an object. Cells of the start's heap may be of any making but statics -/
def mAt (K : KT) (a : Nat) (e : Bool × va_E) (H : Heap) : Prop := ∃ cell : Cell, H[a]? = some cell ∧ cell.vm.isStatics = false ∧ cell.vm ≠ .unknown ∧ (e.1 = true → (kB K).size ≤ a ∧ cell.vm = .none) ∧
  match e.2 with
  | .inl x => cell.cls = x.1 ∧ cell.slots = (vp_cell x.1 x.2).slots
  | .inr o => ∃ r : vw_C, mcl[o.1]? = some r ∧ cell.cls = (kD K).1 o.1 ∧ o.2.length = r.2.2 ∧ ∀ k, k < r.2.2 → cell.slots[(kD K).2 o.1 k]? = some (vp_V o.2 k)
def Rep (K : KT) (h : MH) (H : Heap) : Prop := H.size = h.1 ∧ uz H (kB K).size = h.2.1 ∧ (kB K).size ≤ H.size ∧ (∀ a, a < (kB K).size → H[a]? = (kB K)[a]?) ∧ ∀ a e, h.2.2 a = some e → mAt K a e H
def mFr (K : KT) : Addr → Prop := fun a => (kB K).size ≤ a
/-- what the start gives beside the tables' words -/
def mBoot (K : KT) (U : State) : Prop := (∀ (i : Nat) (q : String × String × String), kStat[i]? = some q → va_Z q.1 q.2.1 q.2.2 (kV K i) (mFr K) U U.heap) ∧ vx_Zq Bundle.tN "UNASSIGNED_STACK" Bundle.steD (mFr K) U U.heap ∧ vx_Zq Bundle.tN "SUPPRESSED_SENTINEL" Bundle.listD (mFr K) U U.heap ∧ vk_R "Lastbus" 474 "tdof" (kN K 0) U ∧ vk_R "Lastbus$Fault" 1 "fault" (kN K 1) U ∧ va_Mi "[Ljava/lang/Object;" (kN K 2) U ∧ (∀ a ∈ kEx, ∀ b ∈ kEx, a ≠ b → va_Nc a b U) ∧ (∀ i, i < 8 → ArrOfT U (kA K i) (kTy i)) ∧ (∀ i, i < 7 → va_RA U (kA K i) (kTy i)) ∧ va_AO "java/lang/Object" U ∧ (Cond.arrayOver (.array .int)).before #[] U = true ∧ (kL K).stackTraces = false
/-- words that stay under warmer tables, whatever the arguments -/
def isNest : Cond → Bool
  | .fieldLinkNest .. => true
  | .methodLinkNest .. => true
  | _ => false
def glW (w : Cond) : Bool := goodWord w || (w.onTables && w.keepsCast) || isNest w
/-- what holds all through a run, of the tables and of the start's heap -/
def Glob (K : KT) (U : State) : Prop := va_K (kD K) mcl [] U ∧ (∀ w ∈ lw_tbl, glW w = true → w.before #[] U = true) ∧ (∀ a, a < (kB K).size → U.heap[a]? = (kB K)[a]?) ∧ (kB K).size ≤ U.heap.size ∧ mBoot K U
def mQc (K : KT) (Q : OT → MH → Prop) : Array Value → State → Outcome → State → Prop := fun _ _ o t => ∃ (v : Option Value) (h' : MH), o = .returned v ∧ Rep K h' t.heap ∧ Q (.inl v) h'
def mXC (K : KT) (Q : OT → MH → Prop) : String → Addr → State → State → Prop := fun E q _ t => ∃ h' : MH, Rep K h' t.heap ∧ Q (.inr (E, q)) h'
def lsR (la : Array Slot) (nL : Nat) (ls : List (Option Value)) : Prop := la.size = nL ∧ lv_wf la ∧ ∀ (i : Nat) (v : Value), ls[i]? = some (some v) → la[i]? = some (.val v)
/-- the frame's surroundings: d frames are left -/
def MWc (K : KT) (y : YT) (d : Nat) (p : Program) (R : Room) (s : State) (m : MethodId) (meth : Method) (c : Code) : Prop :=
  p.tables.exec = Jvm.exec ∧ c.code = y.2.1 ∧ c.maxLocals = y.2.2.1 ∧ s.vm.findClass y.1.cls = some m.cls ∧ meth.sig.returnType = y.2.2.2.1 ∧ meth.locks = false ∧ meth.name = y.1.name ∧
  c.exceptionTable.toList = tableOf (y.2.2.2.2.getD []) ∧ Glob K s ∧ d ≤ R.frames ∧ 64 * d ≤ R.locals ∧ R.cells = kC K - s.heap.size ∧ R.slots = kS K - uz s.heap (kB K).size
def MW (K : KT) (y : YT) (d : Nat) (h : MH) (pc : Nat) (ls : List (Option Value)) (st : List Value) (Q : OT → MH → Prop) : Prop :=
  ∀ (p : Program) (e : Env) (R : Room) (s : State) (m : MethodId) (args : Array Value) (below : List Frame) (meth : Method) (c : Code) (H : Heap) (locs : List Loc) (cells slots : Nat) (la : Array Slot),
    MWc K y d p R s m meth c → Rep K h H → (∀ z ∈ locs, mFr K z.base) → s.heap.size + cells = H.size → uz s.heap (kB K).size + slots = uz H (kB K).size → cells ≤ R.cells → slots ≤ R.slots → lsR la y.2.2.1 ls →
    W p (kL K) e R s m args below meth c H locs cells slots (vx_MQ below (mQc K Q) (mXC K Q) args s R.cells R.slots (mFr K)) (F0 m pc la st)
theorem MWc.tb {K : KT} {y : YT} {d : Nat} {p : Program} {R : Room} {s : State} {m : MethodId} {meth : Method} {c : Code} (C : MWc K y d p R s m meth c) {w : Cond} (hw : w ∈ lw_tbl) (hg : glW w = true) (ht : w.onTables = true) (args : Array Value) : w.before args s = true := va_tabs ht rfl (C.2.2.2.2.2.2.2.2.1.2.1 w hw hg)
theorem MWc.al {K : KT} {y : YT} {d : Nat} {p : Program} {R : Room} {s : State} {m : MethodId} {meth : Method} {c : Code} (C : MWc K y d p R s m meth c) {w : Cond} (hw : w ∈ lw_all) (args : Array Value) : w.before args s = true := by
  have hg : goodWord w = true := (List.mem_filter.mp hw).2
  have h1 : w.before #[] s = true := C.2.2.2.2.2.2.2.2.1.2.1 w (lw_all_tbl hw) (by unfold glW; rw [hg]; rfl)
  have h2 := word_at (a' := args) (State.WarmedH.refl s) (good_of_word hg) h1
  exact h2
section MWR
variable {K : KT} {y : YT} {d : Nat} {h : MH} {pc : Nat} {ls : List (Option Value)} {st : List Value} {Q : OT → MH → Prop}

theorem m_iconst {n : Int} {v : Int32} (hdg : decode y.2.1 pc = .ok (.iconst n, 1)) (hv : Int32.ofInt n = v) (k : MW K y d h (pc + 1) ls (.int v :: st) Q) : MW K y d h pc ls (st) Q := by
  intro p e R s m args below meth c H locs cells slots la C hR hf hc hs h1 h2 hl
  exact lv_iconst C.1 C.2.1 hdg hv (k p e R s m args below meth c H locs cells slots la C hR hf hc hs h1 h2 hl)
theorem m_bipush {n : Int} {v : Int32} (hdg : decode y.2.1 pc = .ok (.bipush n, 2)) (hv : (Int8.ofInt n).toInt32 = v) (k : MW K y d h (pc + 2) ls (.int v :: st) Q) : MW K y d h pc ls (st) Q := by
  intro p e R s m args below meth c H locs cells slots la C hR hf hc hs h1 h2 hl
  exact lv_bipush C.1 C.2.1 hdg hv (k p e R s m args below meth c H locs cells slots la C hR hf hc hs h1 h2 hl)
theorem m_sipush {n : Int} {v : Int32} (hdg : decode y.2.1 pc = .ok (.sipush n, 3)) (hv : (Int16.ofInt n).toInt32 = v) (k : MW K y d h (pc + 3) ls (.int v :: st) Q) : MW K y d h pc ls (st) Q := by
  intro p e R s m args below meth c H locs cells slots la C hR hf hc hs h1 h2 hl
  exact lv_sipush C.1 C.2.1 hdg hv (k p e R s m args below meth c H locs cells slots la C hR hf hc hs h1 h2 hl)
theorem m_lconst {n : Fin 2} {v : Int64} (hdg : decode y.2.1 pc = .ok (.lconst n, 1)) (hv : Int64.ofNat (n : Nat) = v) (k : MW K y d h (pc + 1) ls (.long v :: st) Q) : MW K y d h pc ls (st) Q := by
  intro p e R s m args below meth c H locs cells slots la C hR hf hc hs h1 h2 hl
  exact lv_lconst C.1 C.2.1 hdg hv (k p e R s m args below meth c H locs cells slots la C hR hf hc hs h1 h2 hl)
theorem m_fconst0 (hdg : decode y.2.1 pc = .ok (.fconst 0, 1)) (k : MW K y d h (pc + 1) ls (.float FP.fconst0 :: st) Q) : MW K y d h pc ls (st) Q := by
  intro p e R s m args below meth c H locs cells slots la C hR hf hc hs h1 h2 hl
  exact lv_fconst0 C.1 C.2.1 hdg (k p e R s m args below meth c H locs cells slots la C hR hf hc hs h1 h2 hl)
theorem m_dconst0 (hdg : decode y.2.1 pc = .ok (.dconst 0, 1)) (k : MW K y d h (pc + 1) ls (.double FP.dconst0 :: st) Q) : MW K y d h pc ls (st) Q := by
  intro p e R s m args below meth c H locs cells slots la C hR hf hc hs h1 h2 hl
  exact lv_dconst0 C.1 C.2.1 hdg (k p e R s m args below meth c H locs cells slots la C hR hf hc hs h1 h2 hl)
theorem m_null (hdg : decode y.2.1 pc = .ok (.aconst_null, 1)) (k : MW K y d h (pc + 1) ls (.null :: st) Q) : MW K y d h pc ls (st) Q := by
  intro p e R s m args below meth c H locs cells slots la C hR hf hc hs h1 h2 hl
  exact lv_null C.1 C.2.1 hdg (k p e R s m args below meth c H locs cells slots la C hR hf hc hs h1 h2 hl)
theorem m_ldc {index : Nat} {v : Int32} (hdg : decode y.2.1 pc = .ok (.ldc index, 2)) (hw : Cond.constant y.1.cls index v ∈ lw_all) (k : MW K y d h (pc + 2) ls (.int v :: st) Q) : MW K y d h pc ls (st) Q := by
  intro p e R s m args below meth c H locs cells slots la C hR hf hc hs h1 h2 hl
  exact lv_ldc C.1 C.2.1 C.2.2.2.1 (C.al hw _) hdg (k p e R s m args below meth c H locs cells slots la C hR hf hc hs h1 h2 hl)
theorem m_ldcw {index : Nat} {v : Int32} (hdg : decode y.2.1 pc = .ok (.ldc_w index, 3)) (hw : Cond.constant y.1.cls index v ∈ lw_all) (k : MW K y d h (pc + 3) ls (.int v :: st) Q) : MW K y d h pc ls (st) Q := by
  intro p e R s m args below meth c H locs cells slots la C hR hf hc hs h1 h2 hl
  exact lv_ldcw C.1 C.2.1 C.2.2.2.1 (C.al hw _) hdg (k p e R s m args below meth c H locs cells slots la C hR hf hc hs h1 h2 hl)
theorem m_ldc2 {index : Nat} {v : Int64} (hdg : decode y.2.1 pc = .ok (.ldc2_w index, 3)) (hw : Cond.constantLong y.1.cls index v ∈ lw_all) (k : MW K y d h (pc + 3) ls (.long v :: st) Q) : MW K y d h pc ls (st) Q := by
  intro p e R s m args below meth c H locs cells slots la C hR hf hc hs h1 h2 hl
  exact lv_ldc2 C.1 C.2.1 C.2.2.2.1 (C.al hw _) hdg (k p e R s m args below meth c H locs cells slots la C hR hf hc hs h1 h2 hl)
theorem m_iload_n {i : Fin 4} {x : Int32} (hdg : decode y.2.1 pc = .ok (.iload_n i, 1)) (hv : ls[(i : Nat)]? = some (some (.int x))) (k : MW K y d h (pc + 1) ls (.int x :: st) Q) : MW K y d h pc ls (st) Q := by
  intro p e R s m args below meth c H locs cells slots la C hR hf hc hs h1 h2 hl
  exact lv_iload_n C.1 C.2.1 hdg rfl (hl.2.2 _ _ hv) (k p e R s m args below meth c H locs cells slots la C hR hf hc hs h1 h2 hl)
theorem m_iload {i : Nat} {x : Int32} (hdg : decode y.2.1 pc = .ok (.iload i, 2)) (hv : ls[i]? = some (some (.int x))) (k : MW K y d h (pc + 2) ls (.int x :: st) Q) : MW K y d h pc ls (st) Q := by
  intro p e R s m args below meth c H locs cells slots la C hR hf hc hs h1 h2 hl
  exact lv_iload C.1 C.2.1 hdg (hl.2.2 _ _ hv) (k p e R s m args below meth c H locs cells slots la C hR hf hc hs h1 h2 hl)
theorem m_lload_n {i : Fin 4} {x : Int64} (hdg : decode y.2.1 pc = .ok (.lload_n i, 1)) (hv : ls[(i : Nat)]? = some (some (.long x))) (k : MW K y d h (pc + 1) ls (.long x :: st) Q) : MW K y d h pc ls (st) Q := by
  intro p e R s m args below meth c H locs cells slots la C hR hf hc hs h1 h2 hl
  exact lv_lload_n C.1 C.2.1 hdg rfl (hl.2.2 _ _ hv) (k p e R s m args below meth c H locs cells slots la C hR hf hc hs h1 h2 hl)
theorem m_lload {i : Nat} {x : Int64} (hdg : decode y.2.1 pc = .ok (.lload i, 2)) (hv : ls[i]? = some (some (.long x))) (k : MW K y d h (pc + 2) ls (.long x :: st) Q) : MW K y d h pc ls (st) Q := by
  intro p e R s m args below meth c H locs cells slots la C hR hf hc hs h1 h2 hl
  exact lv_lload C.1 C.2.1 hdg (hl.2.2 _ _ hv) (k p e R s m args below meth c H locs cells slots la C hR hf hc hs h1 h2 hl)
theorem m_fload_n {i : Fin 4} {x : UInt32} (hdg : decode y.2.1 pc = .ok (.fload_n i, 1)) (hv : ls[(i : Nat)]? = some (some (.float x))) (k : MW K y d h (pc + 1) ls (.float x :: st) Q) : MW K y d h pc ls (st) Q := by
  intro p e R s m args below meth c H locs cells slots la C hR hf hc hs h1 h2 hl
  exact lv_fload_n C.1 C.2.1 hdg rfl (hl.2.2 _ _ hv) (k p e R s m args below meth c H locs cells slots la C hR hf hc hs h1 h2 hl)
theorem m_fload {i : Nat} {x : UInt32} (hdg : decode y.2.1 pc = .ok (.fload i, 2)) (hv : ls[i]? = some (some (.float x))) (k : MW K y d h (pc + 2) ls (.float x :: st) Q) : MW K y d h pc ls (st) Q := by
  intro p e R s m args below meth c H locs cells slots la C hR hf hc hs h1 h2 hl
  exact lv_fload C.1 C.2.1 hdg (hl.2.2 _ _ hv) (k p e R s m args below meth c H locs cells slots la C hR hf hc hs h1 h2 hl)
theorem m_dload_n {i : Fin 4} {x : UInt64} (hdg : decode y.2.1 pc = .ok (.dload_n i, 1)) (hv : ls[(i : Nat)]? = some (some (.double x))) (k : MW K y d h (pc + 1) ls (.double x :: st) Q) : MW K y d h pc ls (st) Q := by
  intro p e R s m args below meth c H locs cells slots la C hR hf hc hs h1 h2 hl
  exact lv_dload_n C.1 C.2.1 hdg rfl (hl.2.2 _ _ hv) (k p e R s m args below meth c H locs cells slots la C hR hf hc hs h1 h2 hl)
theorem m_dload {i : Nat} {x : UInt64} (hdg : decode y.2.1 pc = .ok (.dload i, 2)) (hv : ls[i]? = some (some (.double x))) (k : MW K y d h (pc + 2) ls (.double x :: st) Q) : MW K y d h pc ls (st) Q := by
  intro p e R s m args below meth c H locs cells slots la C hR hf hc hs h1 h2 hl
  exact lv_dload C.1 C.2.1 hdg (hl.2.2 _ _ hv) (k p e R s m args below meth c H locs cells slots la C hR hf hc hs h1 h2 hl)
theorem m_aload_n {i : Fin 4} {x : Nat} (hdg : decode y.2.1 pc = .ok (.aload_n i, 1)) (hv : ls[(i : Nat)]? = some (some (.ref x))) (k : MW K y d h (pc + 1) ls (.ref x :: st) Q) : MW K y d h pc ls (st) Q := by
  intro p e R s m args below meth c H locs cells slots la C hR hf hc hs h1 h2 hl
  exact lv_aload_n C.1 C.2.1 hdg rfl (hl.2.2 _ _ hv) (k p e R s m args below meth c H locs cells slots la C hR hf hc hs h1 h2 hl)
theorem m_aload_nN {i : Fin 4} (hdg : decode y.2.1 pc = .ok (.aload_n i, 1)) (hv : ls[(i : Nat)]? = some (some .null)) (k : MW K y d h (pc + 1) ls (.null :: st) Q) : MW K y d h pc ls (st) Q := by
  intro p e R s m args below meth c H locs cells slots la C hR hf hc hs h1 h2 hl
  exact lv_aload_nN C.1 C.2.1 hdg rfl (hl.2.2 _ _ hv) (k p e R s m args below meth c H locs cells slots la C hR hf hc hs h1 h2 hl)
theorem m_aload_nq {i : Fin 4} {x : Option Nat} (hdg : decode y.2.1 pc = .ok (.aload_n i, 1)) (hv : ls[(i : Nat)]? = some (some (va_rf x))) (k : MW K y d h (pc + 1) ls (va_rf x :: st) Q) : MW K y d h pc ls st Q := by
  cases x with
  | none => exact m_aload_nN hdg hv k
  | some x => exact m_aload_n hdg hv k
theorem m_aload {i : Nat} {x : Nat} (hdg : decode y.2.1 pc = .ok (.aload i, 2)) (hv : ls[i]? = some (some (.ref x))) (k : MW K y d h (pc + 2) ls (.ref x :: st) Q) : MW K y d h pc ls (st) Q := by
  intro p e R s m args below meth c H locs cells slots la C hR hf hc hs h1 h2 hl
  exact lv_aload C.1 C.2.1 hdg (hl.2.2 _ _ hv) (k p e R s m args below meth c H locs cells slots la C hR hf hc hs h1 h2 hl)
theorem m_aloadN {i : Nat} (hdg : decode y.2.1 pc = .ok (.aload i, 2)) (hv : ls[i]? = some (some .null)) (k : MW K y d h (pc + 2) ls (.null :: st) Q) : MW K y d h pc ls (st) Q := by
  intro p e R s m args below meth c H locs cells slots la C hR hf hc hs h1 h2 hl
  exact lv_aloadN C.1 C.2.1 hdg (hl.2.2 _ _ hv) (k p e R s m args below meth c H locs cells slots la C hR hf hc hs h1 h2 hl)
theorem m_aloadq {i : Nat} {x : Option Nat} (hdg : decode y.2.1 pc = .ok (.aload i, 2)) (hv : ls[i]? = some (some (va_rf x))) (k : MW K y d h (pc + 2) ls (va_rf x :: st) Q) : MW K y d h pc ls st Q := by
  cases x with
  | none => exact m_aloadN hdg hv k
  | some x => exact m_aload hdg hv k
theorem m_iadd {x z : Int32} (hdg : decode y.2.1 pc = .ok (.iadd, 1)) (k : MW K y d h (pc + 1) ls (.int (x + z) :: st) Q) : MW K y d h pc ls (.int z :: .int x :: st) Q := by
  intro p e R s m args below meth c H locs cells slots la C hR hf hc hs h1 h2 hl
  exact lv_iadd C.1 C.2.1 hdg (k p e R s m args below meth c H locs cells slots la C hR hf hc hs h1 h2 hl)
theorem m_isub {x z : Int32} (hdg : decode y.2.1 pc = .ok (.isub, 1)) (k : MW K y d h (pc + 1) ls (.int (x - z) :: st) Q) : MW K y d h pc ls (.int z :: .int x :: st) Q := by
  intro p e R s m args below meth c H locs cells slots la C hR hf hc hs h1 h2 hl
  exact lv_isub C.1 C.2.1 hdg (k p e R s m args below meth c H locs cells slots la C hR hf hc hs h1 h2 hl)
theorem m_imul {x z : Int32} (hdg : decode y.2.1 pc = .ok (.imul, 1)) (k : MW K y d h (pc + 1) ls (.int (x * z) :: st) Q) : MW K y d h pc ls (.int z :: .int x :: st) Q := by
  intro p e R s m args below meth c H locs cells slots la C hR hf hc hs h1 h2 hl
  exact lv_imul C.1 C.2.1 hdg (k p e R s m args below meth c H locs cells slots la C hR hf hc hs h1 h2 hl)
theorem m_iand {x z : Int32} (hdg : decode y.2.1 pc = .ok (.iand, 1)) (k : MW K y d h (pc + 1) ls (.int (x &&& z) :: st) Q) : MW K y d h pc ls (.int z :: .int x :: st) Q := by
  intro p e R s m args below meth c H locs cells slots la C hR hf hc hs h1 h2 hl
  exact lv_iand C.1 C.2.1 hdg (k p e R s m args below meth c H locs cells slots la C hR hf hc hs h1 h2 hl)
theorem m_ior {x z : Int32} (hdg : decode y.2.1 pc = .ok (.ior, 1)) (k : MW K y d h (pc + 1) ls (.int (x ||| z) :: st) Q) : MW K y d h pc ls (.int z :: .int x :: st) Q := by
  intro p e R s m args below meth c H locs cells slots la C hR hf hc hs h1 h2 hl
  exact lv_ior C.1 C.2.1 hdg (k p e R s m args below meth c H locs cells slots la C hR hf hc hs h1 h2 hl)
theorem m_ixor {x z : Int32} (hdg : decode y.2.1 pc = .ok (.ixor, 1)) (k : MW K y d h (pc + 1) ls (.int (x ^^^ z) :: st) Q) : MW K y d h pc ls (.int z :: .int x :: st) Q := by
  intro p e R s m args below meth c H locs cells slots la C hR hf hc hs h1 h2 hl
  exact lv_ixor C.1 C.2.1 hdg (k p e R s m args below meth c H locs cells slots la C hR hf hc hs h1 h2 hl)
theorem m_ishl {x z : Int32} (hdg : decode y.2.1 pc = .ok (.ishl, 1)) (k : MW K y d h (pc + 1) ls (.int (x <<< (z &&& 31)) :: st) Q) : MW K y d h pc ls (.int z :: .int x :: st) Q := by
  intro p e R s m args below meth c H locs cells slots la C hR hf hc hs h1 h2 hl
  exact lv_ishl C.1 C.2.1 hdg (k p e R s m args below meth c H locs cells slots la C hR hf hc hs h1 h2 hl)
theorem m_ishr {x z : Int32} (hdg : decode y.2.1 pc = .ok (.ishr, 1)) (k : MW K y d h (pc + 1) ls (.int (x >>> (z &&& 31)) :: st) Q) : MW K y d h pc ls (.int z :: .int x :: st) Q := by
  intro p e R s m args below meth c H locs cells slots la C hR hf hc hs h1 h2 hl
  exact lv_ishr C.1 C.2.1 hdg (k p e R s m args below meth c H locs cells slots la C hR hf hc hs h1 h2 hl)
theorem m_ladd {x z : Int64} (hdg : decode y.2.1 pc = .ok (.ladd, 1)) (k : MW K y d h (pc + 1) ls (.long (x + z) :: st) Q) : MW K y d h pc ls (.long z :: .long x :: st) Q := by
  intro p e R s m args below meth c H locs cells slots la C hR hf hc hs h1 h2 hl
  exact lv_ladd C.1 C.2.1 hdg (k p e R s m args below meth c H locs cells slots la C hR hf hc hs h1 h2 hl)
theorem m_lsub {x z : Int64} (hdg : decode y.2.1 pc = .ok (.lsub, 1)) (k : MW K y d h (pc + 1) ls (.long (x - z) :: st) Q) : MW K y d h pc ls (.long z :: .long x :: st) Q := by
  intro p e R s m args below meth c H locs cells slots la C hR hf hc hs h1 h2 hl
  exact lv_lsub C.1 C.2.1 hdg (k p e R s m args below meth c H locs cells slots la C hR hf hc hs h1 h2 hl)
theorem m_lmul {x z : Int64} (hdg : decode y.2.1 pc = .ok (.lmul, 1)) (k : MW K y d h (pc + 1) ls (.long (x * z) :: st) Q) : MW K y d h pc ls (.long z :: .long x :: st) Q := by
  intro p e R s m args below meth c H locs cells slots la C hR hf hc hs h1 h2 hl
  exact lv_lmul C.1 C.2.1 hdg (k p e R s m args below meth c H locs cells slots la C hR hf hc hs h1 h2 hl)
theorem m_land {x z : Int64} (hdg : decode y.2.1 pc = .ok (.land, 1)) (k : MW K y d h (pc + 1) ls (.long (x &&& z) :: st) Q) : MW K y d h pc ls (.long z :: .long x :: st) Q := by
  intro p e R s m args below meth c H locs cells slots la C hR hf hc hs h1 h2 hl
  exact lv_land C.1 C.2.1 hdg (k p e R s m args below meth c H locs cells slots la C hR hf hc hs h1 h2 hl)
theorem m_lor {x z : Int64} (hdg : decode y.2.1 pc = .ok (.lor, 1)) (k : MW K y d h (pc + 1) ls (.long (x ||| z) :: st) Q) : MW K y d h pc ls (.long z :: .long x :: st) Q := by
  intro p e R s m args below meth c H locs cells slots la C hR hf hc hs h1 h2 hl
  exact lv_lor C.1 C.2.1 hdg (k p e R s m args below meth c H locs cells slots la C hR hf hc hs h1 h2 hl)
theorem m_lxor {x z : Int64} (hdg : decode y.2.1 pc = .ok (.lxor, 1)) (k : MW K y d h (pc + 1) ls (.long (x ^^^ z) :: st) Q) : MW K y d h pc ls (.long z :: .long x :: st) Q := by
  intro p e R s m args below meth c H locs cells slots la C hR hf hc hs h1 h2 hl
  exact lv_lxor C.1 C.2.1 hdg (k p e R s m args below meth c H locs cells slots la C hR hf hc hs h1 h2 hl)
theorem m_idiv {x z : Int32} (hdg : decode y.2.1 pc = .ok (.idiv, 1)) (hne : ¬ z = 0) (k : MW K y d h (pc + 1) ls (.int (x / z) :: st) Q) : MW K y d h pc ls (.int z :: .int x :: st) Q := by
  intro p e R s m args below meth c H locs cells slots la C hR hf hc hs h1 h2 hl
  exact lv_idiv C.1 C.2.1 hdg hne (k p e R s m args below meth c H locs cells slots la C hR hf hc hs h1 h2 hl)
theorem m_irem {x z : Int32} (hdg : decode y.2.1 pc = .ok (.irem, 1)) (hne : ¬ z = 0) (k : MW K y d h (pc + 1) ls (.int (x - x / z * z) :: st) Q) : MW K y d h pc ls (.int z :: .int x :: st) Q := by
  intro p e R s m args below meth c H locs cells slots la C hR hf hc hs h1 h2 hl
  exact lv_irem C.1 C.2.1 hdg hne (k p e R s m args below meth c H locs cells slots la C hR hf hc hs h1 h2 hl)
theorem m_ineg {x : Int32} (hdg : decode y.2.1 pc = .ok (.ineg, 1)) (k : MW K y d h (pc + 1) ls (.int (-x) :: st) Q) : MW K y d h pc ls (.int x :: st) Q := by
  intro p e R s m args below meth c H locs cells slots la C hR hf hc hs h1 h2 hl
  exact lv_ineg C.1 C.2.1 hdg (k p e R s m args below meth c H locs cells slots la C hR hf hc hs h1 h2 hl)
theorem m_iushr {x z v : Int32} (hdg : decode y.2.1 pc = .ok (.iushr, 1)) (hv : (x.toUInt32 >>> (z.toUInt32 &&& Int32.toUInt32 31)).toInt32 = v) (k : MW K y d h (pc + 1) ls (.int v :: st) Q) : MW K y d h pc ls (.int z :: .int x :: st) Q := by
  intro p e R s m args below meth c H locs cells slots la C hR hf hc hs h1 h2 hl
  exact lv_iushr C.1 C.2.1 hdg hv (k p e R s m args below meth c H locs cells slots la C hR hf hc hs h1 h2 hl)
theorem m_lushr {x v : Int64} {z : Int32} (hdg : decode y.2.1 pc = .ok (.lushr, 1)) (hv : (x.toUInt64 >>> (z.toInt64.toUInt64 &&& Int64.toUInt64 63)).toInt64 = v) (k : MW K y d h (pc + 1) ls (.long v :: st) Q) : MW K y d h pc ls (.int z :: .long x :: st) Q := by
  intro p e R s m args below meth c H locs cells slots la C hR hf hc hs h1 h2 hl
  exact lv_lushr C.1 C.2.1 hdg hv (k p e R s m args below meth c H locs cells slots la C hR hf hc hs h1 h2 hl)
theorem m_lshl {x v : Int64} {z : Int32} (hdg : decode y.2.1 pc = .ok (.lshl, 1)) (hv : x <<< (z.toInt64 &&& 63) = v) (k : MW K y d h (pc + 1) ls (.long v :: st) Q) : MW K y d h pc ls (.int z :: .long x :: st) Q := by
  intro p e R s m args below meth c H locs cells slots la C hR hf hc hs h1 h2 hl
  exact lv_lshl C.1 C.2.1 hdg hv (k p e R s m args below meth c H locs cells slots la C hR hf hc hs h1 h2 hl)
theorem m_lcmp {x z : Int64} (hdg : decode y.2.1 pc = .ok (.lcmp, 1)) (k : MW K y d h (pc + 1) ls (.int (lg_cmp x z) :: st) Q) : MW K y d h pc ls (.long z :: .long x :: st) Q := by
  intro p e R s m args below meth c H locs cells slots la C hR hf hc hs h1 h2 hl
  exact W.lcmp C.1 C.2.1 hdg (k p e R s m args below meth c H locs cells slots la C hR hf hc hs h1 h2 hl)
theorem m_i2l {x : Int32} {v : Int64} (hdg : decode y.2.1 pc = .ok (.i2l, 1)) (hv : x.toInt64 = v) (k : MW K y d h (pc + 1) ls (.long v :: st) Q) : MW K y d h pc ls (.int x :: st) Q := by
  intro p e R s m args below meth c H locs cells slots la C hR hf hc hs h1 h2 hl
  exact lv_i2l C.1 C.2.1 hdg hv (k p e R s m args below meth c H locs cells slots la C hR hf hc hs h1 h2 hl)
theorem m_l2i {x : Int64} {v : Int32} (hdg : decode y.2.1 pc = .ok (.l2i, 1)) (hv : x.toInt32 = v) (k : MW K y d h (pc + 1) ls (.int v :: st) Q) : MW K y d h pc ls (.long x :: st) Q := by
  intro p e R s m args below meth c H locs cells slots la C hR hf hc hs h1 h2 hl
  exact lv_l2i C.1 C.2.1 hdg hv (k p e R s m args below meth c H locs cells slots la C hR hf hc hs h1 h2 hl)
theorem m_i2b {x : Int32} {v : Int32} (hdg : decode y.2.1 pc = .ok (.i2b, 1)) (hv : x.toInt8.toInt32 = v) (k : MW K y d h (pc + 1) ls (.int v :: st) Q) : MW K y d h pc ls (.int x :: st) Q := by
  intro p e R s m args below meth c H locs cells slots la C hR hf hc hs h1 h2 hl
  exact lv_i2b C.1 C.2.1 hdg hv (k p e R s m args below meth c H locs cells slots la C hR hf hc hs h1 h2 hl)
theorem m_i2c {x : Int32} {v : Int32} (hdg : decode y.2.1 pc = .ok (.i2c, 1)) (hv : (x.toUInt32 % 65536).toInt32 = v) (k : MW K y d h (pc + 1) ls (.int v :: st) Q) : MW K y d h pc ls (.int x :: st) Q := by
  intro p e R s m args below meth c H locs cells slots la C hR hf hc hs h1 h2 hl
  exact lv_i2c C.1 C.2.1 hdg hv (k p e R s m args below meth c H locs cells slots la C hR hf hc hs h1 h2 hl)
theorem m_i2f {x : Int32} (hdg : decode y.2.1 pc = .ok (.i2f, 1)) (k : MW K y d h (pc + 1) ls (.float (FP.i2f x) :: st) Q) : MW K y d h pc ls (.int x :: st) Q := by
  intro p e R s m args below meth c H locs cells slots la C hR hf hc hs h1 h2 hl
  exact lv_i2f C.1 C.2.1 hdg (k p e R s m args below meth c H locs cells slots la C hR hf hc hs h1 h2 hl)
theorem m_i2d {x : Int32} (hdg : decode y.2.1 pc = .ok (.i2d, 1)) (k : MW K y d h (pc + 1) ls (.double (FP.i2d x) :: st) Q) : MW K y d h pc ls (.int x :: st) Q := by
  intro p e R s m args below meth c H locs cells slots la C hR hf hc hs h1 h2 hl
  exact lv_i2d C.1 C.2.1 hdg (k p e R s m args below meth c H locs cells slots la C hR hf hc hs h1 h2 hl)
theorem m_f2d {x : UInt32} (hdg : decode y.2.1 pc = .ok (.f2d, 1)) (hne : vf_n64 (FP.f2d x)) (k : MW K y d h (pc + 1) ls (.double (FP.f2d x) :: st) Q) : MW K y d h pc ls (.float x :: st) Q := by
  intro p e R s m args below meth c H locs cells slots la C hR hf hc hs h1 h2 hl
  exact lv_f2d C.1 C.2.1 hdg hne (k p e R s m args below meth c H locs cells slots la C hR hf hc hs h1 h2 hl)
theorem m_fdiv {x z : UInt32} (hdg : decode y.2.1 pc = .ok (.fdiv, 1)) (hne : vf_n32 (FP.fdiv x z)) (k : MW K y d h (pc + 1) ls (.float (FP.fdiv x z) :: st) Q) : MW K y d h pc ls (.float z :: .float x :: st) Q := by
  intro p e R s m args below meth c H locs cells slots la C hR hf hc hs h1 h2 hl
  exact lv_fdiv C.1 C.2.1 hdg hne (k p e R s m args below meth c H locs cells slots la C hR hf hc hs h1 h2 hl)
theorem m_ddiv {x z : UInt64} (hdg : decode y.2.1 pc = .ok (.ddiv, 1)) (hne : vf_n64 (FP.ddiv x z)) (k : MW K y d h (pc + 1) ls (.double (FP.ddiv x z) :: st) Q) : MW K y d h pc ls (.double z :: .double x :: st) Q := by
  intro p e R s m args below meth c H locs cells slots la C hR hf hc hs h1 h2 hl
  exact lv_ddiv C.1 C.2.1 hdg hne (k p e R s m args below meth c H locs cells slots la C hR hf hc hs h1 h2 hl)
theorem m_fcmp {x z : UInt32} {op : CmpOp} (hdg : decode y.2.1 pc = .ok (.fcmp op, 1)) (k : MW K y d h (pc + 1) ls (.int (Op.cmpValue (FP.fcmp x z) op) :: st) Q) : MW K y d h pc ls (.float z :: .float x :: st) Q := by
  intro p e R s m args below meth c H locs cells slots la C hR hf hc hs h1 h2 hl
  exact lv_fcmp C.1 C.2.1 hdg (k p e R s m args below meth c H locs cells slots la C hR hf hc hs h1 h2 hl)
theorem m_dcmp {x z : UInt64} {op : CmpOp} (hdg : decode y.2.1 pc = .ok (.dcmp op, 1)) (k : MW K y d h (pc + 1) ls (.int (Op.cmpValue (FP.dcmp x z) op) :: st) Q) : MW K y d h pc ls (.double z :: .double x :: st) Q := by
  intro p e R s m args below meth c H locs cells slots la C hR hf hc hs h1 h2 hl
  exact lv_dcmp C.1 C.2.1 hdg (k p e R s m args below meth c H locs cells slots la C hR hf hc hs h1 h2 hl)
theorem m_dup {va : Value} (hdg : decode y.2.1 pc = .ok (.dup, 1)) (hva : va.category = 1) (k : MW K y d h (pc + 1) ls (va :: va :: st) Q) : MW K y d h pc ls (va :: st) Q := by
  intro p e R s m args below meth c H locs cells slots la C hR hf hc hs h1 h2 hl
  exact lv_dup C.1 C.2.1 hdg hva (k p e R s m args below meth c H locs cells slots la C hR hf hc hs h1 h2 hl)
theorem m_pop {va : Value} (hdg : decode y.2.1 pc = .ok (.pop, 1)) (hva : va.category = 1) (k : MW K y d h (pc + 1) ls (st) Q) : MW K y d h pc ls (va :: st) Q := by
  intro p e R s m args below meth c H locs cells slots la C hR hf hc hs h1 h2 hl
  exact lv_pop C.1 C.2.1 hdg hva (k p e R s m args below meth c H locs cells slots la C hR hf hc hs h1 h2 hl)
theorem m_dup_x1 {va vb : Value} (hdg : decode y.2.1 pc = .ok (.dup_x1, 1)) (hva : va.category = 1) (hvb : vb.category = 1) (k : MW K y d h (pc + 1) ls (va :: vb :: va :: st) Q) : MW K y d h pc ls (va :: vb :: st) Q := by
  intro p e R s m args below meth c H locs cells slots la C hR hf hc hs h1 h2 hl
  exact lv_dup_x1 C.1 C.2.1 hdg hva hvb (k p e R s m args below meth c H locs cells slots la C hR hf hc hs h1 h2 hl)
theorem m_dup2 {va vb : Value} (hdg : decode y.2.1 pc = .ok (.dup2, 1)) (hva : va.category = 1) (hvb : vb.category = 1) (k : MW K y d h (pc + 1) ls (va :: vb :: va :: vb :: st) Q) : MW K y d h pc ls (va :: vb :: st) Q := by
  intro p e R s m args below meth c H locs cells slots la C hR hf hc hs h1 h2 hl
  exact lv_dup2_11 C.1 C.2.1 hdg hva hvb (k p e R s m args below meth c H locs cells slots la C hR hf hc hs h1 h2 hl)
theorem m_dup2_2 {va : Value} (hdg : decode y.2.1 pc = .ok (.dup2, 1)) (hva : va.category = 2) (k : MW K y d h (pc + 1) ls (va :: va :: st) Q) : MW K y d h pc ls (va :: st) Q := by
  intro p e R s m args below meth c H locs cells slots la C hR hf hc hs h1 h2 hl
  exact lv_dup2_2 C.1 C.2.1 hdg hva (k p e R s m args below meth c H locs cells slots la C hR hf hc hs h1 h2 hl)
theorem m_if_eq {x : Int32} {off : Int} (tgt : Nat) (hdg : decode y.2.1 pc = .ok (.ifCond .eq off, 3)) (ht : (pc : Int) + off = (tgt : Int)) (kt : x = 0 → MW K y d h tgt ls st Q) (kf : ¬ x = 0 → MW K y d h (pc + 3) ls st Q) : MW K y d h pc ls (.int x :: st) Q := by
  intro p e R s m args below meth c H locs cells slots la C hR hf hc hs h1 h2 hl
  exact lv_if_eq C.1 C.2.1 hdg ht (fun z => kt z p e R s m args below meth c H locs cells slots la C hR hf hc hs h1 h2 hl) (fun z => kf z p e R s m args below meth c H locs cells slots la C hR hf hc hs h1 h2 hl)
theorem m_if_ne {x : Int32} {off : Int} (tgt : Nat) (hdg : decode y.2.1 pc = .ok (.ifCond .ne off, 3)) (ht : (pc : Int) + off = (tgt : Int)) (kt : ¬ x = 0 → MW K y d h tgt ls st Q) (kf : x = 0 → MW K y d h (pc + 3) ls st Q) : MW K y d h pc ls (.int x :: st) Q := by
  intro p e R s m args below meth c H locs cells slots la C hR hf hc hs h1 h2 hl
  exact lv_if_ne C.1 C.2.1 hdg ht (fun z => kt z p e R s m args below meth c H locs cells slots la C hR hf hc hs h1 h2 hl) (fun z => kf z p e R s m args below meth c H locs cells slots la C hR hf hc hs h1 h2 hl)
theorem m_if_lt {x : Int32} {off : Int} (tgt : Nat) (hdg : decode y.2.1 pc = .ok (.ifCond .lt off, 3)) (ht : (pc : Int) + off = (tgt : Int)) (kt : x < 0 → MW K y d h tgt ls st Q) (kf : ¬ x < 0 → MW K y d h (pc + 3) ls st Q) : MW K y d h pc ls (.int x :: st) Q := by
  intro p e R s m args below meth c H locs cells slots la C hR hf hc hs h1 h2 hl
  exact lv_if_lt C.1 C.2.1 hdg ht (fun z => kt z p e R s m args below meth c H locs cells slots la C hR hf hc hs h1 h2 hl) (fun z => kf z p e R s m args below meth c H locs cells slots la C hR hf hc hs h1 h2 hl)
theorem m_if_ge {x : Int32} {off : Int} (tgt : Nat) (hdg : decode y.2.1 pc = .ok (.ifCond .ge off, 3)) (ht : (pc : Int) + off = (tgt : Int)) (kt : 0 ≤ x → MW K y d h tgt ls st Q) (kf : ¬ 0 ≤ x → MW K y d h (pc + 3) ls st Q) : MW K y d h pc ls (.int x :: st) Q := by
  intro p e R s m args below meth c H locs cells slots la C hR hf hc hs h1 h2 hl
  exact lv_if_ge C.1 C.2.1 hdg ht (fun z => kt z p e R s m args below meth c H locs cells slots la C hR hf hc hs h1 h2 hl) (fun z => kf z p e R s m args below meth c H locs cells slots la C hR hf hc hs h1 h2 hl)
theorem m_if_gt {x : Int32} {off : Int} (tgt : Nat) (hdg : decode y.2.1 pc = .ok (.ifCond .gt off, 3)) (ht : (pc : Int) + off = (tgt : Int)) (kt : 0 < x → MW K y d h tgt ls st Q) (kf : ¬ 0 < x → MW K y d h (pc + 3) ls st Q) : MW K y d h pc ls (.int x :: st) Q := by
  intro p e R s m args below meth c H locs cells slots la C hR hf hc hs h1 h2 hl
  exact lv_if_gt C.1 C.2.1 hdg ht (fun z => kt z p e R s m args below meth c H locs cells slots la C hR hf hc hs h1 h2 hl) (fun z => kf z p e R s m args below meth c H locs cells slots la C hR hf hc hs h1 h2 hl)
theorem m_if_le {x : Int32} {off : Int} (tgt : Nat) (hdg : decode y.2.1 pc = .ok (.ifCond .le off, 3)) (ht : (pc : Int) + off = (tgt : Int)) (kt : x ≤ 0 → MW K y d h tgt ls st Q) (kf : ¬ x ≤ 0 → MW K y d h (pc + 3) ls st Q) : MW K y d h pc ls (.int x :: st) Q := by
  intro p e R s m args below meth c H locs cells slots la C hR hf hc hs h1 h2 hl
  exact lv_if_le C.1 C.2.1 hdg ht (fun z => kt z p e R s m args below meth c H locs cells slots la C hR hf hc hs h1 h2 hl) (fun z => kf z p e R s m args below meth c H locs cells slots la C hR hf hc hs h1 h2 hl)
theorem m_icmp_eq {x z : Int32} {off : Int} (tgt : Nat) (hdg : decode y.2.1 pc = .ok (.if_icmp .eq off, 3)) (ht : (pc : Int) + off = (tgt : Int)) (kt : x = z → MW K y d h tgt ls st Q) (kf : ¬ x = z → MW K y d h (pc + 3) ls st Q) : MW K y d h pc ls (.int z :: .int x :: st) Q := by
  intro p e R s m args below meth c H locs cells slots la C hR hf hc hs h1 h2 hl
  exact lv_icmp_eq C.1 C.2.1 hdg ht (fun q => kt q p e R s m args below meth c H locs cells slots la C hR hf hc hs h1 h2 hl) (fun q => kf q p e R s m args below meth c H locs cells slots la C hR hf hc hs h1 h2 hl)
theorem m_icmp_ne {x z : Int32} {off : Int} (tgt : Nat) (hdg : decode y.2.1 pc = .ok (.if_icmp .ne off, 3)) (ht : (pc : Int) + off = (tgt : Int)) (kt : ¬ x = z → MW K y d h tgt ls st Q) (kf : x = z → MW K y d h (pc + 3) ls st Q) : MW K y d h pc ls (.int z :: .int x :: st) Q := by
  intro p e R s m args below meth c H locs cells slots la C hR hf hc hs h1 h2 hl
  exact lv_icmp_ne C.1 C.2.1 hdg ht (fun q => kt q p e R s m args below meth c H locs cells slots la C hR hf hc hs h1 h2 hl) (fun q => kf q p e R s m args below meth c H locs cells slots la C hR hf hc hs h1 h2 hl)
theorem m_icmp_lt {x z : Int32} {off : Int} (tgt : Nat) (hdg : decode y.2.1 pc = .ok (.if_icmp .lt off, 3)) (ht : (pc : Int) + off = (tgt : Int)) (kt : x < z → MW K y d h tgt ls st Q) (kf : ¬ x < z → MW K y d h (pc + 3) ls st Q) : MW K y d h pc ls (.int z :: .int x :: st) Q := by
  intro p e R s m args below meth c H locs cells slots la C hR hf hc hs h1 h2 hl
  exact lv_icmp_lt C.1 C.2.1 hdg ht (fun q => kt q p e R s m args below meth c H locs cells slots la C hR hf hc hs h1 h2 hl) (fun q => kf q p e R s m args below meth c H locs cells slots la C hR hf hc hs h1 h2 hl)
theorem m_icmp_ge {x z : Int32} {off : Int} (tgt : Nat) (hdg : decode y.2.1 pc = .ok (.if_icmp .ge off, 3)) (ht : (pc : Int) + off = (tgt : Int)) (kt : z ≤ x → MW K y d h tgt ls st Q) (kf : ¬ z ≤ x → MW K y d h (pc + 3) ls st Q) : MW K y d h pc ls (.int z :: .int x :: st) Q := by
  intro p e R s m args below meth c H locs cells slots la C hR hf hc hs h1 h2 hl
  exact lv_icmp_ge C.1 C.2.1 hdg ht (fun q => kt q p e R s m args below meth c H locs cells slots la C hR hf hc hs h1 h2 hl) (fun q => kf q p e R s m args below meth c H locs cells slots la C hR hf hc hs h1 h2 hl)
theorem m_icmp_gt {x z : Int32} {off : Int} (tgt : Nat) (hdg : decode y.2.1 pc = .ok (.if_icmp .gt off, 3)) (ht : (pc : Int) + off = (tgt : Int)) (kt : z < x → MW K y d h tgt ls st Q) (kf : ¬ z < x → MW K y d h (pc + 3) ls st Q) : MW K y d h pc ls (.int z :: .int x :: st) Q := by
  intro p e R s m args below meth c H locs cells slots la C hR hf hc hs h1 h2 hl
  exact lv_icmp_gt C.1 C.2.1 hdg ht (fun q => kt q p e R s m args below meth c H locs cells slots la C hR hf hc hs h1 h2 hl) (fun q => kf q p e R s m args below meth c H locs cells slots la C hR hf hc hs h1 h2 hl)
theorem m_icmp_le {x z : Int32} {off : Int} (tgt : Nat) (hdg : decode y.2.1 pc = .ok (.if_icmp .le off, 3)) (ht : (pc : Int) + off = (tgt : Int)) (kt : x ≤ z → MW K y d h tgt ls st Q) (kf : ¬ x ≤ z → MW K y d h (pc + 3) ls st Q) : MW K y d h pc ls (.int z :: .int x :: st) Q := by
  intro p e R s m args below meth c H locs cells slots la C hR hf hc hs h1 h2 hl
  exact lv_icmp_le C.1 C.2.1 hdg ht (fun q => kt q p e R s m args below meth c H locs cells slots la C hR hf hc hs h1 h2 hl) (fun q => kf q p e R s m args below meth c H locs cells slots la C hR hf hc hs h1 h2 hl)
theorem m_acmp_eq {x z : Option Nat} {off : Int} (tgt : Nat) (hdg : decode y.2.1 pc = .ok (.if_acmp .eq off, 3)) (ht : (pc : Int) + off = (tgt : Int)) (kt : x = z → MW K y d h tgt ls st Q) (kf : ¬ x = z → MW K y d h (pc + 3) ls st Q) : MW K y d h pc ls (va_rf z :: va_rf x :: st) Q := by
  intro p e R s m args below meth c H locs cells slots la C hR hf hc hs h1 h2 hl
  exact lv_acmp_eq C.1 C.2.1 hdg ht (fun q => kt q p e R s m args below meth c H locs cells slots la C hR hf hc hs h1 h2 hl) (fun q => kf q p e R s m args below meth c H locs cells slots la C hR hf hc hs h1 h2 hl)
theorem m_acmp_ne {x z : Option Nat} {off : Int} (tgt : Nat) (hdg : decode y.2.1 pc = .ok (.if_acmp .ne off, 3)) (ht : (pc : Int) + off = (tgt : Int)) (kt : ¬ x = z → MW K y d h tgt ls st Q) (kf : x = z → MW K y d h (pc + 3) ls st Q) : MW K y d h pc ls (va_rf z :: va_rf x :: st) Q := by
  intro p e R s m args below meth c H locs cells slots la C hR hf hc hs h1 h2 hl
  exact lv_acmp_ne C.1 C.2.1 hdg ht (fun q => kt q p e R s m args below meth c H locs cells slots la C hR hf hc hs h1 h2 hl) (fun q => kf q p e R s m args below meth c H locs cells slots la C hR hf hc hs h1 h2 hl)
theorem m_goto {off : Int} (tgt : Nat) (hdg : decode y.2.1 pc = .ok (.goto off, 3)) (ht : (pc : Int) + off = (tgt : Int)) (k : MW K y d h tgt ls st Q) : MW K y d h pc ls st Q := by
  intro p e R s m args below meth c H locs cells slots la C hR hf hc hs h1 h2 hl
  exact lv_goto C.1 C.2.1 hdg ht (k p e R s m args below meth c H locs cells slots la C hR hf hc hs h1 h2 hl)
theorem m_ifnull {x : Option Nat} {off : Int} (tgt : Nat) (hdg : decode y.2.1 pc = .ok (.ifnull off, 3)) (ht : (pc : Int) + off = (tgt : Int)) (kt : x = none → MW K y d h tgt ls st Q) (kf : ∀ a, x = some a → MW K y d h (pc + 3) ls st Q) : MW K y d h pc ls (va_rf x :: st) Q := by
  intro p e R s m args below meth c H locs cells slots la C hR hf hc hs h1 h2 hl
  cases x with
  | none => exact lv_ifnullN C.1 C.2.1 hdg ht (kt rfl p e R s m args below meth c H locs cells slots la C hR hf hc hs h1 h2 hl)
  | some a => exact lv_ifnull C.1 C.2.1 hdg (kf a rfl p e R s m args below meth c H locs cells slots la C hR hf hc hs h1 h2 hl)
theorem m_ifnonnull {x : Option Nat} {off : Int} (tgt : Nat) (hdg : decode y.2.1 pc = .ok (.ifnonnull off, 3)) (ht : (pc : Int) + off = (tgt : Int)) (kt : ∀ a, x = some a → MW K y d h tgt ls st Q) (kf : x = none → MW K y d h (pc + 3) ls st Q) : MW K y d h pc ls (va_rf x :: st) Q := by
  intro p e R s m args below meth c H locs cells slots la C hR hf hc hs h1 h2 hl
  cases x with
  | none => exact lv_ifnonnullN C.1 C.2.1 hdg (kf rfl p e R s m args below meth c H locs cells slots la C hR hf hc hs h1 h2 hl)
  | some a => exact lv_ifnonnull C.1 C.2.1 hdg ht (kt a rfl p e R s m args below meth c H locs cells slots la C hR hf hc hs h1 h2 hl)
end MWR
