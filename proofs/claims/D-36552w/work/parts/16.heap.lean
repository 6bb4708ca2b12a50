/-! Locals stored, ends of methods, the heap's rules -/
def stOK (ls : List (Option Value)) : Nat → Bool
  | 0 => true
  | i + 1 => match ls[i]? with
    | some (some v) => v.category == 1
    | _ => true
def asc (ls : List (Option Value)) : List (Nat × Value) := ls.zipIdx.filterMap (fun q => q.1.map (fun v => (q.2, v)))
theorem asc_mem {ls : List (Option Value)} {q : Nat × Value} : q ∈ asc ls ↔ ls[q.1]? = some (some q.2) := by
  obtain ⟨i, v⟩ := q
  unfold asc
  rw [List.mem_filterMap]
  constructor
  · rintro ⟨⟨x, j⟩, h1, h2⟩
    rw [List.mem_zipIdx_iff_getElem?] at h1
    cases x with
    | none => simp at h2
    | some x =>
      simp only [Option.map_some, Option.some.injEq, Prod.mk.injEq] at h2
      obtain ⟨rfl, rfl⟩ := h2
      exact h1
  · intro h
    exact ⟨(some v, i), List.mem_zipIdx_iff_getElem?.mpr h, rfl⟩
theorem lsR_has {la : Array Slot} {n : Nat} {ls : List (Option Value)} (h : lsR la n ls) : lv_has la n (asc ls) := ⟨h.1, h.2.1, fun q hq => h.2.2 q.1 q.2 (asc_mem.mp hq)⟩
theorem lsR_set {la : Array Slot} {n i : Nat} {v : Value} {ls : List (Option Value)} (ho : stOK ls i = true) (h : lv_has la n ((i, v) :: (asc ls).filter (fun q => !(q.1 == i) && !(q.1 + 1 == i && q.2.category == 2)))) : lsR la n (ls.set i (some v)) := by
  refine ⟨h.1, h.2.1, fun j w hj => ?_⟩
  rw [List.getElem?_set] at hj
  by_cases hij : i = j
  · rw [if_pos hij] at hj
    split at hj
    · cases hj
      exact hij ▸ h.2.2 (i, v) List.mem_cons_self
    · cases hj
  · rw [if_neg hij] at hj
    refine h.2.2 (j, w) (List.mem_cons_of_mem _ (List.mem_filter.mpr ⟨asc_mem.mpr hj, ?_⟩))
    have h1 : (j == i) = false := by simp; omega
    by_cases h2 : j + 1 = i
    · subst h2
      simp only [stOK, hj, beq_iff_eq] at ho
      simp [ho]
    · simp [h2]; omega
theorem lsR_set2 {la : Array Slot} {n i : Nat} {v : Value} {ls : List (Option Value)} (ho : stOK ls i = true) (h : lv_has la n ((i, v) :: (asc ls).filter (fun q => !(q.1 == i) && (!(q.1 == i + 1) && !(q.1 + 1 == i && q.2.category == 2))))) : lsR la n ((ls.set i (some v)).set (i + 1) none) := by
  refine ⟨h.1, h.2.1, fun j w hj => ?_⟩
  rw [List.getElem?_set] at hj
  by_cases h9 : i + 1 = j
  · rw [if_pos h9] at hj
    split at hj <;> cases hj
  rw [if_neg h9, List.getElem?_set] at hj
  by_cases hij : i = j
  · rw [if_pos hij] at hj
    split at hj
    · cases hj
      exact hij ▸ h.2.2 (i, v) List.mem_cons_self
    · cases hj
  · rw [if_neg hij] at hj
    refine h.2.2 (j, w) (List.mem_cons_of_mem _ (List.mem_filter.mpr ⟨asc_mem.mpr hj, ?_⟩))
    by_cases h2 : j + 1 = i
    · subst h2
      simp only [stOK, hj, beq_iff_eq] at ho
      simp [ho]; omega
    · simp [h2]; omega
/-! the heap's book -/
theorem uz_congr {H H' : Heap} {b : Nat} (h : ∀ q : Nat, (H'[q]?).map (fun c => c.slots.size) = (H[q]?).map (fun c => c.slots.size)) : uz H' b = uz H b := by
  have e : H'.toList.map (fun c => c.slots.size) = H.toList.map (fun c => c.slots.size) := by
    apply List.ext_getElem?
    intro i
    rw [List.getElem?_map, List.getElem?_map, Array.getElem?_toList, Array.getElem?_toList]
    exact h i
  unfold uz
  rw [List.map_drop, List.map_drop, e]
theorem heap_push {H H' : Heap} {cell : Cell} (e1 : H'[H.size]? = some cell) (hz : H'.size = H.size + 1) (ho : ∀ q, q < H.size → H'[q]? = H[q]?) : H' = H.push cell := by
  apply Array.ext_getElem?
  intro i
  rw [Array.getElem?_push]
  by_cases hi : i = H.size
  · rw [if_pos hi, hi, e1]
  · rw [if_neg hi]
    by_cases h2 : i < H.size
    · exact ho i h2
    · rw [Array.getElem?_eq_none (by omega), Array.getElem?_eq_none (by omega)]
theorem uz_push {H : Heap} {cell : Cell} {b : Nat} (hb : b ≤ H.size) : uz (H.push cell) b = uz H b + cell.slots.size := by
  unfold uz
  rw [Array.toList_push, List.drop_append_of_le_length (by simpa using hb)]
  simp
theorem mAt.congr {K : KT} {a : Nat} {e : Bool × va_E} {H H' : Heap} (h : mAt K a e H) (he : H'[a]? = H[a]?) : mAt K a e H' := by
  obtain ⟨cell, h1, h2⟩ := h
  exact ⟨cell, by rw [he]; exact h1, h2⟩
theorem mAt.lt {K : KT} {a : Nat} {e : Bool × va_E} {H : Heap} (h : mAt K a e H) : a < H.size := by
  obtain ⟨cell, h1, -⟩ := h
  exact (Array.getElem?_eq_some_iff.mp h1).1
def hput (h : MH) (a : Nat) (e : Bool × va_E) : MH := (h.1, h.2.1, fun j => if j = a then some e else h.2.2 j)
def hnew (h : MH) (e : Bool × va_E) (n : Nat) : MH := (h.1 + 1, h.2.1 + n, fun j => if j = h.1 then some e else h.2.2 j)
theorem Rep.put {K : KT} {h : MH} {H H' : Heap} {a : Nat} {e : Bool × va_E} (hR : Rep K h H) (hb : (kB K).size ≤ a) (hz : H'.size = H.size) (ho : ∀ q, q ≠ a → H'[q]? = H[q]?) (hs : (H'[a]?).map (fun c => c.slots.size) = (H[a]?).map (fun c => c.slots.size)) (hm : mAt K a e H') : Rep K (hput h a e) H' := by
  obtain ⟨r1, r2, r3, r4, r5⟩ := hR
  refine ⟨hz.trans r1, ?_, by omega, fun q hq => ?_, fun q x hq => ?_⟩
  · rw [uz_congr (H := H) fun q => ?_]
    · exact r2
    · by_cases h1 : q = a
      · rw [h1]; exact hs
      · rw [ho q h1]
  · rw [ho q (by omega)]; exact r4 q hq
  · unfold hput at hq
    dsimp only at hq
    by_cases h1 : q = a
    · rw [if_pos h1] at hq
      cases hq
      rw [h1]; exact hm
    · rw [if_neg h1] at hq
      exact (r5 q x hq).congr (ho q h1)
theorem Rep.new {K : KT} {h : MH} {H H' : Heap} {e : Bool × va_E} {cell : Cell} {n : Nat} (hR : Rep K h H) (e1 : H'[H.size]? = some cell) (hz : H'.size = H.size + 1) (ho : ∀ q, q < H.size → H'[q]? = H[q]?) (hn : cell.slots.size = n) (hm : mAt K H.size e H') : Rep K (hnew h e n) H' := by
  obtain ⟨r1, r2, r3, r4, r5⟩ := hR
  refine ⟨by rw [hz, r1]; rfl, ?_, by omega, fun q hq => ?_, fun q x hq => ?_⟩
  · rw [heap_push e1 hz ho, uz_push r3, r2, hn]; rfl
  · rw [ho q (by omega)]; exact r4 q hq
  · unfold hnew at hq
    dsimp only at hq
    by_cases h1 : q = h.1
    · rw [if_pos h1] at hq
      cases hq
      rw [h1, ← r1]; exact hm
    · rw [if_neg h1] at hq
      have h2 := r5 q x hq
      exact h2.congr (ho q h2.lt)
def ClsOK (ci : Nat) (C : String) (T : u_T) (N : Nat) (ty : Nat → FieldType) : Prop := mcl[ci]? = some (C, T, N) ∧ (∀ w ∈ u_ws C T N, w ∈ lw_all) ∧ (∀ k, k < N → parseFieldDescriptor (T k).2.2.1 = some (ty k)) ∧ (∀ a, a < N → ∀ b, b < N → a ≠ b → (T a).2.1 ≠ (T b).2.1)
section HR
variable {K : KT} {y : YT} {d : Nat} {h : MH} {pc : Nat} {ls : List (Option Value)} {st : List Value} {Q : OT → MH → Prop}
theorem m_iinc {i : Nat} {n : Int} {x : Int32} (c : Int32) (hdg : decode y.2.1 pc = .ok (.iinc i n, 3)) (hv : ls[i]? = some (some (.int x))) (hn : i < y.2.2.1) (ho : stOK ls i = true) (hc : Int32.ofInt n = c) (k : MW K y d h (pc + 3) (ls.set i (some (.int (x + c)))) st Q) : MW K y d h pc ls st Q := by
  intro p e R s m args below meth c9 H locs cells slots la C hR hf hc9 hs h1 h2 hl
  obtain ⟨j, hj⟩ := List.getElem?_of_mem (asc_mem (q := (i, .int x)).mpr hv)
  exact lv_iinc (v := x + c) C.1 C.2.1 hdg (lsR_has hl) hj (by rw [hc]) hn rfl fun la' hl' => k p e R s m args below meth c9 H locs cells slots la' C hR hf hc9 hs h1 h2 (lsR_set ho hl')
theorem m_istore_n {i : Fin 4} {x : Int32} (hdg : decode y.2.1 pc = .ok (.istore_n i, 1)) (hn : (i : Nat) < y.2.2.1) (ho : stOK ls (i : Nat) = true) (k : MW K y d h (pc + 1) (ls.set (i : Nat) (some (.int x))) st Q) : MW K y d h pc ls (.int x :: st) Q := by
  intro p e R s m args below meth c H locs cells slots la C hR hf hc hs h1 h2 hl
  exact lv_istore_n C.1 C.2.1 hdg rfl (lsR_has hl) hn rfl fun la' hl' => k p e R s m args below meth c H locs cells slots la' C hR hf hc hs h1 h2 (lsR_set ho hl')
theorem m_istore {i : Nat} {x : Int32} (hdg : decode y.2.1 pc = .ok (.istore i, 2)) (hn : i < y.2.2.1) (ho : stOK ls i = true) (k : MW K y d h (pc + 2) (ls.set i (some (.int x))) st Q) : MW K y d h pc ls (.int x :: st) Q := by
  intro p e R s m args below meth c H locs cells slots la C hR hf hc hs h1 h2 hl
  exact lv_istore C.1 C.2.1 hdg (lsR_has hl) hn rfl fun la' hl' => k p e R s m args below meth c H locs cells slots la' C hR hf hc hs h1 h2 (lsR_set ho hl')
theorem m_lstore_n {i : Fin 4} {x : Int64} (hdg : decode y.2.1 pc = .ok (.lstore_n i, 1)) (hn : (i : Nat) + 1 < y.2.2.1) (ho : stOK ls (i : Nat) = true) (k : MW K y d h (pc + 1) ((ls.set (i : Nat) (some (.long x))).set ((i : Nat) + 1) none) st Q) : MW K y d h pc ls (.long x :: st) Q := by
  intro p e R s m args below meth c H locs cells slots la C hR hf hc hs h1 h2 hl
  exact lv_lstore_n C.1 C.2.1 hdg rfl (lsR_has hl) hn rfl fun la' hl' => k p e R s m args below meth c H locs cells slots la' C hR hf hc hs h1 h2 (lsR_set2 ho hl')
theorem m_lstore {i : Nat} {x : Int64} (hdg : decode y.2.1 pc = .ok (.lstore i, 2)) (hn : i + 1 < y.2.2.1) (ho : stOK ls i = true) (k : MW K y d h (pc + 2) ((ls.set i (some (.long x))).set (i + 1) none) st Q) : MW K y d h pc ls (.long x :: st) Q := by
  intro p e R s m args below meth c H locs cells slots la C hR hf hc hs h1 h2 hl
  exact lv_lstore C.1 C.2.1 hdg (lsR_has hl) hn rfl fun la' hl' => k p e R s m args below meth c H locs cells slots la' C hR hf hc hs h1 h2 (lsR_set2 ho hl')
theorem m_fstore_n {i : Fin 4} {x : UInt32} (hdg : decode y.2.1 pc = .ok (.fstore_n i, 1)) (hn : (i : Nat) < y.2.2.1) (ho : stOK ls (i : Nat) = true) (k : MW K y d h (pc + 1) (ls.set (i : Nat) (some (.float x))) st Q) : MW K y d h pc ls (.float x :: st) Q := by
  intro p e R s m args below meth c H locs cells slots la C hR hf hc hs h1 h2 hl
  exact lv_fstore_n C.1 C.2.1 hdg rfl (lsR_has hl) hn rfl fun la' hl' => k p e R s m args below meth c H locs cells slots la' C hR hf hc hs h1 h2 (lsR_set ho hl')
theorem m_fstore {i : Nat} {x : UInt32} (hdg : decode y.2.1 pc = .ok (.fstore i, 2)) (hn : i < y.2.2.1) (ho : stOK ls i = true) (k : MW K y d h (pc + 2) (ls.set i (some (.float x))) st Q) : MW K y d h pc ls (.float x :: st) Q := by
  intro p e R s m args below meth c H locs cells slots la C hR hf hc hs h1 h2 hl
  exact lv_fstore C.1 C.2.1 hdg (lsR_has hl) hn rfl fun la' hl' => k p e R s m args below meth c H locs cells slots la' C hR hf hc hs h1 h2 (lsR_set ho hl')
theorem m_dstore_n {i : Fin 4} {x : UInt64} (hdg : decode y.2.1 pc = .ok (.dstore_n i, 1)) (hn : (i : Nat) + 1 < y.2.2.1) (ho : stOK ls (i : Nat) = true) (k : MW K y d h (pc + 1) ((ls.set (i : Nat) (some (.double x))).set ((i : Nat) + 1) none) st Q) : MW K y d h pc ls (.double x :: st) Q := by
  intro p e R s m args below meth c H locs cells slots la C hR hf hc hs h1 h2 hl
  exact lv_dstore_n C.1 C.2.1 hdg rfl (lsR_has hl) hn rfl fun la' hl' => k p e R s m args below meth c H locs cells slots la' C hR hf hc hs h1 h2 (lsR_set2 ho hl')
theorem m_dstore {i : Nat} {x : UInt64} (hdg : decode y.2.1 pc = .ok (.dstore i, 2)) (hn : i + 1 < y.2.2.1) (ho : stOK ls i = true) (k : MW K y d h (pc + 2) ((ls.set i (some (.double x))).set (i + 1) none) st Q) : MW K y d h pc ls (.double x :: st) Q := by
  intro p e R s m args below meth c H locs cells slots la C hR hf hc hs h1 h2 hl
  exact lv_dstore C.1 C.2.1 hdg (lsR_has hl) hn rfl fun la' hl' => k p e R s m args below meth c H locs cells slots la' C hR hf hc hs h1 h2 (lsR_set2 ho hl')
theorem m_astore_n {i : Fin 4} {x : Nat} (hdg : decode y.2.1 pc = .ok (.astore_n i, 1)) (hn : (i : Nat) < y.2.2.1) (ho : stOK ls (i : Nat) = true) (k : MW K y d h (pc + 1) (ls.set (i : Nat) (some (.ref x))) st Q) : MW K y d h pc ls (.ref x :: st) Q := by
  intro p e R s m args below meth c H locs cells slots la C hR hf hc hs h1 h2 hl
  exact lv_astore_n C.1 C.2.1 hdg rfl (lsR_has hl) hn rfl fun la' hl' => k p e R s m args below meth c H locs cells slots la' C hR hf hc hs h1 h2 (lsR_set ho hl')
theorem m_astore {i : Nat} {x : Nat} (hdg : decode y.2.1 pc = .ok (.astore i, 2)) (hn : i < y.2.2.1) (ho : stOK ls i = true) (k : MW K y d h (pc + 2) (ls.set i (some (.ref x))) st Q) : MW K y d h pc ls (.ref x :: st) Q := by
  intro p e R s m args below meth c H locs cells slots la C hR hf hc hs h1 h2 hl
  exact lv_astore C.1 C.2.1 hdg (lsR_has hl) hn rfl fun la' hl' => k p e R s m args below meth c H locs cells slots la' C hR hf hc hs h1 h2 (lsR_set ho hl')
theorem m_astore_nN {i : Fin 4} (hdg : decode y.2.1 pc = .ok (.astore_n i, 1)) (hn : (i : Nat) < y.2.2.1) (ho : stOK ls (i : Nat) = true) (k : MW K y d h (pc + 1) (ls.set (i : Nat) (some (.null))) st Q) : MW K y d h pc ls (.null :: st) Q := by
  intro p e R s m args below meth c H locs cells slots la C hR hf hc hs h1 h2 hl
  exact lv_astore_nN C.1 C.2.1 hdg rfl (lsR_has hl) hn rfl fun la' hl' => k p e R s m args below meth c H locs cells slots la' C hR hf hc hs h1 h2 (lsR_set ho hl')
theorem m_astore_nq {i : Fin 4} {x : Option Nat} (hdg : decode y.2.1 pc = .ok (.astore_n i, 1)) (hn : (i : Nat) < y.2.2.1) (ho : stOK ls (i : Nat) = true) (k : MW K y d h (pc + 1) (ls.set (i : Nat) (some (va_rf x))) st Q) : MW K y d h pc ls (va_rf x :: st) Q := by
  cases x with
  | none => exact m_astore_nN hdg hn ho k
  | some x => exact m_astore_n hdg hn ho k
theorem m_astoreN {i : Nat} (hdg : decode y.2.1 pc = .ok (.astore i, 2)) (hn : i < y.2.2.1) (ho : stOK ls i = true) (k : MW K y d h (pc + 2) (ls.set i (some (.null))) st Q) : MW K y d h pc ls (.null :: st) Q := by
  intro p e R s m args below meth c H locs cells slots la C hR hf hc hs h1 h2 hl
  exact lv_astoreN C.1 C.2.1 hdg (lsR_has hl) hn rfl fun la' hl' => k p e R s m args below meth c H locs cells slots la' C hR hf hc hs h1 h2 (lsR_set ho hl')
theorem m_astoreq {i : Nat} {x : Option Nat} (hdg : decode y.2.1 pc = .ok (.astore i, 2)) (hn : i < y.2.2.1) (ho : stOK ls i = true) (k : MW K y d h (pc + 2) (ls.set i (some (va_rf x))) st Q) : MW K y d h pc ls (va_rf x :: st) Q := by
  cases x with
  | none => exact m_astoreN hdg hn ho k
  | some x => exact m_astore hdg hn ho k
theorem m_iret {x : Int32} (hdg : decode y.2.1 pc = .ok (.ireturn, 1)) (hr : y.2.2.2.1 = some .int) (hq : Q (.inl (some (.int x))) h) : MW K y d h pc ls [.int x] Q := by
  intro p e R s m args below meth c H locs cells slots la C hR hf hc hs h1 h2 hl
  refine vx_ret (W.widen h1 h2 ?_)
  have hlocks : meth.locks = false := C.2.2.2.2.2.1
  exact W.iret C.1 C.2.1 (C.2.2.2.2.1.trans hr) (fun t ht hW => ⟨some (.int x), h, rfl, by rw [ht]; exact hR, hq⟩) hf hdg hlocks
theorem m_zret {x : Int32} {ty : FieldType} (hdg : decode y.2.1 pc = .ok (.ireturn, 1)) (hr : y.2.2.2.1 = some ty) (hn : narrow ty (.int x) = .int x) (hq : Q (.inl (some (.int x))) h) : MW K y d h pc ls [.int x] Q := by
  intro p e R s m args below meth c H locs cells slots la C hR hf hc hs h1 h2 hl
  refine vx_ret (W.widen h1 h2 ?_)
  have hlocks : meth.locks = false := C.2.2.2.2.2.1
  exact W.zret C.1 C.2.1 (C.2.2.2.2.1.trans hr) hn (fun t ht hW => ⟨some (.int x), h, rfl, by rw [ht]; exact hR, hq⟩) hf hdg hlocks
theorem m_vret (hdg : decode y.2.1 pc = .ok (.return_, 1)) (hr : y.2.2.2.1 = none) (hq : Q (.inl none) h) : MW K y d h pc ls [] Q := by
  intro p e R s m args below meth c H locs cells slots la C hR hf hc hs h1 h2 hl
  refine vx_ret (W.widen h1 h2 ?_)
  have hlocks : meth.locks = false := C.2.2.2.2.2.1
  exact W.vret C.1 C.2.1 (C.2.2.2.2.1.trans hr) (fun t ht hW => ⟨none, h, rfl, by rw [ht]; exact hR, hq⟩) hf hdg hlocks
theorem m_aret {x : Option Nat} {rt : FieldType} (hdg : decode y.2.1 pc = .ok (.areturn, 1)) (hr : y.2.2.2.1 = some rt) (hrt : (∃ n, rt = .object n) ∨ ∃ t, rt = .array t) (hq : Q (.inl (some (va_rf x))) h) : MW K y d h pc ls [va_rf x] Q := by
  intro p e R s m args below meth c H locs cells slots la C hR hf hc hs h1 h2 hl
  refine vx_ret (W.widen h1 h2 ?_)
  have hlocks : meth.locks = false := C.2.2.2.2.2.1
  exact W.aret C.1 C.2.1 (C.2.2.2.2.1.trans hr) hrt (by cases x with | none => exact Or.inl rfl | some a => exact Or.inr ⟨a, rfl⟩) (fun t ht hW => ⟨some (va_rf x), h, rfl, by rw [ht]; exact hR, hq⟩) hf hdg hlocks
theorem m_lret {x : Int64} (hdg : decode y.2.1 pc = .ok (.lreturn, 1)) (hr : y.2.2.2.1 = some .long) (hq : Q (.inl (some (.long x))) h) : MW K y d h pc ls [.long x] Q := by
  intro p e R s m args below meth c H locs cells slots la C hR hf hc hs h1 h2 hl
  refine vx_ret (W.widen h1 h2 ?_)
  have hlocks : meth.locks = false := C.2.2.2.2.2.1
  exact W.lret C.1 C.2.1 (C.2.2.2.2.1.trans hr) (fun t ht hW => ⟨some (.long x), h, rfl, by rw [ht]; exact hR, hq⟩) hf hdg hlocks
theorem m_fret {x : UInt32} (hdg : decode y.2.1 pc = .ok (.freturn, 1)) (hr : y.2.2.2.1 = some .float) (hq : Q (.inl (some (.float x))) h) : MW K y d h pc ls [.float x] Q := by
  intro p e R s m args below meth c H locs cells slots la C hR hf hc hs h1 h2 hl
  refine vx_ret (W.widen h1 h2 ?_)
  have hlocks : meth.locks = false := C.2.2.2.2.2.1
  exact W.fret C.1 C.2.1 (C.2.2.2.2.1.trans hr) (fun t ht hW => ⟨some (.float x), h, rfl, by rw [ht]; exact hR, hq⟩) hf hdg hlocks
theorem m_dret {x : UInt64} (hdg : decode y.2.1 pc = .ok (.dreturn, 1)) (hr : y.2.2.2.1 = some .double) (hq : Q (.inl (some (.double x))) h) : MW K y d h pc ls [.double x] Q := by
  intro p e R s m args below meth c H locs cells slots la C hR hf hc hs h1 h2 hl
  refine vx_ret (W.widen h1 h2 ?_)
  have hlocks : meth.locks = false := C.2.2.2.2.2.1
  exact W.dret C.1 C.2.1 (C.2.2.2.2.1.trans hr) (fun t ht hW => ⟨some (.double x), h, rfl, by rw [ht]; exact hR, hq⟩) hf hdg hlocks
end HR
