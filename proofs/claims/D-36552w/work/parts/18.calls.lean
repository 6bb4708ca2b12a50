/-! Contracts, calls, throws over MW -/
theorem arrOv_moved {t : FieldType} {u U : State} (hvm : u.vm.Alike U.vm) (h : (Cond.arrayOver (.array t)).before #[] u = true) : (Cond.arrayOver (.array t)).before #[] U = true := by
  obtain ⟨comp, c, k, h1, h2, h3, h4, h5⟩ := arrayOverA_spec h
  obtain ⟨k', hk', he⟩ := hvm.2.2 _ _ h3
  have hi : (U.vm.classes.findIdx? fun (x : Class) => match x.kind with | .array component _ => component == comp | _ => false) = some c := by
    have e1 := va_idx_bare U.vm comp
    have e2 := va_idx_bare u.vm comp
    have e3 : U.vm.bare = u.vm.bare := by first | exact hvm.bare_eq | exact hvm.bare_eq.symm
    rw [e3] at e1
    exact e1.symm.trans (e2.trans h2)
  have hkind : k'.kind = .array comp (.array t) := by rw [he]; exact h4
  have f1 : U.vm.findClass (FieldType.array t).toString = some comp := by rw [hvm.findClass]; exact h1
  have f2 : U.vm.findClass ("[" ++ (FieldType.array t).toString) = some c := by rw [hvm.findClass]; exact h5
  unfold Cond.before Cond.holds
  simp only [Cond.value]
  rw [f1, Option.bind_some]
  refine (congrArg (fun o : Option Nat => (o.bind (fun c => (U.vm.classes[c]?).map fun (k : Class) => match k.kind with | .array _ ty => decide (ty = FieldType.array t) && decide (U.vm.findClass ("[" ++ (FieldType.array t).toString) = some c) | _ => false) == some true)) hi).trans ?_
  simp [hk', hkind, f2]
theorem gl_move {w : Cond} (hg : glW w = true) {s U : State} (hW : s.WarmedH U.vm) (h : w.before #[] s = true) : w.before #[] U = true := by
  unfold glW at hg
  simp only [Bool.or_eq_true, Bool.and_eq_true] at hg
  rcases hg with (hg | ⟨h1, h2⟩) | hg
  · exact word_at hW (good_of_word hg) h
  · exact va_tabs h1 (rfl : (s.setVm U.vm).vm = U.vm) (Cond.before_shiftedCast (State.Shifted.of_warmed hW) w h2 h)
  · cases w <;> first | exact va_Nw.warmF hW h | exact va_Nw.warmM hW h | cases hg
theorem Glob.move {K : KT} {s U : State} (h : Glob K s) (hW : s.WarmedH U.vm) (hb : ∀ a, a < (kB K).size → U.heap[a]? = (kB K)[a]?) (hz : (kB K).size ≤ U.heap.size) : Glob K U := by
  obtain ⟨g1, g2, g3, g4, b1, b2, b3, b4, b5, b6, b7, b8, b9, b10, b11, b12⟩ := h
  have hq : ∀ a : Nat, a < s.heap.size → ¬ mFr K a → U.heap[a]? = s.heap[a]? := fun a _ hA => by
    have hlt : a < (kB K).size := Nat.not_le.mp hA
    rw [hb a hlt, g3 a hlt]
  exact ⟨va_K.moved hW.alike g1, fun w hw hg => gl_move hg hW (g2 w hw hg), hb, hz, fun i q hi => (va_Z.moved hW.alike (b1 i q hi)).kept hq, (vx_Zq.moved hW.alike b2).kept hq, (vx_Zq.moved hW.alike b3).kept hq, vk_R.warm hW b4, vk_R.warm hW b5, va_Mi.moved hW.alike b6, fun a ha b hb ne => va_Nc.moved hW.alike (b7 a ha b hb ne), fun i hi => arrOfT_moved hW.alike (b8 i hi), fun i hi => (b9 i hi).moved hW.alike, va_AO.moved hW.alike b10, arrOv_moved hW.alike b11, b12⟩
def mPc (K : KT) (args : List Value) (h : MH) : Array Value → State → Prop := fun v U => v = args.toArray ∧ Rep K h U.heap ∧ Glob K U
theorem mPc.blind {K : KT} {args : List Value} {h : MH} : FrameBlind (mPc K args h) := fun a U g mk ⟨q1, q2, q3⟩ => ⟨q1, q2, q3.move (U := U.calling g mk a) (State.WarmedH.refl U) q2.2.2.2.1 q2.2.2.1⟩
def mRm (K : KT) (d : Nat) (h : MH) : Room := { frames := d, cells := kC K - h.1, slots := kS K - h.2.1, locals := 64 * d }
def mws (y : YT) : List Cond := match y.2.2.2.2 with
  | none => ws_ y.1 y.2.1 y.2.2.1 y.2.2.2.1
  | some hh => wsW_ y.1 y.2.1 y.2.2.1 y.2.2.2.1 hh
/-- the contract of one call: with these arguments on this heap the method returns or throws, and Q says how -/
def Mt (K : KT) (y : YT) (d : Nat) (args : List Value) (h : MH) (Q : OT → MH → Prop) : Prop := vx_Met (kL K) y.1 (mws y) (mRm K d h) (mPc K args h) (mQc K Q) (mXC K Q) (kC K - h.1) (kS K - h.2.1) (mFr K)
def mA : List Value → List (Option Value)
  | [] => []
  | v :: vs => if v.category = 2 then some v :: none :: mA vs else some v :: mA vs
def mArgs (args : List Value) (L : Nat) : List (Option Value) := (mA args ++ List.replicate L none).take L
theorem mA_mem : ∀ (args : List Value) (k j : Nat) (v : Value), (mA args)[j]? = some (some v) → (k + j, v) ∈ lv_args k args := by
  intro args
  induction args with
  | nil => intro k j v h; simp [mA] at h
  | cons a as ih =>
    intro k j v h
    unfold mA at h
    unfold lv_args
    by_cases hc : a.category = 2
    · rw [if_pos hc] at h
      rw [if_pos hc]
      match j, h with
      | 0, h => simp at h; rw [h]; exact List.mem_cons_self
      | 1, h => simp at h
      | j + 2, h =>
        have h3 := ih (k + 2) j v (by simpa using h)
        rw [show k + 2 + j = k + (j + 2) by omega] at h3
        exact List.mem_cons_of_mem _ h3
    · rw [if_neg hc] at h
      rw [if_neg hc]
      match j, h with
      | 0, h => simp at h; rw [h]; exact List.mem_cons_self
      | j + 1, h =>
        have h3 := ih (k + 1) j v (by simpa using h)
        rw [show k + 1 + j = k + (j + 1) by omega] at h3
        exact List.mem_cons_of_mem _ h3
theorem mArgs_R {args : List Value} {L : Nat} {la : Array Slot} (h : lv_has la L (lv_args 0 args)) : lsR la L (mArgs args L) := by
  refine ⟨h.1, h.2.1, fun i v hi => ?_⟩
  unfold mArgs at hi
  rw [List.getElem?_take] at hi
  split at hi
  · by_cases h2 : i < (mA args).length
    · rw [List.getElem?_append_left h2] at hi
      have := mA_mem args 0 i v hi
      rw [Nat.zero_add] at this
      exact h.2.2 _ this
    · rw [List.getElem?_append_right (by omega), List.getElem?_replicate] at hi
      split at hi <;> cases hi
  · cases hi
theorem mt_ofW {K : KT} {nm : MethodName} {cc : ByteArray} {L : Nat} {rt : Option FieldType} {d : Nat} {args : List Value} {h : MH} {Q : OT → MH → Prop} (hy : plainName nm.cls = true) (hL : (lg_sl args).length ≤ L) (hm : MW K (nm, cc, L, rt, none) d h 0 (mArgs args L) [] Q) : Mt K (nm, cc, L, rt, none) d args h Q := by
  refine vx_ofW (cc := cc) (maxL := L) (ret := rt) hy rfl ?_
  intro p e s m args' below meth c s₁ B hml ht hv
  obtain ⟨rfl, hR, hG⟩ := hv
  have hC : MWc K (nm, cc, L, rt, none) d p (headSpec (mws (nm, cc, L, rt, none)) (mRm K d h)).room s m meth c := ⟨B.exec, B.bytes, hml, findClass_of_methodNamed B.named, B.returns, B.notSynchronized, (name_of_methodNamed B.named B.method).1, by
    show c.exceptionTable.toList = []
    exact List.eq_nil_iff_forall_not_mem.mpr fun x hx => ht x hx, hG, Nat.le_refl d, Nat.le_refl _, by show kC K - h.1 = _; rw [hR.1], by show kS K - h.2.1 = _; rw [hR.2.1]⟩
  rw [lg_entry_eq]
  exact hm p e _ s m _ below meth c s.heap [] 0 0 _ hC hR (fun z hz => nomatch hz) rfl rfl (Nat.zero_le _) (Nat.zero_le _) (mArgs_R (lv_entry args hL))
theorem mt_ofWH {K : KT} {nm : MethodName} {cc : ByteArray} {L : Nat} {rt : Option FieldType} {hh : List (Nat × Nat × Nat × Nat)} {d : Nat} {args : List Value} {h : MH} {Q : OT → MH → Prop} (hy : plainName nm.cls = true) (hL : (lg_sl args).length ≤ L) (hm : MW K (nm, cc, L, rt, some hh) d h 0 (mArgs args L) [] Q) : Mt K (nm, cc, L, rt, some hh) d args h Q := by
  refine vx_ofWH (cc := cc) (maxL := L) (ret := rt) (hh := hh) hy rfl ?_
  intro p e s m args' below meth c s₁ B hml hv
  obtain ⟨rfl, hR, hG⟩ := hv
  have hpre := atoms_spec (ws := mws (nm, cc, L, rt, some hh)) B.pre
  have hC : MWc K (nm, cc, L, rt, some hh) d p (headSpec (mws (nm, cc, L, rt, some hh)) (mRm K d h)).room s m meth c := ⟨B.exec, B.bytes, hml, findClass_of_methodNamed B.named, B.returns, B.notSynchronized, (name_of_methodNamed B.named B.method).1, vx_table (x := nm) B (hpre _ List.mem_cons_self), hG, Nat.le_refl d, Nat.le_refl _, by show kC K - h.1 = _; rw [hR.1], by show kS K - h.2.1 = _; rw [hR.2.1]⟩
  rw [lg_entry_eq]
  exact hm p e _ s m _ below meth c s.heap [] 0 0 _ hC hR (fun z hz => nomatch hz) rfl rfl (Nat.zero_le _) (Nat.zero_le _) (mArgs_R (lv_entry args hL))
/-! the book of cells and slots behind a call -/
theorem uz_ext {H T : Heap} {b : Nat} (hb : b ≤ H.size) (hz : H.size ≤ T.size) (ho : ∀ q : Nat, q < H.size → (T[q]?).map (fun c => c.slots.size) = (H[q]?).map (fun c => c.slots.size)) : uz T b = uz H b + uz T H.size := by
  have e : (T.toList.map (fun c => c.slots.size)).take H.size = H.toList.map (fun c => c.slots.size) := by
    apply List.ext_getElem?
    intro i
    rw [List.getElem?_take]
    by_cases hi : i < H.size
    · rw [if_pos hi, List.getElem?_map, List.getElem?_map, Array.getElem?_toList, Array.getElem?_toList]
      exact ho i hi
    · rw [if_neg hi]
      symm
      rw [List.getElem?_eq_none_iff]
      simp; omega
  unfold uz
  rw [List.map_drop, List.map_drop, List.map_drop, ← e]
  have h2 : (T.toList.map (fun c => c.slots.size)).drop b = ((T.toList.map (fun c => c.slots.size)).take H.size).drop b ++ (T.toList.map (fun c => c.slots.size)).drop H.size := by
    conv => lhs; rw [← List.take_append_drop H.size (T.toList.map (fun c => c.slots.size))]
    rw [List.drop_append_of_le_length]
    simp; omega
  rw [h2, List.sum_append]
section Nar
variable {p : Program} {l : Launch} {e : Env} {R : Room} {s : State} {m : MethodId} {args : Array Value} {below : List Frame} {meth : Method} {c : Code} {T : State} {locs : List Loc} {cells slots : Nat}
theorem st_narrow (X : Stand p l e R s m args below meth c T locs cells slots) {c' s' : Nat} (hc : T.heap.size ≤ s.heap.size + c') (hs : uz T.heap s.heap.size ≤ s') : Stand p l e R s m args below meth c T locs c' s' :=
  { X with same := ⟨X.same.1, X.same.2.1, hc, X.same.2.2.2.1, hs, X.same.2.2.2.2.2⟩ }
theorem st_uz (X : Stand p l e R s m args below meth c T locs cells slots) {b : Nat} (hb : b ≤ s.heap.size) : uz T.heap b = uz s.heap b + uz T.heap s.heap.size := by
  refine uz_ext hb X.same.2.1 fun q hq => ?_
  obtain ⟨c', e1, -, e3, -⟩ := X.same.2.2.2.2.2 q _ (Array.getElem?_eq_getElem hq)
  have e1' : T.heap[q]? = some c' := e1
  rw [e1', Array.getElem?_eq_getElem hq]
  simp [e3]
end Nar
/-- q, of the class E, is thrown over the frame -/
def MX (K : KT) (y : YT) (d : Nat) (h : MH) (pc : Nat) (ls : List (Option Value)) (st : List Value) (E : String) (q : Nat) (Q : OT → MH → Prop) : Prop :=
  ∀ (p : Program) (e : Env) (R : Room) (s : State) (m : MethodId) (args : Array Value) (below : List Frame) (meth : Method) (c : Code) (H : Heap) (locs : List Loc) (cells slots : Nat) (la : Array Slot),
    MWc K y d p R s m meth c → Rep K h H → (∀ z ∈ locs, mFr K z.base) → s.heap.size + cells = H.size → uz s.heap (kB K).size + slots = uz H (kB K).size → cells ≤ R.cells → slots ≤ R.slots → lsR la y.2.2.1 ls → (∃ ce : Cell, H[q]? = some ce ∧ ce.vm = .none ∧ s.vm.findClass E = some ce.cls) →
    vx_W p (kL K) e R s m args below meth c H locs cells slots (vx_MQ below (mQc K Q) (mXC K Q) args s R.cells R.slots (mFr K)) (F0 m pc la st) q
section CR
variable {K : KT} {y : YT} {d : Nat} {h : MH} {pc : Nat} {ls : List (Option Value)} {st : List Value} {Q : OT → MH → Prop}
theorem mx_out {E : String} {q : Nat} (hn : ∀ x ∈ tableOf (y.2.2.2.2.getD []), covers x pc = false) (hq : Q (.inr (E, q)) h) : MX K y d h pc ls st E q Q := by
  intro p e R s m args below meth c H locs cells slots la C hR hf hc hs h1 h2 hl ⟨ce, x1, x2, x3⟩
  exact vx_out (fun x hx => hn x (by rw [← C.2.2.2.2.2.2.2.1]; exact hx)) C.2.2.2.2.2.1 x1 x2 x3 (fun t ht _ => ⟨h, by rw [ht]; exact hR, hq⟩) hf h1 h2
theorem mx_catch {E name : String} {q : Nat} (pre : List ExceptionTableEntry) (x : ExceptionTableEntry) (suf : List ExceptionTableEntry) (hsplit : tableOf (y.2.2.2.2.getD []) = pre ++ x :: suf)
    (hpass : ∀ z ∈ pre, covers z pc = false ∨ (z.catchType ≠ 0 ∧ ∃ nm : String, Cond.classLink y.1.cls z.catchType nm ∈ lw_all ∧ E ∈ kEx ∧ nm ∈ kEx ∧ E ≠ nm)) (hx : covers x pc = true) (h0 : x.catchType ≠ 0) (hlink : Cond.classLink y.1.cls x.catchType name ∈ lw_all) (hcast : Cond.castable E name ∈ lw_tbl) (kk : MW K y d h x.handlerPc ls [.ref q] Q) : MX K y d h pc ls st E q Q := by
  intro p e R s m args below meth c H locs cells slots la C hR hf hc hs h1 h2 hl ⟨ce, x1, x2, x3⟩
  refine vx_catch C.2.2.2.1 pre x suf (C.2.2.2.2.2.2.2.1.trans hsplit) (fun z hz => ?_) hx h0 (C.al hlink args) (C.tb hcast rfl rfl args) x1 x2 x3 (kk p e R s m args below meth c H locs cells slots la C hR hf hc hs h1 h2 hl)
  rcases hpass z hz with h | ⟨z1, nm, z2, z3, z4, z5⟩
  · exact Or.inl h
  · exact Or.inr ⟨z1, nm, C.al z2 args, C.gl.2.2.2.2.2.2.2.2.2.2.1 E z3 nm z4 z5⟩
theorem mw_run {Q' : OT → MH → Prop} {p : Program} {e : Env} {R : Room} {s : State} {m : MethodId} {args a' : Array Value} {below : List Frame} {meth : Method} {c : Code} {H : Heap} {locs : List Loc} {cells slots : Nat} {la : Array Slot} {st0 : List Value}
    (C : MWc K y d p R s m meth c) (hR : Rep K h H) (hf : ∀ z ∈ locs, mFr K z.base) (hc : s.heap.size + cells = H.size) (hs : uz s.heap (kB K).size + slots = uz H (kB K).size) (h1 : cells ≤ R.cells) (h2 : slots ≤ R.slots) (hl : lsR la y.2.2.1 ls)
    (hr : vx_Run p (kL K) e R s m args below meth c H locs cells slots (kC K - h.1) (kS K - h.2.1) (F0 m pc la st0) st (mQc K Q' a') (mXC K Q') (mFr K))
    (kk : ∀ v h', Q' (.inl v) h' → MW K y d h' (pc + 3) ls (v.toList ++ st) Q) (kx : ∀ E q h', Q' (.inr (E, q)) h' → MX K y d h' pc ls st E q Q) :
    W p (kL K) e R s m args below meth c H locs cells slots (vx_MQ below (mQc K Q) (mXC K Q) args s R.cells R.slots (mFr K)) (F0 m pc la st0) := by
  intro T hT X
  have hz1 := hR.1
  have hz2 := hR.2.1
  obtain ⟨r1, r2, r3, r4⟩ := C.rc
  have hbs : (kB K).size ≤ s.heap.size := C.gl.2.2.2.1
  rcases hr T hT X with ⟨v, st₀, t, T', L, h0, X', hL, e1, e2, ⟨v', h', hv, hR', hq⟩, st⟩ | ⟨q, st₀, t, T', L, E, ce, h0, X', hL, e1, e2, ⟨h', hR', hq⟩, hce, hcv, hcl, st⟩
  · cases hv
    have b1 : T'.heap.size ≤ s.heap.size + (cells + (kC K - h.1)) := X'.heapSize
    have b2 : s.heap.size ≤ T'.heap.size := X'.same.2.1
    have b3 : uz T'.heap s.heap.size ≤ slots + (kS K - h.2.1) := X'.same.2.2.2.2.1
    have b4 := st_uz X' hbs
    rw [← e1] at hR'
    obtain ⟨t2, a1, b5⟩ := kk v h' hq p e R s m args below meth c T'.heap (locs ++ L) (T'.heap.size - s.heap.size) (uz T'.heap s.heap.size) la C hR' (fun z hz => (List.mem_append.mp hz).elim (hf z) (hL z)) (by omega) b4.symm (by omega) (by omega) hl T' rfl (st_narrow X' (by omega) (Nat.le_refl _))
    exact ⟨t2, st t2 a1, b5⟩
  · have b1 : T'.heap.size ≤ s.heap.size + (cells + (kC K - h.1)) := X'.heapSize
    have b2 : s.heap.size ≤ T'.heap.size := X'.same.2.1
    have b3 : uz T'.heap s.heap.size ≤ slots + (kS K - h.2.1) := X'.same.2.2.2.2.1
    have b4 := st_uz X' hbs
    rw [← e1] at hR' hce
    obtain ⟨t2, a1, b5⟩ := kx E q h' hq p e R s m args below meth c T'.heap (locs ++ L) (T'.heap.size - s.heap.size) (uz T'.heap s.heap.size) la C hR' (fun z hz => (List.mem_append.mp hz).elim (hf z) (hL z)) (by omega) b4.symm (by omega) (by omega) hl ⟨ce, hce, hcv, hcl⟩ T' rfl (st_narrow X' (by omega) (Nat.le_refl _))
    exact ⟨t2, st.trans a1, b5⟩
theorem mw_run5 {Q' : OT → MH → Prop} {p : Program} {e : Env} {R : Room} {s : State} {m : MethodId} {args a' : Array Value} {below : List Frame} {meth : Method} {c : Code} {H : Heap} {locs : List Loc} {cells slots : Nat} {la : Array Slot} {st0 : List Value}
    (C : MWc K y d p R s m meth c) (hR : Rep K h H) (hf : ∀ z ∈ locs, mFr K z.base) (hc : s.heap.size + cells = H.size) (hs : uz s.heap (kB K).size + slots = uz H (kB K).size) (h1 : cells ≤ R.cells) (h2 : slots ≤ R.slots) (hl : lsR la y.2.2.1 ls)
    (hr : vx_Run5 p (kL K) e R s m args below meth c H locs cells slots (kC K - h.1) (kS K - h.2.1) (F0 m pc la st0) st (mQc K Q' a') (mXC K Q') (mFr K))
    (kk : ∀ v h', Q' (.inl v) h' → MW K y d h' (pc + 5) ls (v.toList ++ st) Q) (kx : ∀ E q h', Q' (.inr (E, q)) h' → MX K y d h' pc ls st E q Q) :
    W p (kL K) e R s m args below meth c H locs cells slots (vx_MQ below (mQc K Q) (mXC K Q) args s R.cells R.slots (mFr K)) (F0 m pc la st0) := by
  intro T hT X
  have hz1 := hR.1
  have hz2 := hR.2.1
  obtain ⟨r1, r2, r3, r4⟩ := C.rc
  have hbs : (kB K).size ≤ s.heap.size := C.gl.2.2.2.1
  rcases hr T hT X with ⟨v, st₀, t, T', L, h0, X', hL, e1, e2, ⟨v', h', hv, hR', hq⟩, st⟩ | ⟨q, st₀, t, T', L, E, ce, h0, X', hL, e1, e2, ⟨h', hR', hq⟩, hce, hcv, hcl, st⟩
  · cases hv
    have b1 : T'.heap.size ≤ s.heap.size + (cells + (kC K - h.1)) := X'.heapSize
    have b2 : s.heap.size ≤ T'.heap.size := X'.same.2.1
    have b3 : uz T'.heap s.heap.size ≤ slots + (kS K - h.2.1) := X'.same.2.2.2.2.1
    have b4 := st_uz X' hbs
    rw [← e1] at hR'
    obtain ⟨t2, a1, b5⟩ := kk v h' hq p e R s m args below meth c T'.heap (locs ++ L) (T'.heap.size - s.heap.size) (uz T'.heap s.heap.size) la C hR' (fun z hz => (List.mem_append.mp hz).elim (hf z) (hL z)) (by omega) b4.symm (by omega) (by omega) hl T' rfl (st_narrow X' (by omega) (Nat.le_refl _))
    exact ⟨t2, st t2 a1, b5⟩
  · have b1 : T'.heap.size ≤ s.heap.size + (cells + (kC K - h.1)) := X'.heapSize
    have b2 : s.heap.size ≤ T'.heap.size := X'.same.2.1
    have b3 : uz T'.heap s.heap.size ≤ slots + (kS K - h.2.1) := X'.same.2.2.2.2.1
    have b4 := st_uz X' hbs
    rw [← e1] at hR' hce
    obtain ⟨t2, a1, b5⟩ := kx E q h' hq p e R s m args below meth c T'.heap (locs ++ L) (T'.heap.size - s.heap.size) (uz T'.heap s.heap.size) la C hR' (fun z hz => (List.mem_append.mp hz).elim (hf z) (hL z)) (by omega) b4.symm (by omega) (by omega) hl ⟨ce, hce, hcv, hcl⟩ T' rfl (st_narrow X' (by omega) (Nat.le_refl _))
    exact ⟨t2, st.trans a1, b5⟩
/-- a static call -/
theorem m_invS {nm : MethodName} {cc : ByteArray} {L : Nat} {rt : Option FieldType} {d' : Nat} {Q' : OT → MH → Prop} {index : Nat} (As : List Value) (hdg : decode y.2.1 pc = .ok (.invokestatic index, 3)) (hl1 : Cond.methodLink y.1.cls index nm ∈ lw_all) (hl2 : Cond.static nm ∈ lw_all) (hl3 : Cond.initialized nm.cls ∈ lw_all) (hl4 : Cond.code nm cc L rt ∈ lw_all) (hM : Mt K (nm, cc, L, rt, none) d' As h Q') (hd : nm.cls ≠ "java/lang/invoke/MethodHandle" ∧ nm.cls ≠ "java/lang/invoke/VarHandle" ∧ (parseMethodDescriptor nm.desc).map (fun d => d.parameters.length) = some As.length) (hr : (st.map fun v => v.category).sum ≤ 8 ∧ L ≤ 45 ∧ d' + 1 ≤ d) (kk : ∀ v h', Q' (.inl v) h' → MW K y d h' (pc + 3) ls (v.toList ++ st) Q) (kx : ∀ E q h', Q' (.inr (E, q)) h' → MX K y d h' pc ls st E q Q) : MW K y d h pc ls (As.reverse ++ st) Q := by
  intro p e R s m args below meth c H locs cells slots la C hR hf hc hs h1 h2 hl
  have hz1 := hR.1
  have hz2 := hR.2.1
  obtain ⟨r1, r2, r3, r4⟩ := C.rc
  have hts : ∀ w ∈ lw_all, w.before args s = true := fun w hw => C.al hw args
  have hfix : CallFix p m c y.2.1 y.2.2.1 s args lw_all y.1.cls := ⟨C.1, C.2.1, C.2.2.1, C.2.2.2.1, hts⟩
  have hfit : cells + (kC K - h.1) ≤ R.cells ∧ slots + (kS K - h.2.1) ≤ R.slots := by
    constructor <;> omega
  have hpre : ∀ U : State, U.heap = H → s.WarmedH U.vm → mPc K As h As.toArray U := fun U hU hW => ⟨rfl, by rw [hU]; exact hR, C.gl.move hW (by rw [hU]; exact hR.2.2.2.1) (by rw [hU]; exact hR.2.2.1)⟩
  have hcw := va_cwS (rm := mRm K d' h) (R := R) (mc := kC K - h.1) (ms := kS K - h.2.1) As.length hts (lw_S hl1 hl2 hl3 hl4) rfl rfl rfl hd ⟨(by show d' + 1 ≤ _; omega), (by show 8 + (L + 11) + 64 * d' ≤ _; omega)⟩
  exact mw_run C hR hf hc hs h1 h2 hl (vx_runS (As := As) (rest := st) hfix hM hcw ⟨mPc.blind, hpre⟩ rfl rfl hl.1 rfl (lv_room hr.1) hdg hfit) kk kx
/-- a static call of a method with handlers -/
theorem m_invSX {nm : MethodName} {cc : ByteArray} {L : Nat} {rt : Option FieldType} {d' : Nat} {Q' : OT → MH → Prop} {index : Nat} {hh : List (Nat × Nat × Nat × Nat)} (As : List Value) (hdg : decode y.2.1 pc = .ok (.invokestatic index, 3)) (hl1 : Cond.methodLink y.1.cls index nm ∈ lw_all) (hl2 : Cond.static nm ∈ lw_all) (hl3 : Cond.initialized nm.cls ∈ lw_all) (hl4 : Cond.codeWith nm cc L rt hh ∈ lw_all) (hM : Mt K (nm, cc, L, rt, some hh) d' As h Q') (hd : nm.cls ≠ "java/lang/invoke/MethodHandle" ∧ nm.cls ≠ "java/lang/invoke/VarHandle" ∧ (parseMethodDescriptor nm.desc).map (fun d => d.parameters.length) = some As.length) (hr : (st.map fun v => v.category).sum ≤ 8 ∧ L ≤ 45 ∧ d' + 1 ≤ d) (kk : ∀ v h', Q' (.inl v) h' → MW K y d h' (pc + 3) ls (v.toList ++ st) Q) (kx : ∀ E q h', Q' (.inr (E, q)) h' → MX K y d h' pc ls st E q Q) : MW K y d h pc ls (As.reverse ++ st) Q := by
  intro p e R s m args below meth c H locs cells slots la C hR hf hc hs h1 h2 hl
  have hz1 := hR.1
  have hz2 := hR.2.1
  obtain ⟨r1, r2, r3, r4⟩ := C.rc
  have hts : ∀ w ∈ lw_all, w.before args s = true := fun w hw => C.al hw args
  have hfix : CallFix p m c y.2.1 y.2.2.1 s args lw_all y.1.cls := ⟨C.1, C.2.1, C.2.2.1, C.2.2.2.1, hts⟩
  have hfit : cells + (kC K - h.1) ≤ R.cells ∧ slots + (kS K - h.2.1) ≤ R.slots := by
    constructor <;> omega
  have hpre : ∀ U : State, U.heap = H → s.WarmedH U.vm → mPc K As h As.toArray U := fun U hU hW => ⟨rfl, by rw [hU]; exact hR, C.gl.move hW (by rw [hU]; exact hR.2.2.2.1) (by rw [hU]; exact hR.2.2.1)⟩
  have hcw := vx_cwSW (rm := mRm K d' h) (R := R) (mc := kC K - h.1) (ms := kS K - h.2.1) As.length hts (lw_SW hl1 hl2 hl3 hl4) rfl rfl rfl hd ⟨(by show d' + 1 ≤ _; omega), (by show 8 + (L + 11) + 64 * d' ≤ _; omega)⟩
  exact mw_run C hR hf hc hs h1 h2 hl (vx_runSX (As := As) (rest := st) hfix hM hcw ⟨mPc.blind, hpre⟩ rfl rfl hl.1 rfl (lv_room hr.1) hdg hfit) kk kx
/-- a constructor -/
theorem m_invI {nm : MethodName} {cc : ByteArray} {L : Nat} {rt : Option FieldType} {d' : Nat} {Q' : OT → MH → Prop} {index : Nat} {b : Nat} (As : List Value) (hdg : decode y.2.1 pc = .ok (.invokespecial index, 3)) (hl1 : Cond.methodLink y.1.cls index nm ∈ lw_all) (hl2 : Cond.instanceMethod nm ∈ lw_all) (hl3 : Cond.initialized nm.cls ∈ lw_all) (hl4 : Cond.code nm cc L none ∈ lw_all) (hrt : rt = none) (hnm : nm.name = "<init>") (hM : Mt K (nm, cc, L, none, none) d' (.ref b :: As) h Q') (hd : nm.cls ≠ "java/lang/invoke/MethodHandle" ∧ nm.cls ≠ "java/lang/invoke/VarHandle" ∧ (parseMethodDescriptor nm.desc).map (fun d => d.parameters.length) = some As.length) (hr : (st.map fun v => v.category).sum ≤ 8 ∧ L ≤ 45 ∧ d' + 1 ≤ d) (kk : ∀ v h', Q' (.inl v) h' → MW K y d h' (pc + 3) ls (v.toList ++ st) Q) (kx : ∀ E q h', Q' (.inr (E, q)) h' → MX K y d h' pc ls st E q Q) : MW K y d h pc ls (As.reverse ++ .ref b :: st) Q := by
  intro p e R s m args below meth c H locs cells slots la C hR hf hc hs h1 h2 hl
  have hz1 := hR.1
  have hz2 := hR.2.1
  obtain ⟨r1, r2, r3, r4⟩ := C.rc
  have hts : ∀ w ∈ lw_all, w.before args s = true := fun w hw => C.al hw args
  have hfix : CallFix p m c y.2.1 y.2.2.1 s args lw_all y.1.cls := ⟨C.1, C.2.1, C.2.2.1, C.2.2.2.1, hts⟩
  have hfit : cells + (kC K - h.1) ≤ R.cells ∧ slots + (kS K - h.2.1) ≤ R.slots := by
    constructor <;> omega
  have hpre : ∀ U : State, U.heap = H → s.WarmedH U.vm → mPc K (Value.ref b :: As) h (Value.ref b :: As).toArray U := fun U hU hW => ⟨rfl, by rw [hU]; exact hR, C.gl.move hW (by rw [hU]; exact hR.2.2.2.1) (by rw [hU]; exact hR.2.2.1)⟩
  have hcw := cwI (rm := mRm K d' h) (R := R) (mc := kC K - h.1) (ms := kS K - h.2.1) As.length hts (lw_meth hl4) rfl rfl rfl (hts _ hl3) (hts _ hl1) (hts _ hl2) hnm hd ⟨(by show d' + 1 ≤ _; omega), (by show 8 + (L + 11) + 64 * d' ≤ _; omega)⟩
  exact mw_run C hR hf hc hs h1 h2 hl (vx_runI (As := As) (rest := st) hfix hM hcw ⟨mPc.blind, hpre⟩ rfl rfl hl.1 rfl (lv_room hr.1) hdg hfit) kk kx
/-- a call through an object -/
theorem m_invV {nm : MethodName} {cc : ByteArray} {L : Nat} {rt : Option FieldType} {d' : Nat} {Q' : OT → MH → Prop} {index : Nat} (As : List Value) (hdg : decode y.2.1 pc = .ok (.invokevirtual index, 3)) {ci b : Nat} {w : Bool} {fs : List Value} {rB : vw_C} (hb : h.2.2 b = some (w, .inr (ci, fs))) (hci : mcl[ci]? = some rB) (hl1 : Cond.methodLink y.1.cls index nm ∈ lw_all) (hl2 : Cond.instanceMethod nm ∈ lw_all) (hl3 : Cond.selects rB.1 nm nm ∈ lw_all) (hl4 : Cond.initialized rB.1 ∈ lw_all) (hl5 : Cond.code nm cc L rt ∈ lw_all) (hcl : nm.cls = rB.1) (hM : Mt K (nm, cc, L, rt, none) d' (.ref b :: As) h Q') (hd : nm.cls ≠ "java/lang/invoke/MethodHandle" ∧ nm.cls ≠ "java/lang/invoke/VarHandle" ∧ (parseMethodDescriptor nm.desc).map (fun d => d.parameters.length) = some As.length) (hr : (st.map fun v => v.category).sum ≤ 8 ∧ L ≤ 45 ∧ d' + 1 ≤ d) (kk : ∀ v h', Q' (.inl v) h' → MW K y d h' (pc + 3) ls (v.toList ++ st) Q) (kx : ∀ E q h', Q' (.inr (E, q)) h' → MX K y d h' pc ls st E q Q) : MW K y d h pc ls (As.reverse ++ .ref b :: st) Q := by
  intro p e R s m args below meth c H locs cells slots la C hR hf hc hs h1 h2 hl
  have hz1 := hR.1
  have hz2 := hR.2.1
  obtain ⟨r1, r2, r3, r4⟩ := C.rc
  have hts : ∀ w ∈ lw_all, w.before args s = true := fun w hw => C.al hw args
  have hfix : CallFix p m c y.2.1 y.2.2.1 s args lw_all y.1.cls := ⟨C.1, C.2.1, C.2.2.1, C.2.2.2.1, hts⟩
  have hfit : cells + (kC K - h.1) ≤ R.cells ∧ slots + (kS K - h.2.1) ≤ R.slots := by
    constructor <;> omega
  have hpre : ∀ U : State, U.heap = H → s.WarmedH U.vm → mPc K (Value.ref b :: As) h (Value.ref b :: As).toArray U := fun U hU hW => ⟨rfl, by rw [hU]; exact hR, C.gl.move hW (by rw [hU]; exact hR.2.2.2.1) (by rw [hU]; exact hR.2.2.1)⟩
  obtain ⟨cellB, b1, b2, b3, b4, rB, b5, b6, -⟩ := hR.2.2.2.2 b _ hb
  cases hci.symm.trans b5
  have hat := (C.gl.1.1 ci _ hci).2
  have hrec : ∃ cellB : Cell, H[b]? = some cellB ∧ cellB.vm.isStatics = false ∧ s.vm.findClass rB.1 = some cellB.cls := ⟨cellB, b1, b2, by rw [b6]; exact hat.1⟩
  have hcw := cwV (rm := mRm K d' h) (R := R) (mc := kC K - h.1) (ms := kS K - h.2.1) As.length hts (lw_V hl1 hl2 hl3 hl4 hl5) rfl rfl rfl ⟨hcl, hd.1, hd.2.1, hd.2.2⟩ ⟨(by show d' + 1 ≤ _; omega), (by show 8 + (L + 11) + 64 * d' ≤ _; omega)⟩
  exact mw_run C hR hf hc hs h1 h2 hl (vx_runV (As := As) (rest := st) hfix hM hcw ⟨mPc.blind, hrec, hpre⟩ rfl rfl hl.1 rfl (lv_room hr.1) hdg hfit) kk kx
/-- a call through an object, of a method with handlers -/
theorem m_invVX {nm : MethodName} {cc : ByteArray} {L : Nat} {rt : Option FieldType} {d' : Nat} {Q' : OT → MH → Prop} {index : Nat} {hh : List (Nat × Nat × Nat × Nat)} (As : List Value) (hdg : decode y.2.1 pc = .ok (.invokevirtual index, 3)) {ci b : Nat} {w : Bool} {fs : List Value} {rB : vw_C} (hb : h.2.2 b = some (w, .inr (ci, fs))) (hci : mcl[ci]? = some rB) (hl1 : Cond.methodLink y.1.cls index nm ∈ lw_all) (hl2 : Cond.instanceMethod nm ∈ lw_all) (hl3 : Cond.selects rB.1 nm nm ∈ lw_all) (hl4 : Cond.initialized rB.1 ∈ lw_all) (hl5 : Cond.codeWith nm cc L rt hh ∈ lw_all) (hcl : nm.cls = rB.1) (hM : Mt K (nm, cc, L, rt, some hh) d' (.ref b :: As) h Q') (hd : nm.cls ≠ "java/lang/invoke/MethodHandle" ∧ nm.cls ≠ "java/lang/invoke/VarHandle" ∧ (parseMethodDescriptor nm.desc).map (fun d => d.parameters.length) = some As.length) (hr : (st.map fun v => v.category).sum ≤ 8 ∧ L ≤ 45 ∧ d' + 1 ≤ d) (kk : ∀ v h', Q' (.inl v) h' → MW K y d h' (pc + 3) ls (v.toList ++ st) Q) (kx : ∀ E q h', Q' (.inr (E, q)) h' → MX K y d h' pc ls st E q Q) : MW K y d h pc ls (As.reverse ++ .ref b :: st) Q := by
  intro p e R s m args below meth c H locs cells slots la C hR hf hc hs h1 h2 hl
  have hz1 := hR.1
  have hz2 := hR.2.1
  obtain ⟨r1, r2, r3, r4⟩ := C.rc
  have hts : ∀ w ∈ lw_all, w.before args s = true := fun w hw => C.al hw args
  have hfix : CallFix p m c y.2.1 y.2.2.1 s args lw_all y.1.cls := ⟨C.1, C.2.1, C.2.2.1, C.2.2.2.1, hts⟩
  have hfit : cells + (kC K - h.1) ≤ R.cells ∧ slots + (kS K - h.2.1) ≤ R.slots := by
    constructor <;> omega
  have hpre : ∀ U : State, U.heap = H → s.WarmedH U.vm → mPc K (Value.ref b :: As) h (Value.ref b :: As).toArray U := fun U hU hW => ⟨rfl, by rw [hU]; exact hR, C.gl.move hW (by rw [hU]; exact hR.2.2.2.1) (by rw [hU]; exact hR.2.2.1)⟩
  obtain ⟨cellB, b1, b2, b3, b4, rB, b5, b6, -⟩ := hR.2.2.2.2 b _ hb
  cases hci.symm.trans b5
  have hat := (C.gl.1.1 ci _ hci).2
  have hrec : ∃ cellB : Cell, H[b]? = some cellB ∧ cellB.vm.isStatics = false ∧ s.vm.findClass rB.1 = some cellB.cls := ⟨cellB, b1, b2, by rw [b6]; exact hat.1⟩
  have hcw := vx_cwVW (rm := mRm K d' h) (R := R) (mc := kC K - h.1) (ms := kS K - h.2.1) As.length hts (lw_VW hl1 hl2 hl3 hl4 hl5) rfl rfl rfl ⟨hcl, hd.1, hd.2.1, hd.2.2⟩ ⟨(by show d' + 1 ≤ _; omega), (by show 8 + (L + 11) + 64 * d' ≤ _; omega)⟩
  exact mw_run C hR hf hc hs h1 h2 hl (vx_runVX (As := As) (rest := st) hfix hM hcw ⟨mPc.blind, hrec, hpre⟩ rfl rfl hl.1 rfl (lv_room hr.1) hdg hfit) kk kx
end CR
