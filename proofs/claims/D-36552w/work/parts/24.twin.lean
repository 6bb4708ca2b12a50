/-! the twin: its state sg = (whole-number fields, arrays), its cells at m, m+1 .. m+33 -/
abbrev TS : Type := (Nat → Int) × (Nat → Int → Int)
def ttab : List (Nat × Nat) := [(1000, 0), (2, 12), (3, 144), (4, 144), (7, 168), (9, 24), (10, 24), (11, 192), (12, 192), (13, 192), (15, 12), (16, 12), (17, 12), (18, 12), (20, 80), (23, 12), (24, 12), (26, 888), (27, 888), (30, 74), (31, 74), (32, 74), (34, 600), (35, 600), (37, 6), (38, 6), (39, 6), (40, 6), (41, 6), (42, 192), (43, 144), (44, 32), (46, 24), (47, 24)]
def tfs (m : Nat) (f : Nat → Int) : List Value := [vi (f 0), vi (f 1), .ref (m + 1), .ref (m + 2), .ref (m + 3), vi (f 5), vi (f 6), .ref (m + 4), vi (f 8), .ref (m + 5), .ref (m + 6), .ref (m + 7), .ref (m + 8), .ref (m + 9), vi (f 14), .ref (m + 10), .ref (m + 11), .ref (m + 12), .ref (m + 13), vi (f 19), .ref (m + 14), vi (f 21), vi (f 22), .ref (m + 15), .ref (m + 16), vi (f 25), .ref (m + 17), .ref (m + 18), vi (f 28), vi (f 29), .ref (m + 19), .ref (m + 20), .ref (m + 21), vi (f 33), .ref (m + 22), .ref (m + 23), vi (f 36), .ref (m + 24), .ref (m + 25), .ref (m + 26), .ref (m + 27), .ref (m + 28), .ref (m + 29), .ref (m + 30), .ref (m + 31), vi (f 45), .ref (m + 32), .ref (m + 33), vi (f 48), vi (f 49)]
def tcell (K : KT) (m : Nat) (sg : TS) (j : Nat) : Bool × va_E := if j = 0 then (true, .inr (1, tfs m sg.1)) else if j = 4 then (true, za K (ttab.getD j (0, 0)).2 (sg.2 (ttab.getD j (0, 0)).1)) else (true, ia K (ttab.getD j (0, 0)).2 (sg.2 (ttab.getD j (0, 0)).1))
def tov (K : KT) (h : MH) (m : Nat) (sg : TS) : MH := (h.1, h.2.1, fun b => if m ≤ b ∧ b < m + 34 then some (tcell K m sg (b - m)) else h.2.2 b)
/-- overriding: lists by rising number, the first of a number counts -/
def lkA {α : Type} : List (Nat × α) → Nat → α → α
  | [], _, x => x
  | (k, g) :: r, j, x => if j = k then g else lkA r j x
def ptA {α : Type} : List (Nat × α) → Nat → α → List (Nat × α)
  | [], k, g => [(k, g)]
  | (k0, g0) :: r, k, g => if k = k0 then (k, g) :: r else if k < k0 then (k, g) :: (k0, g0) :: r else (k0, g0) :: ptA r k g
def ovr (sg : TS) (F : List (Nat × Int)) (A : List (Nat × (Int → Int))) : TS := (fun k => lkA F k (sg.1 k), fun k => lkA A k (sg.2 k))
theorem lkA_pt {α : Type} (A : List (Nat × α)) (k j : Nat) (g x : α) : lkA (ptA A k g) j x = if j = k then g else lkA A j x := by
  induction A with
  | nil => rfl
  | cons q r ih =>
    obtain ⟨k0, g0⟩ := q
    unfold ptA
    by_cases h1 : k = k0
    · rw [if_pos h1]; unfold lkA; by_cases h2 : j = k
      · rw [if_pos h2, if_pos h2]
      · rw [if_neg h2, if_neg h2, if_neg (by omega)]
    · rw [if_neg h1]
      by_cases h2 : k < k0
      · rw [if_pos h2]; rfl
      · rw [if_neg h2]; unfold lkA; rw [ih]
        by_cases h3 : j = k0
        · rw [if_pos h3, if_pos h3, if_neg (by omega)]
        · rw [if_neg h3, if_neg h3]
theorem ovr_nil (sg : TS) : ovr sg [] [] = sg := rfl
/-- a call's change over what was changed before -/
def mgA {α : Type} : List (Nat × α) → List (Nat × α) → List (Nat × α)
  | [], A => A
  | (k, g) :: r, A => ptA (mgA r A) k g
theorem lkA_mg {α : Type} (B A : List (Nat × α)) (j : Nat) (x : α) : lkA (mgA B A) j x = lkA B j (lkA A j x) := by
  induction B with
  | nil => rfl
  | cons q r ih =>
    obtain ⟨k, g⟩ := q
    unfold mgA
    rw [lkA_pt, ih]
    conv => rhs; unfold lkA
theorem ovr_ovr (sg : TS) (F F' : List (Nat × Int)) (A A' : List (Nat × (Int → Int))) : ovr (ovr sg F A) F' A' = ovr sg (mgA F' F) (mgA A' A) := by
  unfold ovr
  refine Prod.ext (funext fun k => ?_) (funext fun k => ?_)
  · exact (lkA_mg _ _ _ _).symm
  · exact (lkA_mg _ _ _ _).symm
theorem ovr_addA (sg : TS) (F : List (Nat × Int)) (A : List (Nat × (Int → Int))) (k : Nat) : ovr sg F A = ovr sg F (ptA A k (lkA A k (sg.2 k))) := by
  unfold ovr
  refine Prod.ext rfl (funext fun j => ?_)
  show _ = lkA (ptA A k (lkA A k (sg.2 k))) j (sg.2 j)
  rw [lkA_pt]
  by_cases h : j = k
  · rw [if_pos h, h]
  · rw [if_neg h]
theorem ovr_addF (sg : TS) (F : List (Nat × Int)) (A : List (Nat × (Int → Int))) (k : Nat) : ovr sg F A = ovr sg (ptA F k (lkA F k (sg.1 k))) A := by
  unfold ovr
  refine Prod.ext (funext fun j => ?_) rfl
  show _ = lkA (ptA F k (lkA F k (sg.1 k))) j (sg.1 j)
  rw [lkA_pt]
  by_cases h : j = k
  · rw [if_pos h, h]
  · rw [if_neg h]
theorem ovr_ptA (sg : TS) (F : List (Nat × Int)) (A : List (Nat × (Int → Int))) (k : Nat) (g : Int → Int) : ovr sg F (ptA A k g) = ((ovr sg F A).1, fun j => if j = k then g else (ovr sg F A).2 j) := by
  unfold ovr
  exact Prod.ext rfl (funext fun j => lkA_pt _ _ _ _ _)
theorem ovr_ptF (sg : TS) (F : List (Nat × Int)) (A : List (Nat × (Int → Int))) (k : Nat) (v : Int) : ovr sg (ptA F k v) A = (fun j => if j = k then v else (ovr sg F A).1 j, (ovr sg F A).2) := by
  unfold ovr
  exact Prod.ext (funext fun j => lkA_pt _ _ _ _ _) rfl
theorem ttab_inj : ∀ i, i < 34 → ∀ j, j < 34 → (ttab.getD i (0, 0)).1 = (ttab.getD j (0, 0)).1 → i = j := by decide +kernel
theorem tov_at (K : KT) (h : MH) (m : Nat) (sg : TS) (j : Nat) (hj : j < 34) : (tov K h m sg).2.2 (m + j) = some (tcell K m sg j) := by
  unfold tov
  dsimp only
  rw [if_pos ⟨by omega, by omega⟩]
  congr 2; omega
theorem tov_0 (K : KT) (h : MH) (m : Nat) (sg : TS) : (tov K h m sg).2.2 m = some (true, .inr (1, tfs m sg.1)) := tov_at K h m sg 0 (by omega)
theorem tov_ne (K : KT) (h : MH) (m : Nat) (sg : TS) (b : Nat) (hb : b < m ∨ m + 34 ≤ b) : (tov K h m sg).2.2 b = h.2.2 b := by
  unfold tov
  dsimp only
  rw [if_neg (by omega)]
theorem tov_putA (K : KT) (h : MH) (m : Nat) (sg : TS) (j : Nat) (hj : 0 < j ∧ j < 34) (g : Int → Int) (e : Bool × va_E) (he : e = tcell K m (sg.1, fun k => if k = (ttab.getD j (0, 0)).1 then g else sg.2 k) j) : hput (tov K h m sg) (m + j) e = tov K h m (sg.1, fun k => if k = (ttab.getD j (0, 0)).1 then g else sg.2 k) := by
  unfold hput tov
  refine Prod.ext rfl (Prod.ext rfl (funext fun b => ?_))
  dsimp only
  by_cases h1 : b = m + j
  · subst h1
    rw [if_pos rfl, if_pos ⟨by omega, by omega⟩, he]
    congr 2; omega
  · rw [if_neg h1]
    by_cases h2 : m ≤ b ∧ b < m + 34
    · rw [if_pos h2, if_pos h2]
      congr 1
      unfold tcell
      have h3 : ¬ (ttab.getD (b - m) (0, 0)).1 = (ttab.getD j (0, 0)).1 := fun h9 => h1 (by have := ttab_inj (b - m) (by omega) j hj.2 h9; omega)
      dsimp only
      rw [if_neg h3]
    · rw [if_neg h2, if_neg h2]
theorem tov_putF (K : KT) (h : MH) (m : Nat) (sg : TS) (k : Nat) (v : Int) (hs : (tfs m sg.1).set k (vi v) = tfs m (fun j => if j = k then v else sg.1 j)) : hput (tov K h m sg) m (true, .inr (1, (tfs m sg.1).set k (vi v))) = tov K h m (fun j => if j = k then v else sg.1 j, sg.2) := by
  unfold hput tov
  refine Prod.ext rfl (Prod.ext rfl (funext fun b => ?_))
  dsimp only
  by_cases h1 : b = m
  · subst h1
    rw [if_pos rfl, if_pos ⟨by omega, by omega⟩, hs, Nat.sub_self]; rfl
  · rw [if_neg h1]
    by_cases h2 : m ≤ b ∧ b < m + 34
    · rw [if_pos h2, if_pos h2]
      congr 1
      unfold tcell
      have h3 : ¬ b - m = 0 := by omega
      rw [if_neg h3, if_neg h3]
    · rw [if_neg h2, if_neg h2]
theorem mw_tov {K : KT} {y : YT} {d : Nat} {h : MH} {m : Nat} {a b : TS} {pc : Nat} {ls : List (Option Value)} {st : List Value} {Q : OT → MH → Prop} (e : a = b) (k : MW K y d (tov K h m b) pc ls st Q) : MW K y d (tov K h m a) pc ls st Q := by subst e; exact k
section TW
variable {K : KT} {y : YT} {d : Nat} {h : MH} {pc : Nat} {ls : List (Option Value)} {st : List Value} {Q : OT → MH → Prop} {m : Nat} {sg : TS} {F : List (Nat × Int)} {A : List (Nat × (Int → Int))}
theorem t_geti (k : Nat) (hk : k < 50) (v : Int) {index : Nat} (hdg : decode y.2.1 pc = .ok (.getfield index, 3)) (hw : Cond.fieldLink y.1.cls index (TX2 k).1 (TX2 k).2.1 (TX2 k).2.2.1 ∈ lw_all) (hv : (tfs m (ovr sg F A).1)[k]? = some (vi v)) (kk : MW K y d (tov K h m (ovr sg F A)) (pc + 3) ls (vi v :: st) Q) : MW K y d (tov K h m (ovr sg F A)) pc ls (.ref m :: st) Q := m_getf kc_1 k hk hdg hw (Or.inl rfl) (tov_0 K h m _) hv kk
theorem t_geta (k j : Nat) (hk : k < 50) {index : Nat} (hdg : decode y.2.1 pc = .ok (.getfield index, 3)) (hw : Cond.fieldLink y.1.cls index (TX2 k).1 (TX2 k).2.1 (TX2 k).2.2.1 ∈ lw_all) (hv : (tfs m (ovr sg F A).1)[k]? = some (.ref (m + j))) (kk : MW K y d (tov K h m (ovr sg F A)) (pc + 3) ls (.ref (m + j) :: st) Q) : MW K y d (tov K h m (ovr sg F A)) pc ls (.ref m :: st) Q := m_getf kc_1 k hk hdg hw (Or.inl rfl) (tov_0 K h m _) hv kk
theorem t_puti (k : Nat) (hk : k < 50) {v : Int} (F' : List (Nat × Int)) {index : Nat} (hdg : decode y.2.1 pc = .ok (.putfield index, 3)) (hw : Cond.fieldLink y.1.cls index (TX2 k).1 (TX2 k).2.1 (TX2 k).2.2.1 ∈ lw_all) (hfin : (TX2 k).2.2.2 = false) (hty : tyX2 k = .int) (hs : (tfs m (ovr sg F A).1).set k (vi v) = tfs m (fun j => if j = k then v else (ovr sg F A).1 j)) (hF : ptA F k v = F') (kk : MW K y d (tov K h m (ovr sg F' A)) (pc + 3) ls st Q) : MW K y d (tov K h m (ovr sg F A)) pc ls (vi v :: .ref m :: st) Q := by
  refine m_putf kc_1 k hk hdg hw (Or.inl rfl) hfin (tov_0 K h m _) ?_ ?_ ?_
  · rw [hty]; rfl
  · rw [hty]; rfl
  · rw [tov_putF K h m _ k v hs, ← ovr_ptF, hF]; exact kk
theorem t_putz (k : Nat) (hk : k < 50) {v : Int} (F' : List (Nat × Int)) {index : Nat} (hdg : decode y.2.1 pc = .ok (.putfield index, 3)) (hw : Cond.fieldLink y.1.cls index (TX2 k).1 (TX2 k).2.1 (TX2 k).2.2.1 ∈ lw_all) (hfin : (TX2 k).2.2.2 = false) (hty : tyX2 k = .boolean) (hs : (tfs m (ovr sg F A).1).set k (vi v) = tfs m (fun j => if j = k then v else (ovr sg F A).1 j)) (hF : ptA F k v = F') (h01 : v = 0 ∨ v = 1) (kk : MW K y d (tov K h m (ovr sg F' A)) (pc + 3) ls st Q) : MW K y d (tov K h m (ovr sg F A)) pc ls (vi v :: .ref m :: st) Q := by
  refine m_putf kc_1 k hk hdg hw (Or.inl rfl) hfin (tov_0 K h m _) ?_ ?_ ?_
  · rw [hty]; rcases h01 with rfl | rfl <;> rfl
  · rw [hty]; rcases h01 with rfl | rfl <;> rfl
  · rw [tov_putF K h m _ k v hs, ← ovr_ptF, hF]; exact kk
theorem t_ald (j : Nat) (hj : j < 34) {n : Nat} (f : Int → Int) {i : Int} (hdg : decode y.2.1 pc = .ok (.iaload, 1)) (hc : tcell K m (ovr sg F A) j = (true, ia K n f)) (hn : n ≤ 2147483647) (hi : 0 ≤ i ∧ i < n) (kk : MW K y d (tov K h m (ovr sg F A)) (pc + 1) ls (vi (f i) :: st) Q) : MW K y d (tov K h m (ovr sg F A)) pc ls (vi i :: .ref (m + j) :: st) Q := j_iald hdg ((tov_at K h m _ j hj).trans (congrArg some hc)) hn hi kk
theorem t_aldB (j : Nat) (hj : j < 34) {n : Nat} (f : Int → Int) {i lo hi' : Int} (hdg : decode y.2.1 pc = .ok (.iaload, 1)) (hc : tcell K m (ovr sg F A) j = (true, ia K n f)) (hn : n ≤ 2147483647) (hb : ∀ q : Int, 0 ≤ q → q < n → lo ≤ f q ∧ f q ≤ hi') (hi : 0 ≤ i ∧ i < n) (kk : lo ≤ f i ∧ f i ≤ hi' → MW K y d (tov K h m (ovr sg F A)) (pc + 1) ls (vi (f i) :: st) Q) : MW K y d (tov K h m (ovr sg F A)) pc ls (vi i :: .ref (m + j) :: st) Q := t_ald j hj f hdg hc hn hi (kk (hb i hi.1 hi.2))
theorem t_zld (f : Int → Int) {i : Int} (hdg : decode y.2.1 pc = .ok (.baload, 1)) (hc : tcell K m (ovr sg F A) 4 = (true, za K 168 f)) (hi : 0 ≤ i ∧ i < 168) (kk : MW K y d (tov K h m (ovr sg F A)) (pc + 1) ls (vi (f i) :: st) Q) : MW K y d (tov K h m (ovr sg F A)) pc ls (vi i :: .ref (m + 4) :: st) Q := j_zald hdg ((tov_at K h m _ 4 (by omega)).trans (congrArg some hc)) (Nat.le_of_ble_eq_true rfl) hi kk
theorem t_zldB (f : Int → Int) {i lo hi' : Int} (hdg : decode y.2.1 pc = .ok (.baload, 1)) (hc : tcell K m (ovr sg F A) 4 = (true, za K 168 f)) (hb : ∀ q : Int, 0 ≤ q → q < ((168 : Nat) : Int) → lo ≤ f q ∧ f q ≤ hi') (hi : 0 ≤ i ∧ i < 168) (kk : lo ≤ f i ∧ f i ≤ hi' → MW K y d (tov K h m (ovr sg F A)) (pc + 1) ls (vi (f i) :: st) Q) : MW K y d (tov K h m (ovr sg F A)) pc ls (vi i :: .ref (m + 4) :: st) Q := t_zld f hdg hc hi (kk (hb i hi.1 hi.2))
theorem t_ast (j : Nat) (hj : 0 < j ∧ j < 34) {n : Nat} (f : Int → Int) {i x : Int} (A' : List (Nat × (Int → Int))) (hdg : decode y.2.1 pc = .ok (.iastore, 1)) (hc : tcell K m (ovr sg F A) j = (true, ia K n f)) (hn : n ≤ 2147483647) (hi : 0 ≤ i ∧ i < n) (hc' : (true, ia K n (upz f i x)) = tcell K m ((ovr sg F A).1, fun k => if k = (ttab.getD j (0, 0)).1 then upz f i x else (ovr sg F A).2 k) j) (hA : ptA A (ttab.getD j (0, 0)).1 (upz f i x) = A') (kk : MW K y d (tov K h m (ovr sg F A')) (pc + 1) ls st Q) : MW K y d (tov K h m (ovr sg F A)) pc ls (vi x :: vi i :: .ref (m + j) :: st) Q := by
  refine j_iast hdg ((tov_at K h m _ j hj.2).trans (congrArg some hc)) hn hi ?_
  rw [tov_putA K h m _ j hj (upz f i x) _ hc', ← ovr_ptA, hA]; exact kk
theorem t_zst (f : Int → Int) {i x : Int} (A' : List (Nat × (Int → Int))) (hdg : decode y.2.1 pc = .ok (.bastore, 1)) (hc : tcell K m (ovr sg F A) 4 = (true, za K 168 f)) (hi : 0 ≤ i ∧ i < 168) (h01 : x = 0 ∨ x = 1) (hA : ptA A 7 (upz f i x) = A') (kk : MW K y d (tov K h m (ovr sg F A')) (pc + 1) ls st Q) : MW K y d (tov K h m (ovr sg F A)) pc ls (vi x :: vi i :: .ref (m + 4) :: st) Q := by
  refine j_zast hdg ((tov_at K h m _ 4 (by omega)).trans (congrArg some hc)) (Nat.le_of_ble_eq_true rfl) hi h01 ?_
  rw [tov_putA K h m (ovr sg F A) 4 (by omega) (upz f i x) (true, za K 168 (upz f i x)) rfl]
  have e : (ttab.getD 4 (0, 0)).1 = 7 := rfl
  rw [e, ← ovr_ptA, hA]; exact kk
theorem t_inv {nm : MethodName} {cc : ByteArray} {L : Nat} {rt : Option FieldType} {d' : Nat} {Q' : OT → MH → Prop} {index : Nat} (As : List Value) (hdg : decode y.2.1 pc = .ok (.invokevirtual index, 3)) (hl1 : Cond.methodLink y.1.cls index nm ∈ lw_all) (hl2 : Cond.instanceMethod nm ∈ lw_all) (hl3 : Cond.selects "LastbusModel" nm nm ∈ lw_all) (hl5 : Cond.code nm cc L rt ∈ lw_all) (hcl : nm.cls = "LastbusModel") (hM : Mt K (nm, cc, L, rt, none) d' (.ref m :: As) (tov K h m sg) Q') (hd : nm.cls ≠ "java/lang/invoke/MethodHandle" ∧ nm.cls ≠ "java/lang/invoke/VarHandle" ∧ (parseMethodDescriptor nm.desc).map (fun d => d.parameters.length) = some As.length) (hr : (st.map fun v => v.category).sum ≤ 8 ∧ L ≤ 45 ∧ d' + 1 ≤ d) (kk : ∀ v h', Q' (.inl v) h' → MW K y d h' (pc + 3) ls (v.toList ++ st) Q) (kx : ∀ E q h', Q' (.inr (E, q)) h' → MX K y d h' pc ls st E q Q) : MW K y d (tov K h m sg) pc ls (As.reverse ++ .ref m :: st) Q :=
  m_invV As hdg (tov_0 K h m sg) (rB := (RX2, TX2, 50)) rfl hl1 hl2 hl3 q133 hl5 hcl hM hd hr kk kx
end TW
