/-! the world: Lastbus's object and all that it owns, by the twin's state sg. own: whose a cell is (0: the start's heap, nobody writes it) -/
def tg (own : Nat → Nat) (z k : Nat) (h : MH) : MH := (0, 0, fun b => if b < z ∧ (own b = k ∨ own b = 0) then h.2.2 b else none)
theorem tg_at {own : Nat → Nat} {z k : Nat} {h : MH} {b : Nat} {c : Bool × va_E} (e : (tg own z k h).2.2 b = some c) : h.2.2 b = some c ∧ b < z ∧ (own b = k ∨ own b = 0) := by
  unfold tg at e
  dsimp only at e
  by_cases hb : b < z ∧ (own b = k ∨ own b = 0)
  · rw [if_pos hb] at e; exact ⟨e, hb⟩
  · rw [if_neg hb] at e; cases e
theorem tg_mk {own : Nat → Nat} {z k : Nat} {h : MH} {b : Nat} {c : Bool × va_E} (e : h.2.2 b = some c) (h1 : b < z) (h2 : own b = k ∨ own b = 0) : (tg own z k h).2.2 b = some c := by
  unfold tg
  dsimp only
  rw [if_pos ⟨h1, h2⟩]; exact e
theorem tg_eq {own : Nat → Nat} {z k : Nat} {h h' : MH} (e : ∀ b, b < z → h'.2.2 b = h.2.2 b) : tg own z k h' = tg own z k h := by
  unfold tg
  congr 2
  funext b
  by_cases hb : b < z ∧ (own b = k ∨ own b = 0)
  · rw [if_pos hb, if_pos hb, e b hb.1]
  · rw [if_neg hb, if_neg hb]
/-- what is new belongs to j, and only j's cells have changed -/
def ownJ (own : Nat → Nat) (z j : Nat) : Nat → Nat := fun b => if b < z then own b else j
theorem tg_up {own : Nat → Nat} {z z' j k : Nat} {h h' : MH} (hj : j ≠ 0) (hk : k ≠ j) (hz : z ≤ z') (e : ∀ b, b < z → own b ≠ j → h'.2.2 b = h.2.2 b) : tg (ownJ own z j) z' k h' = tg own z k h := by
  unfold tg
  congr 2
  funext b
  unfold ownJ
  by_cases hb : b < z
  · rw [if_pos hb]
    by_cases h1 : own b = k ∨ own b = 0
    · rw [if_pos ⟨by omega, h1⟩, if_pos ⟨hb, h1⟩, e b hb (by omega)]
    · rw [if_neg (fun h9 => h1 h9.2), if_neg (fun h9 => h1 h9.2)]
  · rw [if_neg hb, if_neg (by omega), if_neg (by omega)]
theorem tg_rs {own : Nat → Nat} {z k : Nat} {h : MH} : ∀ b c, (tg own z k h).2.2 b = some c → (rs 0 z h).2.2 b = some c := fun b c e => by
  have := tg_at e
  exact rs_mk this.1 (Nat.zero_le _) this.2.1
theorem rs_h {z : Nat} {h : MH} : ∀ b c, (rs 0 z h).2.2 b = some c → h.2.2 b = some c := fun b c e => (rs_at e).1
theorem tg_h {own : Nat → Nat} {z k : Nat} {h : MH} : ∀ b c, (tg own z k h).2.2 b = some c → h.2.2 b = some c := fun b c e => (tg_at e).1
/-- a service's days -/
def SvA (K : KT) (h : MH) (on : Int → Int) (s : Int) (q : Nat) : Prop := ∃ (w : Nat) (n : Int) (f : Int → Int64), BsA K h q w n 1 f ∧ (∀ d, 0 ≤ d → d < 28 → (inB f d ↔ on (28 * s + d) ≠ 0)) ∧ ∀ d, 28 ≤ d → ¬ inB f d
/-- the lateness told: a map from 24 * day + trip -/
def LtA (h : MH) (m : Nat) (sg : TS) : Prop := ∃ (L : List Nat) (ko : Nat → Nat) (key : Nat → Int) (vl lf rt pa : Nat → Option Nat) (co lo hi : Nat → Int) (root : Option Nat) (mc : Int), TmF h m L ko vl lf rt pa co root (L.length : Int) mc ∧ TmK h L ko key ∧ (TmI L key lf rt pa lo hi root (-1) 1000 ∧ TmB co root) ∧ (L.length : Int) = sg.1 14 ∧
  (∀ a, a ∈ L → ∃ q i, vl a = some q ∧ (0 ≤ i ∧ i < sg.1 14) ∧ key a = 24 * sg.2 15 i + sg.2 16 i ∧ h.2.2 q = some (true, .inr (6, [vi (sg.2 17 i), vi (sg.2 18 i)]))) ∧
  (∀ i, 0 ≤ i → i < sg.1 14 → ∃ a, a ∈ L ∧ key a = 24 * sg.2 15 i + sg.2 16 i) ∧
  ∀ i j, 0 ≤ i → i < sg.1 14 → 0 ≤ j → j < sg.1 14 → 24 * sg.2 15 i + sg.2 16 i = 24 * sg.2 15 j + sg.2 16 j → i = j
/-- wishes -/
def WsA (h : MH) (sg : TS) (w : Int) (q : Nat) : Prop := h.2.2 q = some (true, .inr (13, [vi (sg.2 37 w), vi (sg.2 38 w), vi (sg.2 39 w), vi (sg.2 40 w), vi (sg.2 41 w)]))
/-- the chain that is kept -/
def KpA (K : KT) (h : MH) (e0 : Nat) (kp : Option Nat) (sg : TS) : Prop := (kp = none ∧ sg.1 29 = -1) ∨ ∃ (a e : Nat) (p : Int → Nat), kp = some a ∧ LsB K h e0 a e (sg.1 29) p ∧ ∀ i, 0 ≤ i → i < sg.1 29 → h.2.2 (p i) = some (true, .inr (11, [vi (sg.2 30 i % 24), vi (sg.2 30 i / 24 - 1), vi (sg.2 31 i), vi (sg.2 32 i)]))
def sb (x : Int) : Int := if x % 256 < 128 then x % 256 else x % 256 - 256
/-- n signs t in bytes f: one each (cd 0), or two (cd 1) -/
def BtA (cd n : Int) (t : Int → Int) (cap : Nat) (f : Int → Int) : Prop := (cd = 0 ∧ (n ≤ (cap : Int) ∧ cap ≤ 400) ∧ ∀ i, 0 ≤ i → i < n → (0 ≤ t i ∧ t i < 256) ∧ f i = sb (t i)) ∨ (cd = 1 ∧ (2 * n ≤ (cap : Int) ∧ cap ≤ 800) ∧ ∀ i, 0 ≤ i → i < n → (0 ≤ t i ∧ t i < 65536) ∧ f (2 * i) = sb (t i) ∧ f (2 * i + 1) = sb (t i / 256))
/-- the text: n signs t -/
def TxA (K : KT) (h : MH) (q : Nat) (n : Int) (t : Int → Int) : Prop := ∃ (e cap : Nat) (ml cd : Int) (f : Int → Int), (ml = 0 ∨ ml = 1) ∧ (cd = 0 ∨ cd = 1) ∧ (0 ≤ n ∧ n ≤ 80) ∧ h.2.2 q = some (true, .inr (20, [.ref e, vi cd, vi ml, vi n])) ∧ h.2.2 e = some (true, ba K cap f) ∧ (∀ i, -128 ≤ f i ∧ f i ≤ 127) ∧ BtA cd n t cap f
/-- the walks told, row by row, the rows apart -/
def WyI (K : KT) (h : MH) (wy : Nat) (W : Int → Int → Int) : Prop := ∃ (wr : Int → Nat) (f : Int → Option Nat), h.2.2 wy = some (true, aaE K 12 f) ∧ (∀ i, 0 ≤ i → i < 12 → f i = some (wr i) ∧ h.2.2 (wr i) = some (true, ia K 12 (W i))) ∧ ∀ i j, 0 ≤ i → i < j → j < 12 → wr i ≠ wr j
theorem WyI.C {K : KT} {h : MH} {wy : Nat} {W : Int → Int → Int} (H : WyI K h wy W) : WyC K h wy W := by
  obtain ⟨wr, f, h1, h2, -⟩ := H; exact ⟨wr, f, h1, h2⟩
/-- the constants that the JDK's statics hold -/
def KOk (K : KT) (e0 cc : Nat) : Prop := kV K 0 = .ref e0 ∧ kV K 1 = vi 1 ∧ kV K 3 = vi 1 ∧ kV K 4 = vi 0 ∧ kV K 5 = vi 8 ∧ kV K 8 = vi 1 ∧ kV K 9 = vi 127 ∧ kV K 10 = .ref cc ∧ kV K 11 = vi 0 ∧ kV K 12 = vi 1
def trA (sg : TS) (t : Int) (c : Int) : Int := sg.2 12 (8 * t + c)
def trD (sg : TS) (t : Int) (c : Int) : Int := sg.2 13 (8 * t + c)
def trS (sg : TS) (t : Int) (c : Int) : Int := sg.2 11 (8 * t + c)
/-- what nobody writes is not made in this run -/
def R0 (own : Nat → Nat) (z : Nat) (h : MH) : Prop := ∀ b c, b < z → own b = 0 → h.2.2 b = some (true, c) → False
theorem R0.own {own : Nat → Nat} {z k b : Nat} {h : MH} {c : va_E} (H : R0 own z h) (e : (tg own z k h).2.2 b = some (true, c)) : own b = k := by
  have q := tg_at e
  rcases q.2.2 with h9 | h9
  · exact h9
  · exact absurd q.1 (fun h8 => H b c q.2.1 h9 h8)
def WorldO (own : Nat → Nat) (K : KT) (h : MH) (z x : Nat) (sg : TS) : Prop := ∃ (e0 cc ch wk sv tr lt ws tx se te we : Nat) (kp : Option Nat) (sp tp wp : Int → Nat) (T : Int → Int → Int),
  KOk K e0 cc ∧ E0A K (tg own z 0 h) e0 ∧ ICa K (tg own z 0 h) cc ∧
  (tg own z 1 h).2.2 x = some (true, .inr (0, [.ref ch, .ref wk, vi (sg.1 1), .ref sv, .ref tr, .ref lt, .ref ws, .ref tx, vi (sg.1 21), va_rf kp])) ∧
  (tg own z 2 h).2.2 ch = some (true, ia K 12 (sg.2 2)) ∧
  (WyI K (tg own z 3 h) wk T ∧ rlG T (sg.2 3)) ∧
  (LsB K (tg own z 4 h) e0 sv se (sg.1 6) sp ∧ ∀ s, 0 ≤ s → s < sg.1 6 → SvA K (tg own z (100 + s.toNat) h) (sg.2 7) s (sp s)) ∧
  (LsB K (tg own z 5 h) e0 tr te (sg.1 8) tp ∧ ∀ t, 0 ≤ t → t < sg.1 8 → TrpA K (tg own z (200 + t.toNat) h) e0 (sg.2 9 t) (sg.2 10 t) (trS sg t) (trA sg t) (trD sg t) (tp t)) ∧
  LtA (tg own z 6 h) lt sg ∧
  (LsB K (tg own z 7 h) e0 ws we (sg.1 36) wp ∧ ∀ w, 0 ≤ w → w < sg.1 36 → WsA (tg own z 7 h) sg w (wp w)) ∧
  TxA K (tg own z 8 h) tx (sg.1 19) (sg.2 20) ∧ KpA K (tg own z 9 h) e0 kp sg ∧ R0 own z h
def World (K : KT) (h : MH) (z x : Nat) (sg : TS) : Prop := ∃ own : Nat → Nat, WorldO own K h z x sg
/-- only cells of kinds J are new or changed -/
theorem tg_upJ {own own' : Nat → Nat} {z z' k : Nat} {J : Nat → Prop} {h h' : MH} (h1 : ∀ b, b < z → own' b = own b) (h2 : ∀ b, z ≤ b → J (own' b)) (h0 : ¬ J 0) (hk : ¬ J k) (hz : z ≤ z') (e : ∀ b, b < z → ¬ J (own b) → h'.2.2 b = h.2.2 b) : tg own' z' k h' = tg own z k h := by
  unfold tg
  congr 2
  funext b
  by_cases hb : b < z
  · rw [h1 b hb]
    by_cases h9 : own b = k ∨ own b = 0
    · rw [if_pos ⟨by omega, h9⟩, if_pos ⟨hb, h9⟩, e b hb (by rcases h9 with h9 | h9 <;> rw [h9] <;> assumption)]
    · rw [if_neg (fun h8 => h9 h8.2), if_neg (fun h8 => h9 h8.2)]
  · rw [if_neg (fun h8 => by rcases h8.2 with h7 | h7 <;> (have := h2 b (by omega); rw [h7] at this; contradiction)), if_neg (fun h8 => hb h8.1)]
/-- what a change of the table leaves: the world of sg', nothing of others touched -/
def MutQ (K : KT) (own : Nat → Nat) (h h' : MH) (z x : Nat) (sg' : TS) : Prop := ∃ own' : Nat → Nat, (∀ b, b < z → own' b = own b) ∧ WorldO own' K h' h'.1 x sg' ∧ (∀ b, b < z → own b = 10 → h'.2.2 b = h.2.2 b) ∧ (h.1 ≤ h'.1 ∧ h'.1 ≤ h.1 + 25000) ∧ (h.2.1 ≤ h'.2.1 ∧ h'.2.1 ≤ h.2.1 + 304000)
theorem R0.up {own own' : Nat → Nat} {z z' : Nat} {J : Nat → Prop} {h h' : MH} (H : R0 own z h) (h1 : ∀ b, b < z → own' b = own b) (h2 : ∀ b, z ≤ b → J (own' b)) (h0 : ¬ J 0) (e : ∀ b, b < z → ¬ J (own b) → h'.2.2 b = h.2.2 b) : R0 own' z' h' := fun b c hb ho hc => by
  by_cases hz : b < z
  · rw [h1 b hz] at ho
    exact H b c hz ho ((e b hz (by rw [ho]; exact h0)).symm.trans hc)
  · have := h2 b (by omega)
    rw [ho] at this; exact h0 this
theorem WorldO.cg {own : Nat → Nat} {K : KT} {h h' : MH} {z x : Nat} {sg : TS} (e : ∀ b, b < z → own b ≠ 10 → h'.2.2 b = h.2.2 b) (W : WorldO own K h z x sg) : WorldO own K h' z x sg := by
  have U : ∀ k, k ≠ 10 → tg own z k h' = tg own z k h := fun k hk => by
    unfold tg
    congr 2
    funext b
    by_cases hb : b < z ∧ (own b = k ∨ own b = 0)
    · rw [if_pos hb, if_pos hb, e b hb.1 (by omega)]
    · rw [if_neg hb, if_neg hb]
  obtain ⟨e0, cc, ch, wk, sv, tr, lt, ws, tx, se, te, we, kp, sp, tp, wp, T, r1, r2, r3, r4, r5, r6, r7, r8, r9, r10, r11, r12, r13⟩ := W
  exact ⟨e0, cc, ch, wk, sv, tr, lt, ws, tx, se, te, we, kp, sp, tp, wp, T, r1, by rw [U 0 (by decide)]; exact r2, by rw [U 0 (by decide)]; exact r3, by rw [U 1 (by decide)]; exact r4, by rw [U 2 (by decide)]; exact r5, by rw [U 3 (by decide)]; exact r6, ⟨by rw [U 4 (by decide)]; exact r7.1, fun s a b => by rw [U _ (by omega)]; exact r7.2 s a b⟩, ⟨by rw [U 5 (by decide)]; exact r8.1, fun s a b => by rw [U _ (by omega)]; exact r8.2 s a b⟩, by rw [U 6 (by decide)]; exact r9, ⟨by rw [U 7 (by decide)]; exact r10.1, fun s a b => by rw [U 7 (by decide)]; exact r10.2 s a b⟩, by rw [U 8 (by decide)]; exact r11, by rw [U 9 (by decide)]; exact r12, fun b c hb h0 hc => r13 b c hb h0 ((e b hb (by omega)).symm.trans hc)⟩
theorem World.cg {K : KT} {h h' : MH} {z x : Nat} {sg : TS} (e : ∀ b, b < z → h'.2.2 b = h.2.2 b) (W : World K h z x sg) : World K h' z x sg := by
  obtain ⟨own, r⟩ := W
  exact ⟨own, r.cg (fun b hb _ => e b hb)⟩
