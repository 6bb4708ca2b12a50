/-! the twin's bounds: of fields and of arrays, all places -/
def tbF : Nat → Int × Int
  | 0 => (0, 4) | 1 => (0, 12) | 5 => (-1, 11) | 6 => (0, 6) | 8 => (0, 24) | 14 => (0, 12) | 19 => (0, 80) | 21 => (-1, 80) | 22 => (0, 27) | 25 => (0, 1)
  | 28 => (0, 74) | 29 => (-1, 73) | 33 => (0, 600) | 36 => (0, 6) | 45 => (0, 32) | 48 => (0, 74) | 49 => (-2000, 1000000)
  | _ => (-2147483648, 2147483647)
def tbA : Nat → Int × Int × Int
  | 2 => (12, 0, 30) | 3 => (144, 0, 60) | 4 => (144, 0, 1000000) | 7 => (168, 0, 1) | 9 => (24, 0, 5) | 10 => (24, 0, 8) | 11 => (192, 0, 11) | 12 => (192, 0, 2879) | 13 => (192, 0, 2879)
  | 15 => (12, 0, 27) | 16 => (12, 0, 23) | 17 => (12, 0, 7) | 18 => (12, 0, 120) | 20 => (80, 0, 65535) | 23 => (12, -2000, 1000000) | 24 => (12, -2000, 1000000)
  | 26 => (888, -2000, 1000000) | 27 => (888, -2000, 1000000) | 30 => (74, -1, 71) | 31 => (74, 0, 7) | 32 => (74, 0, 7) | 34 => (600, 0, 10000) | 35 => (600, -2000, 1000000)
  | 37 => (6, 0, 23) | 38 => (6, 0, 7) | 39 => (6, 0, 23) | 40 => (6, 0, 7) | 41 => (6, 0, 99) | 42 => (192, 0, 4000) | 43 => (144, -2000, 1000000) | 44 => (32, 0, 9999) | 46 => (24, 0, 2879) | 47 => (24, 0, 2879)
  | _ => (0, 0, 0)
def okF (k : Nat) (v : Int) : Prop := (tbF k).1 ≤ v ∧ v ≤ (tbF k).2
def okA (k : Nat) (f : Int → Int) : Prop := ∀ q : Int, 0 ≤ q → q < (tbA k).1 → (tbA k).2.1 ≤ f q ∧ f q ≤ (tbA k).2.2
def TB (sg : TS) : Prop := (∀ k, okF k (sg.1 k)) ∧ ∀ k, okA k (sg.2 k)
theorem okA_upz {k : Nat} {f : Int → Int} (h : okA k f) {i x : Int} (hx : (tbA k).2.1 ≤ x ∧ x ≤ (tbA k).2.2) : okA k (upz f i x) := by
  intro q h0 h1
  unfold upz
  split
  · exact hx
  · exact h q h0 h1
theorem lkA_all {α : Type} {P : Nat → α → Prop} (A : List (Nat × α)) (h : ∀ p ∈ A, P p.1 p.2) (k : Nat) (x : α) (hx : P k x) : P k (lkA A k x) := by
  induction A with
  | nil => exact hx
  | cons q r ih =>
    obtain ⟨k0, g⟩ := q
    unfold lkA
    by_cases h1 : k = k0
    · rw [if_pos h1, h1]; exact h (k0, g) List.mem_cons_self
    · rw [if_neg h1]; exact ih (fun p hp => h p (List.mem_cons_of_mem _ hp))
theorem TB.ovr {sg : TS} (h : TB sg) {F : List (Nat × Int)} {A : List (Nat × (Int → Int))} (hF : ∀ p ∈ F, okF p.1 p.2) (hA : ∀ p ∈ A, okA p.1 p.2) : TB (ovr sg F A) :=
  ⟨fun k => lkA_all (P := okF) F hF k _ (h.1 k), fun k => lkA_all (P := okA) A hA k _ (h.2 k)⟩
theorem fa0 {α : Type} {P : α → Prop} : ∀ p ∈ ([] : List α), P p := fun _ h => nomatch h
theorem fa1 {α : Type} {P : α → Prop} {a : α} {l : List α} (h : P a) (hl : ∀ p ∈ l, P p) : ∀ p ∈ a :: l, P p := fun p hp => by
  cases hp with
  | head => exact h
  | tail _ h2 => exact hl p h2
theorem of0 {v : Int} (h : okF 0 v) : 0 ≤ v ∧ v ≤ 4 := h
theorem of1 {v : Int} (h : okF 1 v) : 0 ≤ v ∧ v ≤ 12 := h
theorem of5 {v : Int} (h : okF 5 v) : (-1) ≤ v ∧ v ≤ 11 := h
theorem of6 {v : Int} (h : okF 6 v) : 0 ≤ v ∧ v ≤ 6 := h
theorem of8 {v : Int} (h : okF 8 v) : 0 ≤ v ∧ v ≤ 24 := h
theorem of14 {v : Int} (h : okF 14 v) : 0 ≤ v ∧ v ≤ 12 := h
theorem of19 {v : Int} (h : okF 19 v) : 0 ≤ v ∧ v ≤ 80 := h
theorem of21 {v : Int} (h : okF 21 v) : (-1) ≤ v ∧ v ≤ 80 := h
theorem of22 {v : Int} (h : okF 22 v) : 0 ≤ v ∧ v ≤ 27 := h
theorem of25 {v : Int} (h : okF 25 v) : 0 ≤ v ∧ v ≤ 1 := h
theorem of28 {v : Int} (h : okF 28 v) : 0 ≤ v ∧ v ≤ 74 := h
theorem of29 {v : Int} (h : okF 29 v) : (-1) ≤ v ∧ v ≤ 73 := h
theorem of33 {v : Int} (h : okF 33 v) : 0 ≤ v ∧ v ≤ 600 := h
theorem of36 {v : Int} (h : okF 36 v) : 0 ≤ v ∧ v ≤ 6 := h
theorem of45 {v : Int} (h : okF 45 v) : 0 ≤ v ∧ v ≤ 32 := h
theorem of48 {v : Int} (h : okF 48 v) : 0 ≤ v ∧ v ≤ 74 := h
theorem of49 {v : Int} (h : okF 49 v) : (-2000) ≤ v ∧ v ≤ 1000000 := h
theorem mf0 {v : Int} (h : 0 ≤ v ∧ v ≤ 4) : okF 0 v := h
theorem mf1 {v : Int} (h : 0 ≤ v ∧ v ≤ 12) : okF 1 v := h
theorem mf5 {v : Int} (h : (-1) ≤ v ∧ v ≤ 11) : okF 5 v := h
theorem mf6 {v : Int} (h : 0 ≤ v ∧ v ≤ 6) : okF 6 v := h
theorem mf8 {v : Int} (h : 0 ≤ v ∧ v ≤ 24) : okF 8 v := h
theorem mf14 {v : Int} (h : 0 ≤ v ∧ v ≤ 12) : okF 14 v := h
theorem mf19 {v : Int} (h : 0 ≤ v ∧ v ≤ 80) : okF 19 v := h
theorem mf21 {v : Int} (h : (-1) ≤ v ∧ v ≤ 80) : okF 21 v := h
theorem mf22 {v : Int} (h : 0 ≤ v ∧ v ≤ 27) : okF 22 v := h
theorem mf25 {v : Int} (h : 0 ≤ v ∧ v ≤ 1) : okF 25 v := h
theorem mf28 {v : Int} (h : 0 ≤ v ∧ v ≤ 74) : okF 28 v := h
theorem mf29 {v : Int} (h : (-1) ≤ v ∧ v ≤ 73) : okF 29 v := h
theorem mf33 {v : Int} (h : 0 ≤ v ∧ v ≤ 600) : okF 33 v := h
theorem mf36 {v : Int} (h : 0 ≤ v ∧ v ≤ 6) : okF 36 v := h
theorem mf45 {v : Int} (h : 0 ≤ v ∧ v ≤ 32) : okF 45 v := h
theorem mf48 {v : Int} (h : 0 ≤ v ∧ v ≤ 74) : okF 48 v := h
theorem mf49 {v : Int} (h : (-2000) ≤ v ∧ v ≤ 1000000) : okF 49 v := h
theorem ma2 {f : Int → Int} (h : ∀ q : Int, 0 ≤ q → q < 12 → 0 ≤ f q ∧ f q ≤ 30) : okA 2 f := h
theorem ma3 {f : Int → Int} (h : ∀ q : Int, 0 ≤ q → q < 144 → 0 ≤ f q ∧ f q ≤ 60) : okA 3 f := h
theorem ma4 {f : Int → Int} (h : ∀ q : Int, 0 ≤ q → q < 144 → 0 ≤ f q ∧ f q ≤ 1000000) : okA 4 f := h
theorem ma7 {f : Int → Int} (h : ∀ q : Int, 0 ≤ q → q < 168 → 0 ≤ f q ∧ f q ≤ 1) : okA 7 f := h
theorem ma9 {f : Int → Int} (h : ∀ q : Int, 0 ≤ q → q < 24 → 0 ≤ f q ∧ f q ≤ 5) : okA 9 f := h
theorem ma10 {f : Int → Int} (h : ∀ q : Int, 0 ≤ q → q < 24 → 0 ≤ f q ∧ f q ≤ 8) : okA 10 f := h
theorem ma11 {f : Int → Int} (h : ∀ q : Int, 0 ≤ q → q < 192 → 0 ≤ f q ∧ f q ≤ 11) : okA 11 f := h
theorem ma12 {f : Int → Int} (h : ∀ q : Int, 0 ≤ q → q < 192 → 0 ≤ f q ∧ f q ≤ 2879) : okA 12 f := h
theorem ma13 {f : Int → Int} (h : ∀ q : Int, 0 ≤ q → q < 192 → 0 ≤ f q ∧ f q ≤ 2879) : okA 13 f := h
theorem ma15 {f : Int → Int} (h : ∀ q : Int, 0 ≤ q → q < 12 → 0 ≤ f q ∧ f q ≤ 27) : okA 15 f := h
theorem ma16 {f : Int → Int} (h : ∀ q : Int, 0 ≤ q → q < 12 → 0 ≤ f q ∧ f q ≤ 23) : okA 16 f := h
theorem ma17 {f : Int → Int} (h : ∀ q : Int, 0 ≤ q → q < 12 → 0 ≤ f q ∧ f q ≤ 7) : okA 17 f := h
theorem ma18 {f : Int → Int} (h : ∀ q : Int, 0 ≤ q → q < 12 → 0 ≤ f q ∧ f q ≤ 120) : okA 18 f := h
theorem ma20 {f : Int → Int} (h : ∀ q : Int, 0 ≤ q → q < 80 → 0 ≤ f q ∧ f q ≤ 65535) : okA 20 f := h
theorem ma23 {f : Int → Int} (h : ∀ q : Int, 0 ≤ q → q < 12 → (-2000) ≤ f q ∧ f q ≤ 1000000) : okA 23 f := h
theorem ma24 {f : Int → Int} (h : ∀ q : Int, 0 ≤ q → q < 12 → (-2000) ≤ f q ∧ f q ≤ 1000000) : okA 24 f := h
theorem ma26 {f : Int → Int} (h : ∀ q : Int, 0 ≤ q → q < 888 → (-2000) ≤ f q ∧ f q ≤ 1000000) : okA 26 f := h
theorem ma27 {f : Int → Int} (h : ∀ q : Int, 0 ≤ q → q < 888 → (-2000) ≤ f q ∧ f q ≤ 1000000) : okA 27 f := h
theorem ma30 {f : Int → Int} (h : ∀ q : Int, 0 ≤ q → q < 74 → (-1) ≤ f q ∧ f q ≤ 71) : okA 30 f := h
theorem ma31 {f : Int → Int} (h : ∀ q : Int, 0 ≤ q → q < 74 → 0 ≤ f q ∧ f q ≤ 7) : okA 31 f := h
theorem ma32 {f : Int → Int} (h : ∀ q : Int, 0 ≤ q → q < 74 → 0 ≤ f q ∧ f q ≤ 7) : okA 32 f := h
theorem ma34 {f : Int → Int} (h : ∀ q : Int, 0 ≤ q → q < 600 → 0 ≤ f q ∧ f q ≤ 10000) : okA 34 f := h
theorem ma35 {f : Int → Int} (h : ∀ q : Int, 0 ≤ q → q < 600 → (-2000) ≤ f q ∧ f q ≤ 1000000) : okA 35 f := h
theorem ma37 {f : Int → Int} (h : ∀ q : Int, 0 ≤ q → q < 6 → 0 ≤ f q ∧ f q ≤ 23) : okA 37 f := h
theorem ma38 {f : Int → Int} (h : ∀ q : Int, 0 ≤ q → q < 6 → 0 ≤ f q ∧ f q ≤ 7) : okA 38 f := h
theorem ma39 {f : Int → Int} (h : ∀ q : Int, 0 ≤ q → q < 6 → 0 ≤ f q ∧ f q ≤ 23) : okA 39 f := h
theorem ma40 {f : Int → Int} (h : ∀ q : Int, 0 ≤ q → q < 6 → 0 ≤ f q ∧ f q ≤ 7) : okA 40 f := h
theorem ma41 {f : Int → Int} (h : ∀ q : Int, 0 ≤ q → q < 6 → 0 ≤ f q ∧ f q ≤ 99) : okA 41 f := h
theorem ma42 {f : Int → Int} (h : ∀ q : Int, 0 ≤ q → q < 192 → 0 ≤ f q ∧ f q ≤ 4000) : okA 42 f := h
theorem ma43 {f : Int → Int} (h : ∀ q : Int, 0 ≤ q → q < 144 → (-2000) ≤ f q ∧ f q ≤ 1000000) : okA 43 f := h
theorem ma44 {f : Int → Int} (h : ∀ q : Int, 0 ≤ q → q < 32 → 0 ≤ f q ∧ f q ≤ 9999) : okA 44 f := h
theorem ma46 {f : Int → Int} (h : ∀ q : Int, 0 ≤ q → q < 24 → 0 ≤ f q ∧ f q ≤ 2879) : okA 46 f := h
theorem ma47 {f : Int → Int} (h : ∀ q : Int, 0 ≤ q → q < 24 → 0 ≤ f q ∧ f q ≤ 2879) : okA 47 f := h
theorem mu2 {f : Int → Int} (h : okA 2 f) {i x : Int} (hx : 0 ≤ x ∧ x ≤ 30) : okA 2 (upz f i x) := okA_upz h hx
theorem mu3 {f : Int → Int} (h : okA 3 f) {i x : Int} (hx : 0 ≤ x ∧ x ≤ 60) : okA 3 (upz f i x) := okA_upz h hx
theorem mu4 {f : Int → Int} (h : okA 4 f) {i x : Int} (hx : 0 ≤ x ∧ x ≤ 1000000) : okA 4 (upz f i x) := okA_upz h hx
theorem mu7 {f : Int → Int} (h : okA 7 f) {i x : Int} (hx : 0 ≤ x ∧ x ≤ 1) : okA 7 (upz f i x) := okA_upz h hx
theorem mu9 {f : Int → Int} (h : okA 9 f) {i x : Int} (hx : 0 ≤ x ∧ x ≤ 5) : okA 9 (upz f i x) := okA_upz h hx
theorem mu10 {f : Int → Int} (h : okA 10 f) {i x : Int} (hx : 0 ≤ x ∧ x ≤ 8) : okA 10 (upz f i x) := okA_upz h hx
theorem mu11 {f : Int → Int} (h : okA 11 f) {i x : Int} (hx : 0 ≤ x ∧ x ≤ 11) : okA 11 (upz f i x) := okA_upz h hx
theorem mu12 {f : Int → Int} (h : okA 12 f) {i x : Int} (hx : 0 ≤ x ∧ x ≤ 2879) : okA 12 (upz f i x) := okA_upz h hx
theorem mu13 {f : Int → Int} (h : okA 13 f) {i x : Int} (hx : 0 ≤ x ∧ x ≤ 2879) : okA 13 (upz f i x) := okA_upz h hx
theorem mu15 {f : Int → Int} (h : okA 15 f) {i x : Int} (hx : 0 ≤ x ∧ x ≤ 27) : okA 15 (upz f i x) := okA_upz h hx
theorem mu16 {f : Int → Int} (h : okA 16 f) {i x : Int} (hx : 0 ≤ x ∧ x ≤ 23) : okA 16 (upz f i x) := okA_upz h hx
theorem mu17 {f : Int → Int} (h : okA 17 f) {i x : Int} (hx : 0 ≤ x ∧ x ≤ 7) : okA 17 (upz f i x) := okA_upz h hx
theorem mu18 {f : Int → Int} (h : okA 18 f) {i x : Int} (hx : 0 ≤ x ∧ x ≤ 120) : okA 18 (upz f i x) := okA_upz h hx
theorem mu20 {f : Int → Int} (h : okA 20 f) {i x : Int} (hx : 0 ≤ x ∧ x ≤ 65535) : okA 20 (upz f i x) := okA_upz h hx
theorem mu23 {f : Int → Int} (h : okA 23 f) {i x : Int} (hx : (-2000) ≤ x ∧ x ≤ 1000000) : okA 23 (upz f i x) := okA_upz h hx
theorem mu24 {f : Int → Int} (h : okA 24 f) {i x : Int} (hx : (-2000) ≤ x ∧ x ≤ 1000000) : okA 24 (upz f i x) := okA_upz h hx
theorem mu26 {f : Int → Int} (h : okA 26 f) {i x : Int} (hx : (-2000) ≤ x ∧ x ≤ 1000000) : okA 26 (upz f i x) := okA_upz h hx
theorem mu27 {f : Int → Int} (h : okA 27 f) {i x : Int} (hx : (-2000) ≤ x ∧ x ≤ 1000000) : okA 27 (upz f i x) := okA_upz h hx
theorem mu30 {f : Int → Int} (h : okA 30 f) {i x : Int} (hx : (-1) ≤ x ∧ x ≤ 71) : okA 30 (upz f i x) := okA_upz h hx
theorem mu31 {f : Int → Int} (h : okA 31 f) {i x : Int} (hx : 0 ≤ x ∧ x ≤ 7) : okA 31 (upz f i x) := okA_upz h hx
theorem mu32 {f : Int → Int} (h : okA 32 f) {i x : Int} (hx : 0 ≤ x ∧ x ≤ 7) : okA 32 (upz f i x) := okA_upz h hx
theorem mu34 {f : Int → Int} (h : okA 34 f) {i x : Int} (hx : 0 ≤ x ∧ x ≤ 10000) : okA 34 (upz f i x) := okA_upz h hx
theorem mu35 {f : Int → Int} (h : okA 35 f) {i x : Int} (hx : (-2000) ≤ x ∧ x ≤ 1000000) : okA 35 (upz f i x) := okA_upz h hx
theorem mu37 {f : Int → Int} (h : okA 37 f) {i x : Int} (hx : 0 ≤ x ∧ x ≤ 23) : okA 37 (upz f i x) := okA_upz h hx
theorem mu38 {f : Int → Int} (h : okA 38 f) {i x : Int} (hx : 0 ≤ x ∧ x ≤ 7) : okA 38 (upz f i x) := okA_upz h hx
theorem mu39 {f : Int → Int} (h : okA 39 f) {i x : Int} (hx : 0 ≤ x ∧ x ≤ 23) : okA 39 (upz f i x) := okA_upz h hx
theorem mu40 {f : Int → Int} (h : okA 40 f) {i x : Int} (hx : 0 ≤ x ∧ x ≤ 7) : okA 40 (upz f i x) := okA_upz h hx
theorem mu41 {f : Int → Int} (h : okA 41 f) {i x : Int} (hx : 0 ≤ x ∧ x ≤ 99) : okA 41 (upz f i x) := okA_upz h hx
theorem mu42 {f : Int → Int} (h : okA 42 f) {i x : Int} (hx : 0 ≤ x ∧ x ≤ 4000) : okA 42 (upz f i x) := okA_upz h hx
theorem mu43 {f : Int → Int} (h : okA 43 f) {i x : Int} (hx : (-2000) ≤ x ∧ x ≤ 1000000) : okA 43 (upz f i x) := okA_upz h hx
theorem mu44 {f : Int → Int} (h : okA 44 f) {i x : Int} (hx : 0 ≤ x ∧ x ≤ 9999) : okA 44 (upz f i x) := okA_upz h hx
theorem mu46 {f : Int → Int} (h : okA 46 f) {i x : Int} (hx : 0 ≤ x ∧ x ≤ 2879) : okA 46 (upz f i x) := okA_upz h hx
theorem mu47 {f : Int → Int} (h : okA 47 f) {i x : Int} (hx : 0 ≤ x ∧ x ≤ 2879) : okA 47 (upz f i x) := okA_upz h hx
theorem oa2 {f : Int → Int} (h : okA 2 f) : ∀ q : Int, 0 ≤ q → q < ((12 : Nat) : Int) → 0 ≤ f q ∧ f q ≤ 30 := h
theorem oa3 {f : Int → Int} (h : okA 3 f) : ∀ q : Int, 0 ≤ q → q < ((144 : Nat) : Int) → 0 ≤ f q ∧ f q ≤ 60 := h
theorem oa4 {f : Int → Int} (h : okA 4 f) : ∀ q : Int, 0 ≤ q → q < ((144 : Nat) : Int) → 0 ≤ f q ∧ f q ≤ 1000000 := h
theorem oa7 {f : Int → Int} (h : okA 7 f) : ∀ q : Int, 0 ≤ q → q < ((168 : Nat) : Int) → 0 ≤ f q ∧ f q ≤ 1 := h
theorem oa9 {f : Int → Int} (h : okA 9 f) : ∀ q : Int, 0 ≤ q → q < ((24 : Nat) : Int) → 0 ≤ f q ∧ f q ≤ 5 := h
theorem oa10 {f : Int → Int} (h : okA 10 f) : ∀ q : Int, 0 ≤ q → q < ((24 : Nat) : Int) → 0 ≤ f q ∧ f q ≤ 8 := h
theorem oa11 {f : Int → Int} (h : okA 11 f) : ∀ q : Int, 0 ≤ q → q < ((192 : Nat) : Int) → 0 ≤ f q ∧ f q ≤ 11 := h
theorem oa12 {f : Int → Int} (h : okA 12 f) : ∀ q : Int, 0 ≤ q → q < ((192 : Nat) : Int) → 0 ≤ f q ∧ f q ≤ 2879 := h
theorem oa13 {f : Int → Int} (h : okA 13 f) : ∀ q : Int, 0 ≤ q → q < ((192 : Nat) : Int) → 0 ≤ f q ∧ f q ≤ 2879 := h
theorem oa15 {f : Int → Int} (h : okA 15 f) : ∀ q : Int, 0 ≤ q → q < ((12 : Nat) : Int) → 0 ≤ f q ∧ f q ≤ 27 := h
theorem oa16 {f : Int → Int} (h : okA 16 f) : ∀ q : Int, 0 ≤ q → q < ((12 : Nat) : Int) → 0 ≤ f q ∧ f q ≤ 23 := h
theorem oa17 {f : Int → Int} (h : okA 17 f) : ∀ q : Int, 0 ≤ q → q < ((12 : Nat) : Int) → 0 ≤ f q ∧ f q ≤ 7 := h
theorem oa18 {f : Int → Int} (h : okA 18 f) : ∀ q : Int, 0 ≤ q → q < ((12 : Nat) : Int) → 0 ≤ f q ∧ f q ≤ 120 := h
theorem oa20 {f : Int → Int} (h : okA 20 f) : ∀ q : Int, 0 ≤ q → q < ((80 : Nat) : Int) → 0 ≤ f q ∧ f q ≤ 65535 := h
theorem oa23 {f : Int → Int} (h : okA 23 f) : ∀ q : Int, 0 ≤ q → q < ((12 : Nat) : Int) → (-2000) ≤ f q ∧ f q ≤ 1000000 := h
theorem oa24 {f : Int → Int} (h : okA 24 f) : ∀ q : Int, 0 ≤ q → q < ((12 : Nat) : Int) → (-2000) ≤ f q ∧ f q ≤ 1000000 := h
theorem oa26 {f : Int → Int} (h : okA 26 f) : ∀ q : Int, 0 ≤ q → q < ((888 : Nat) : Int) → (-2000) ≤ f q ∧ f q ≤ 1000000 := h
theorem oa27 {f : Int → Int} (h : okA 27 f) : ∀ q : Int, 0 ≤ q → q < ((888 : Nat) : Int) → (-2000) ≤ f q ∧ f q ≤ 1000000 := h
theorem oa30 {f : Int → Int} (h : okA 30 f) : ∀ q : Int, 0 ≤ q → q < ((74 : Nat) : Int) → (-1) ≤ f q ∧ f q ≤ 71 := h
theorem oa31 {f : Int → Int} (h : okA 31 f) : ∀ q : Int, 0 ≤ q → q < ((74 : Nat) : Int) → 0 ≤ f q ∧ f q ≤ 7 := h
theorem oa32 {f : Int → Int} (h : okA 32 f) : ∀ q : Int, 0 ≤ q → q < ((74 : Nat) : Int) → 0 ≤ f q ∧ f q ≤ 7 := h
theorem oa34 {f : Int → Int} (h : okA 34 f) : ∀ q : Int, 0 ≤ q → q < ((600 : Nat) : Int) → 0 ≤ f q ∧ f q ≤ 10000 := h
theorem oa35 {f : Int → Int} (h : okA 35 f) : ∀ q : Int, 0 ≤ q → q < ((600 : Nat) : Int) → (-2000) ≤ f q ∧ f q ≤ 1000000 := h
theorem oa37 {f : Int → Int} (h : okA 37 f) : ∀ q : Int, 0 ≤ q → q < ((6 : Nat) : Int) → 0 ≤ f q ∧ f q ≤ 23 := h
theorem oa38 {f : Int → Int} (h : okA 38 f) : ∀ q : Int, 0 ≤ q → q < ((6 : Nat) : Int) → 0 ≤ f q ∧ f q ≤ 7 := h
theorem oa39 {f : Int → Int} (h : okA 39 f) : ∀ q : Int, 0 ≤ q → q < ((6 : Nat) : Int) → 0 ≤ f q ∧ f q ≤ 23 := h
theorem oa40 {f : Int → Int} (h : okA 40 f) : ∀ q : Int, 0 ≤ q → q < ((6 : Nat) : Int) → 0 ≤ f q ∧ f q ≤ 7 := h
theorem oa41 {f : Int → Int} (h : okA 41 f) : ∀ q : Int, 0 ≤ q → q < ((6 : Nat) : Int) → 0 ≤ f q ∧ f q ≤ 99 := h
theorem oa42 {f : Int → Int} (h : okA 42 f) : ∀ q : Int, 0 ≤ q → q < ((192 : Nat) : Int) → 0 ≤ f q ∧ f q ≤ 4000 := h
theorem oa43 {f : Int → Int} (h : okA 43 f) : ∀ q : Int, 0 ≤ q → q < ((144 : Nat) : Int) → (-2000) ≤ f q ∧ f q ≤ 1000000 := h
theorem oa44 {f : Int → Int} (h : okA 44 f) : ∀ q : Int, 0 ≤ q → q < ((32 : Nat) : Int) → 0 ≤ f q ∧ f q ≤ 9999 := h
theorem oa46 {f : Int → Int} (h : okA 46 f) : ∀ q : Int, 0 ≤ q → q < ((24 : Nat) : Int) → 0 ≤ f q ∧ f q ≤ 2879 := h
theorem oa47 {f : Int → Int} (h : okA 47 f) : ∀ q : Int, 0 ≤ q → q < ((24 : Nat) : Int) → 0 ≤ f q ∧ f q ≤ 2879 := h
