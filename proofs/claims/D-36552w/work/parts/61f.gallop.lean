/-! the sort: galloping -/
def LoR (rk : Nat → Int) (p : Int → Nat) (x a k : Int) : Prop := ∀ i, a ≤ i → i < a + k → rk (p i) < x
def HiR (rk : Nat → Int) (p : Int → Nat) (x a n k : Int) : Prop := ∀ i, a + k ≤ i → i < a + n → x < rk (p i)
theorem lo_of {rk : Nat → Int} {p : Int → Nat} {x a n k : Int} (i : Int) (hs : Asc rk p a (a + n)) (h : rk (p i) < x) (h1 : a ≤ i ∧ i < a + n) (h2 : a + k = i + 1) : LoR rk p x a k := fun j a1 a2 => by
  by_cases e : j = i
  · rw [e]; exact h
  · have := hs j i a1 (by omega) (by omega); omega
theorem hi_of {rk : Nat → Int} {p : Int → Nat} {x a n k : Int} (i : Int) (hs : Asc rk p a (a + n)) (h : x < rk (p i)) (h1 : a ≤ i ∧ i < a + n) (h2 : a + k = i) : HiR rk p x a n k := fun j a1 a2 => by
  by_cases e : j = i
  · rw [e]; exact h
  · have := hs i j (by omega) (by omega) (by omega); omega
theorem lo_0 {rk : Nat → Int} {p : Int → Nat} {x a k : Int} (h : k ≤ 0) : LoR rk p x a k := fun j a1 a2 => by omega
theorem hi_0 {rk : Nat → Int} {p : Int → Nat} {x a n k : Int} (h : n ≤ k) : HiR rk p x a n k := fun j a1 a2 => by omega
theorem LoR.c {rk : Nat → Int} {p : Int → Nat} {x a k k' : Int} (H : LoR rk p x a k) (h : k' = k) : LoR rk p x a k' := by rw [h]; exact H
theorem HiR.c {rk : Nat → Int} {p : Int → Nat} {x a n k k' : Int} (H : HiR rk p x a n k) (h : k' = k) : HiR rk p x a n k' := by rw [h]; exact H
/-- a stretch of rides -/
def RdA (h : MH) (rk : Nat → Int) (f : Int → Option Nat) (p : Int → Nat) (a b : Int) : Prop := ∀ i, a ≤ i → i < b → f i = some (p i) ∧ RdS h rk (p i)
theorem c_J35_gallopRight (K : KT) (d : Nat) (h : MH) (rk : Nat → Int) (e cap q : Nat) (w : Bool) (a n t : Int) (f : Int → Option Nat) (p : Int → Nat) (hd : 3 ≤ d) (hB : kV K 12 = vi 1) (he : h.2.2 e = some (w, oaE K cap f)) (hA : RdA h rk f p a (a + n)) (hq : RdS h rk q) (hs : Asc rk p a (a + n)) (hn : ∀ i, a ≤ i → i < a + n → rk q ≠ rk (p i)) (hb : 0 ≤ a ∧ 0 < n ∧ a + n ≤ (cap : Int) ∧ cap ≤ 60000) (ht : 0 ≤ t ∧ t < n) : Mt K yiJ35_gallopRight d [.ref q, .ref e, vi a, vi n, vi t] h (Rz fun v h' => h = h' ∧ (0 ≤ v ∧ v ≤ n) ∧ LoR rk p (rk q) a v ∧ HiR rk p (rk q) a n v) := by
  have hq0 := hq
  obtain ⟨ru, cs, ks, hqc⟩ := hq.cell
  refine mt_ofQ (by decide) (Nat.le_of_ble_eq_true rfl) (fun Q hQ => ?_)
  show MW K yiJ35_gallopRight d h 0 [some (.ref q), some (.ref e), some (vi a), some (vi n), some (vi t), none, none, none, none] [] Q
  refine mw_wf (fun hwf => ?_)
  have l_he := hwf _ _ he
  have l_hqc := hwf _ _ hqc
  refine m_gets (y := yiJ35_gallopRight) (ref := "") 12 rfl dJ35_gallopRight_0 q1989 hB ?_
  refine j_if_ne (y := yiJ35_gallopRight) 29 dJ35_gallopRight_3 (by decide) ⟨by decide, by decide⟩ (fun _ => ?_) (fun c => absurd c (by decide))
  have J217 : ∀ (L R : Int), (-1 ≤ L ∧ L < R ∧ R ≤ n) → (LoR rk p (rk q) a (L + 1)) → (HiR rk p (rk q) a n R) → MW K yiJ35_gallopRight d h 217 [some (.ref q), some (.ref e), some (vi a), some (vi n), some (vi t), some (vi R), some (vi L), none, none] [] Q := by
    intro L R hj hj1 hj2
    refine m_gets (y := yiJ35_gallopRight) (ref := "") 12 rfl dJ35_gallopRight_217 q1989 hB ?_
    refine j_if_ne (y := yiJ35_gallopRight) 250 dJ35_gallopRight_220 (by decide) ⟨by decide, by decide⟩ (fun _ => ?_) (fun c => absurd c (by decide))
    refine j_iinc (y := yiJ35_gallopRight) [some (.ref q), some (.ref e), some (vi a), some (vi n), some (vi t), some (vi R), some (vi (L + 1)), none, none] dJ35_gallopRight_250 rfl (by decide) rfl rfl ?_
    have L253 : ∀ (N : Nat) (l r : Int), (r - l).toNat = N → (0 ≤ l ∧ l ≤ r ∧ r ≤ n) → (LoR rk p (rk q) a l) → (HiR rk p (rk q) a n r) → MW K yiJ35_gallopRight d h 253 [some (.ref q), some (.ref e), some (vi a), some (vi n), some (vi t), some (vi r), some (vi l), none, none] [] Q := by
      intro N
      induction N using Nat.strongRecOn with
      | _ N ih253 =>
      intro l r hN253 hm hm1 hm2
      refine j_iload (y := yiJ35_gallopRight) dJ35_gallopRight_253 rfl ?_
      refine j_iload (y := yiJ35_gallopRight) dJ35_gallopRight_255 rfl ?_
      refine j_icmp_ge (y := yiJ35_gallopRight) 303 dJ35_gallopRight_257 (by decide) ⟨⟨by omega, by omega⟩, ⟨by omega, by omega⟩⟩ (fun c257 => ?_) (fun c257 => ?_)
      · refine m_gets (y := yiJ35_gallopRight) (ref := "") 12 rfl dJ35_gallopRight_303 q1989 hB ?_
        refine j_if_ne (y := yiJ35_gallopRight) 324 dJ35_gallopRight_306 (by decide) ⟨by decide, by decide⟩ (fun _ => ?_) (fun c => absurd c (by decide))
        refine j_iload (y := yiJ35_gallopRight) dJ35_gallopRight_324 rfl ?_
        subst hQ; exact j_iret (y := yiJ35_gallopRight) dJ35_gallopRight_326 rfl (⟨rfl, ⟨by omega, by omega⟩, hm1.c (by omega), hm2.c (by omega)⟩)
      · refine j_iload (y := yiJ35_gallopRight) dJ35_gallopRight_260 rfl ?_
        refine j_iload (y := yiJ35_gallopRight) dJ35_gallopRight_262 rfl ?_
        refine j_iload (y := yiJ35_gallopRight) dJ35_gallopRight_264 rfl ?_
        refine j_isub (y := yiJ35_gallopRight) dJ35_gallopRight_266 ?_
        refine j_iconst (y := yiJ35_gallopRight) dJ35_gallopRight_267 ?_
        refine j_iushr1 (y := yiJ35_gallopRight) dJ35_gallopRight_268 ⟨by omega, by omega⟩ ?_
        refine j_iadd (y := yiJ35_gallopRight) dJ35_gallopRight_269 ?_
        refine j_istore (y := yiJ35_gallopRight) [some (.ref q), some (.ref e), some (vi a), some (vi n), some (vi t), some (vi r), some (vi l), some (vi (l + ((r - l) / 2))), none] dJ35_gallopRight_270 (by decide) rfl rfl ?_
        refine m_aload_n (y := yiJ35_gallopRight) dJ35_gallopRight_272 rfl ?_
        refine m_aload_n (y := yiJ35_gallopRight) dJ35_gallopRight_273 rfl ?_
        refine j_iload_n (y := yiJ35_gallopRight) dJ35_gallopRight_274 rfl ?_
        refine j_iload (y := yiJ35_gallopRight) dJ35_gallopRight_275 rfl ?_
        refine j_iadd (y := yiJ35_gallopRight) dJ35_gallopRight_277 ?_
        refine h_aald5 (y := yiJ35_gallopRight) dJ35_gallopRight_278 he ⟨by omega, by omega⟩ (by omega) ?_
        rw [(hA (a + (l + (r - l) / 2)) (by omega) (by omega)).1]
        show MW K yiJ35_gallopRight d h 279 [some (.ref q), some (.ref e), some (vi a), some (vi n), some (vi t), some (vi r), some (vi l), some (vi (l + ((r - l) / 2))), none] [(.ref (p (a + (l + (r - l) / 2)))), (.ref q)] Q
        refine m_invF (y := yiJ35_gallopRight) (rB := (RX9, TX9, 3)) [(.ref (p (a + (l + (r - l) / 2))))] dJ35_gallopRight_279 hqc rfl q1996 q1517 q1516 rfl q1535 q1537 q1538 q1536 q1534 q168 q1539 ⟨by decide, by decide⟩ (by show _ = some 1; decide +kernel) (c_cmp K 1 h rk q (p (a + (l + (r - l) / 2))) (by omega) hq0 (hA _ (by omega) (by omega)).2) pdX9_compareTo ⟨Nat.le_of_ble_eq_true rfl, by decide, by omega⟩ (kk_z fun r279 h279 q279 => ?_) kx_z
        obtain ⟨rfl, e279⟩ := q279
        have b279 := e279.2.2
        have n279 := hn (a + (l + (r - l) / 2)) (by omega) (by omega)
        refine j_if_ge (y := yiJ35_gallopRight) 294 dJ35_gallopRight_284 (by decide) ⟨by omega, by omega⟩ (fun c284 => ?_) (fun c284 => ?_)
        · refine j_iload (y := yiJ35_gallopRight) dJ35_gallopRight_294 rfl ?_
          refine j_iconst (y := yiJ35_gallopRight) dJ35_gallopRight_296 ?_
          refine j_iadd (y := yiJ35_gallopRight) dJ35_gallopRight_297 ?_
          refine j_istore (y := yiJ35_gallopRight) [some (.ref q), some (.ref e), some (vi a), some (vi n), some (vi t), some (vi r), some (vi ((l + ((r - l) / 2)) + 1)), some (vi (l + ((r - l) / 2))), none] dJ35_gallopRight_298 (by decide) rfl rfl ?_
          refine m_goto (y := yiJ35_gallopRight) 253 dJ35_gallopRight_300 (by decide) ?_
          refine mw_forget 7 ?_
          exact ih253 _ (by omega) _ _ rfl (by omega) (by first | exact hm1 | exact lo_of (a + (l + (r - l) / 2)) hs (by have := e279.1; have := e279.2.1; omega) ⟨by omega, by omega⟩ (by omega)) (by first | exact hm2 | exact hi_of (a + (l + (r - l) / 2)) hs (by have := e279.1; have := e279.2.1; omega) ⟨by omega, by omega⟩ (by omega))
        · refine j_iload (y := yiJ35_gallopRight) dJ35_gallopRight_287 rfl ?_
          refine j_istore (y := yiJ35_gallopRight) [some (.ref q), some (.ref e), some (vi a), some (vi n), some (vi t), some (vi (l + ((r - l) / 2))), some (vi l), some (vi (l + ((r - l) / 2))), none] dJ35_gallopRight_289 (by decide) rfl rfl ?_
          refine m_goto (y := yiJ35_gallopRight) 300 dJ35_gallopRight_291 (by decide) ?_
          refine m_goto (y := yiJ35_gallopRight) 253 dJ35_gallopRight_300 (by decide) ?_
          refine mw_forget 7 ?_
          exact ih253 _ (by omega) _ _ rfl (by omega) (by first | exact hm1 | exact lo_of (a + (l + (r - l) / 2)) hs (by have := e279.1; have := e279.2.1; omega) ⟨by omega, by omega⟩ (by omega)) (by first | exact hm2 | exact hi_of (a + (l + (r - l) / 2)) hs (by have := e279.1; have := e279.2.1; omega) ⟨by omega, by omega⟩ (by omega))
    exact L253 _ (L + 1) R rfl (by omega) hj1 hj2
  refine j_iconst (y := yiJ35_gallopRight) dJ35_gallopRight_29 ?_
  refine j_istore (y := yiJ35_gallopRight) [some (.ref q), some (.ref e), some (vi a), some (vi n), some (vi t), some (vi 1), none, none, none] dJ35_gallopRight_30 (by decide) rfl rfl ?_
  refine j_iconst (y := yiJ35_gallopRight) dJ35_gallopRight_32 ?_
  refine j_istore (y := yiJ35_gallopRight) [some (.ref q), some (.ref e), some (vi a), some (vi n), some (vi t), some (vi 1), some (vi 0), none, none] dJ35_gallopRight_33 (by decide) rfl rfl ?_
  refine m_aload_n (y := yiJ35_gallopRight) dJ35_gallopRight_35 rfl ?_
  refine m_aload_n (y := yiJ35_gallopRight) dJ35_gallopRight_36 rfl ?_
  refine j_iload_n (y := yiJ35_gallopRight) dJ35_gallopRight_37 rfl ?_
  refine j_iload (y := yiJ35_gallopRight) dJ35_gallopRight_38 rfl ?_
  refine j_iadd (y := yiJ35_gallopRight) dJ35_gallopRight_40 ?_
  refine h_aald5 (y := yiJ35_gallopRight) dJ35_gallopRight_41 he ⟨by omega, by omega⟩ (by omega) ?_
  rw [(hA (a + t) (by omega) (by omega)).1]
  show MW K yiJ35_gallopRight d h 42 [some (.ref q), some (.ref e), some (vi a), some (vi n), some (vi t), some (vi 1), some (vi 0), none, none] [(.ref (p (a + t))), (.ref q)] Q
  refine m_invF (y := yiJ35_gallopRight) (rB := (RX9, TX9, 3)) [(.ref (p (a + t)))] dJ35_gallopRight_42 hqc rfl q1996 q1517 q1516 rfl q1535 q1537 q1538 q1536 q1534 q168 q1539 ⟨by decide, by decide⟩ (by show _ = some 1; decide +kernel) (c_cmp K 1 h rk q (p (a + t)) (by omega) hq0 (hA _ (by omega) (by omega)).2) pdX9_compareTo ⟨Nat.le_of_ble_eq_true rfl, by decide, by omega⟩ (kk_z fun r42 h42 q42 => ?_) kx_z
  obtain ⟨rfl, e42⟩ := q42
  have b42 := e42.2.2
  have n42 := hn (a + t) (by omega) (by omega)
  refine j_if_ge (y := yiJ35_gallopRight) 137 dJ35_gallopRight_47 (by decide) ⟨by omega, by omega⟩ (fun c47 => ?_) (fun c47 => ?_)
  · refine j_iload_n (y := yiJ35_gallopRight) dJ35_gallopRight_137 rfl ?_
    refine j_iload (y := yiJ35_gallopRight) dJ35_gallopRight_138 rfl ?_
    refine j_isub (y := yiJ35_gallopRight) dJ35_gallopRight_140 ?_
    refine j_istore (y := yiJ35_gallopRight) [some (.ref q), some (.ref e), some (vi a), some (vi n), some (vi t), some (vi 1), some (vi 0), some (vi (n - t)), none] dJ35_gallopRight_141 (by decide) rfl rfl ?_
    have L143 : ∀ (N : Nat) (o lo : Int), (n - t - o).toNat = N → (0 ≤ lo ∧ lo < o ∧ t + lo < n ∧ o ≤ 200000) → (LoR rk p (rk q) a (t + lo + 1)) → MW K yiJ35_gallopRight d h 143 [some (.ref q), some (.ref e), some (vi a), some (vi n), some (vi t), some (vi o), some (vi lo), some (vi (n - t)), none] [] Q := by
      intro N
      induction N using Nat.strongRecOn with
      | _ N ih143 =>
      intro o lo hN143 hl hl1
      refine j_iload (y := yiJ35_gallopRight) dJ35_gallopRight_143 rfl ?_
      refine j_iload (y := yiJ35_gallopRight) dJ35_gallopRight_145 rfl ?_
      refine j_icmp_ge (y := yiJ35_gallopRight) 192 dJ35_gallopRight_147 (by decide) ⟨⟨by omega, by omega⟩, ⟨by omega, by omega⟩⟩ (fun c147 => ?_) (fun c147 => ?_)
      · refine j_iload (y := yiJ35_gallopRight) dJ35_gallopRight_192 rfl ?_
        refine j_iload (y := yiJ35_gallopRight) dJ35_gallopRight_194 rfl ?_
        refine j_icmp_le (y := yiJ35_gallopRight) 203 dJ35_gallopRight_196 (by decide) ⟨⟨by omega, by omega⟩, ⟨by omega, by omega⟩⟩ (fun c196 => ?_) (fun c196 => ?_)
        · refine j_iload (y := yiJ35_gallopRight) dJ35_gallopRight_203 rfl ?_
          refine j_iload (y := yiJ35_gallopRight) dJ35_gallopRight_205 rfl ?_
          refine j_iadd (y := yiJ35_gallopRight) dJ35_gallopRight_207 ?_
          refine j_istore (y := yiJ35_gallopRight) [some (.ref q), some (.ref e), some (vi a), some (vi n), some (vi t), some (vi o), some (vi (lo + t)), some (vi (n - t)), none] dJ35_gallopRight_208 (by decide) rfl rfl ?_
          refine j_iload (y := yiJ35_gallopRight) dJ35_gallopRight_210 rfl ?_
          refine j_iload (y := yiJ35_gallopRight) dJ35_gallopRight_212 rfl ?_
          refine j_iadd (y := yiJ35_gallopRight) dJ35_gallopRight_214 ?_
          refine j_istore (y := yiJ35_gallopRight) [some (.ref q), some (.ref e), some (vi a), some (vi n), some (vi t), some (vi (o + t)), some (vi (lo + t)), some (vi (n - t)), none] dJ35_gallopRight_215 (by decide) rfl rfl ?_
          refine mw_forget 7 ?_
          exact J217 _ _ (by omega) (by first | exact hl1.c (by omega) | exact lo_0 (by omega) | exact lo_of (a + t - o) hs (by have := e73.1; have := e73.2.1; omega) ⟨by omega, by omega⟩ (by omega)) (by first | exact hl1.c (by omega) | exact hi_0 (by omega) | exact hi_of (a + t + o) hs (by have := e160.1; have := e160.2.1; omega) ⟨by omega, by omega⟩ (by omega))
        · refine j_iload (y := yiJ35_gallopRight) dJ35_gallopRight_199 rfl ?_
          refine j_istore (y := yiJ35_gallopRight) [some (.ref q), some (.ref e), some (vi a), some (vi n), some (vi t), some (vi (n - t)), some (vi lo), some (vi (n - t)), none] dJ35_gallopRight_201 (by decide) rfl rfl ?_
          refine j_iload (y := yiJ35_gallopRight) dJ35_gallopRight_203 rfl ?_
          refine j_iload (y := yiJ35_gallopRight) dJ35_gallopRight_205 rfl ?_
          refine j_iadd (y := yiJ35_gallopRight) dJ35_gallopRight_207 ?_
          refine j_istore (y := yiJ35_gallopRight) [some (.ref q), some (.ref e), some (vi a), some (vi n), some (vi t), some (vi (n - t)), some (vi (lo + t)), some (vi (n - t)), none] dJ35_gallopRight_208 (by decide) rfl rfl ?_
          refine j_iload (y := yiJ35_gallopRight) dJ35_gallopRight_210 rfl ?_
          refine j_iload (y := yiJ35_gallopRight) dJ35_gallopRight_212 rfl ?_
          refine j_iadd (y := yiJ35_gallopRight) dJ35_gallopRight_214 ?_
          refine j_istore (y := yiJ35_gallopRight) [some (.ref q), some (.ref e), some (vi a), some (vi n), some (vi t), some (vi ((n - t) + t)), some (vi (lo + t)), some (vi (n - t)), none] dJ35_gallopRight_215 (by decide) rfl rfl ?_
          refine mw_forget 7 ?_
          exact J217 _ _ (by omega) (by first | exact hl1.c (by omega) | exact lo_0 (by omega) | exact lo_of (a + t - o) hs (by have := e73.1; have := e73.2.1; omega) ⟨by omega, by omega⟩ (by omega)) (by first | exact hl1.c (by omega) | exact hi_0 (by omega) | exact hi_of (a + t + o) hs (by have := e160.1; have := e160.2.1; omega) ⟨by omega, by omega⟩ (by omega))
      · refine m_aload_n (y := yiJ35_gallopRight) dJ35_gallopRight_150 rfl ?_
        refine m_aload_n (y := yiJ35_gallopRight) dJ35_gallopRight_151 rfl ?_
        refine j_iload_n (y := yiJ35_gallopRight) dJ35_gallopRight_152 rfl ?_
        refine j_iload (y := yiJ35_gallopRight) dJ35_gallopRight_153 rfl ?_
        refine j_iadd (y := yiJ35_gallopRight) dJ35_gallopRight_155 ?_
        refine j_iload (y := yiJ35_gallopRight) dJ35_gallopRight_156 rfl ?_
        refine j_iadd (y := yiJ35_gallopRight) dJ35_gallopRight_158 ?_
        refine h_aald5 (y := yiJ35_gallopRight) dJ35_gallopRight_159 he ⟨by omega, by omega⟩ (by omega) ?_
        rw [(hA (a + t + o) (by omega) (by omega)).1]
        show MW K yiJ35_gallopRight d h 160 [some (.ref q), some (.ref e), some (vi a), some (vi n), some (vi t), some (vi o), some (vi lo), some (vi (n - t)), none] [(.ref (p (a + t + o))), (.ref q)] Q
        refine m_invF (y := yiJ35_gallopRight) (rB := (RX9, TX9, 3)) [(.ref (p (a + t + o)))] dJ35_gallopRight_160 hqc rfl q1996 q1517 q1516 rfl q1535 q1537 q1538 q1536 q1534 q168 q1539 ⟨by decide, by decide⟩ (by show _ = some 1; decide +kernel) (c_cmp K 1 h rk q (p (a + t + o)) (by omega) hq0 (hA _ (by omega) (by omega)).2) pdX9_compareTo ⟨Nat.le_of_ble_eq_true rfl, by decide, by omega⟩ (kk_z fun r160 h160 q160 => ?_) kx_z
        obtain ⟨rfl, e160⟩ := q160
        have b160 := e160.2.2
        have n160 := hn (a + t + o) (by omega) (by omega)
        refine j_if_lt (y := yiJ35_gallopRight) 192 dJ35_gallopRight_165 (by decide) ⟨by omega, by omega⟩ (fun c165 => ?_) (fun c165 => ?_)
        · refine j_iload (y := yiJ35_gallopRight) dJ35_gallopRight_192 rfl ?_
          refine j_iload (y := yiJ35_gallopRight) dJ35_gallopRight_194 rfl ?_
          refine j_icmp_le (y := yiJ35_gallopRight) 203 dJ35_gallopRight_196 (by decide) ⟨⟨by omega, by omega⟩, ⟨by omega, by omega⟩⟩ (fun c196 => ?_) (fun c196 => ?_)
          · refine j_iload (y := yiJ35_gallopRight) dJ35_gallopRight_203 rfl ?_
            refine j_iload (y := yiJ35_gallopRight) dJ35_gallopRight_205 rfl ?_
            refine j_iadd (y := yiJ35_gallopRight) dJ35_gallopRight_207 ?_
            refine j_istore (y := yiJ35_gallopRight) [some (.ref q), some (.ref e), some (vi a), some (vi n), some (vi t), some (vi o), some (vi (lo + t)), some (vi (n - t)), none] dJ35_gallopRight_208 (by decide) rfl rfl ?_
            refine j_iload (y := yiJ35_gallopRight) dJ35_gallopRight_210 rfl ?_
            refine j_iload (y := yiJ35_gallopRight) dJ35_gallopRight_212 rfl ?_
            refine j_iadd (y := yiJ35_gallopRight) dJ35_gallopRight_214 ?_
            refine j_istore (y := yiJ35_gallopRight) [some (.ref q), some (.ref e), some (vi a), some (vi n), some (vi t), some (vi (o + t)), some (vi (lo + t)), some (vi (n - t)), none] dJ35_gallopRight_215 (by decide) rfl rfl ?_
            refine mw_forget 7 ?_
            exact J217 _ _ (by omega) (by first | exact hl1.c (by omega) | exact lo_0 (by omega) | exact lo_of (a + t - o) hs (by have := e73.1; have := e73.2.1; omega) ⟨by omega, by omega⟩ (by omega)) (by first | exact hl1.c (by omega) | exact hi_0 (by omega) | exact hi_of (a + t + o) hs (by have := e160.1; have := e160.2.1; omega) ⟨by omega, by omega⟩ (by omega))
          · refine j_iload (y := yiJ35_gallopRight) dJ35_gallopRight_199 rfl ?_
            refine j_istore (y := yiJ35_gallopRight) [some (.ref q), some (.ref e), some (vi a), some (vi n), some (vi t), some (vi (n - t)), some (vi lo), some (vi (n - t)), none] dJ35_gallopRight_201 (by decide) rfl rfl ?_
            refine j_iload (y := yiJ35_gallopRight) dJ35_gallopRight_203 rfl ?_
            refine j_iload (y := yiJ35_gallopRight) dJ35_gallopRight_205 rfl ?_
            refine j_iadd (y := yiJ35_gallopRight) dJ35_gallopRight_207 ?_
            refine j_istore (y := yiJ35_gallopRight) [some (.ref q), some (.ref e), some (vi a), some (vi n), some (vi t), some (vi (n - t)), some (vi (lo + t)), some (vi (n - t)), none] dJ35_gallopRight_208 (by decide) rfl rfl ?_
            refine j_iload (y := yiJ35_gallopRight) dJ35_gallopRight_210 rfl ?_
            refine j_iload (y := yiJ35_gallopRight) dJ35_gallopRight_212 rfl ?_
            refine j_iadd (y := yiJ35_gallopRight) dJ35_gallopRight_214 ?_
            refine j_istore (y := yiJ35_gallopRight) [some (.ref q), some (.ref e), some (vi a), some (vi n), some (vi t), some (vi ((n - t) + t)), some (vi (lo + t)), some (vi (n - t)), none] dJ35_gallopRight_215 (by decide) rfl rfl ?_
            refine mw_forget 7 ?_
            exact J217 _ _ (by omega) (by first | exact hl1.c (by omega) | exact lo_0 (by omega) | exact lo_of (a + t - o) hs (by have := e73.1; have := e73.2.1; omega) ⟨by omega, by omega⟩ (by omega)) (by first | exact hl1.c (by omega) | exact hi_0 (by omega) | exact hi_of (a + t + o) hs (by have := e160.1; have := e160.2.1; omega) ⟨by omega, by omega⟩ (by omega))
        · refine j_iload (y := yiJ35_gallopRight) dJ35_gallopRight_168 rfl ?_
          refine j_istore (y := yiJ35_gallopRight) [some (.ref q), some (.ref e), some (vi a), some (vi n), some (vi t), some (vi o), some (vi o), some (vi (n - t)), none] dJ35_gallopRight_170 (by decide) rfl rfl ?_
          refine j_iload (y := yiJ35_gallopRight) dJ35_gallopRight_172 rfl ?_
          refine j_iconst (y := yiJ35_gallopRight) dJ35_gallopRight_174 ?_
          refine j_ishlb (y := yiJ35_gallopRight) dJ35_gallopRight_175 ⟨by omega, by omega⟩ ?_
          refine j_iconst (y := yiJ35_gallopRight) dJ35_gallopRight_176 ?_
          refine j_iadd (y := yiJ35_gallopRight) dJ35_gallopRight_177 ?_
          refine j_istore (y := yiJ35_gallopRight) [some (.ref q), some (.ref e), some (vi a), some (vi n), some (vi t), some (vi ((2 * o) + 1)), some (vi o), some (vi (n - t)), none] dJ35_gallopRight_178 (by decide) rfl rfl ?_
          refine j_iload (y := yiJ35_gallopRight) dJ35_gallopRight_180 rfl ?_
          refine j_if_gt (y := yiJ35_gallopRight) 143 dJ35_gallopRight_182 (by decide) ⟨by omega, by omega⟩ (fun c182 => ?_) (fun c182 => False.elim (by omega))
          exact ih143 _ (by omega) _ _ rfl (by omega) (lo_of (a + t + o) hs (by have := e160.1; have := e160.2.1; omega) ⟨by omega, by omega⟩ (by omega))
    exact L143 _ 1 0 rfl (by omega) (lo_of (a + t) hs (by have := e42.1; have := e42.2.1; omega) ⟨by omega, by omega⟩ (by omega))
  · refine j_iload (y := yiJ35_gallopRight) dJ35_gallopRight_50 rfl ?_
    refine j_iconst (y := yiJ35_gallopRight) dJ35_gallopRight_52 ?_
    refine j_iadd (y := yiJ35_gallopRight) dJ35_gallopRight_53 ?_
    refine j_istore (y := yiJ35_gallopRight) [some (.ref q), some (.ref e), some (vi a), some (vi n), some (vi t), some (vi 1), some (vi 0), some (vi (t + 1)), none] dJ35_gallopRight_54 (by decide) rfl rfl ?_
    have L56 : ∀ (N : Nat) (o lo : Int), (t + 1 - o).toNat = N → (0 ≤ lo ∧ lo < o ∧ lo ≤ t ∧ o ≤ 200000) → (HiR rk p (rk q) a n (t - lo)) → MW K yiJ35_gallopRight d h 56 [some (.ref q), some (.ref e), some (vi a), some (vi n), some (vi t), some (vi o), some (vi lo), some (vi (t + 1)), none] [] Q := by
      intro N
      induction N using Nat.strongRecOn with
      | _ N ih56 =>
      intro o lo hN56 hl hl1
      refine j_iload (y := yiJ35_gallopRight) dJ35_gallopRight_56 rfl ?_
      refine j_iload (y := yiJ35_gallopRight) dJ35_gallopRight_58 rfl ?_
      refine j_icmp_ge (y := yiJ35_gallopRight) 105 dJ35_gallopRight_60 (by decide) ⟨⟨by omega, by omega⟩, ⟨by omega, by omega⟩⟩ (fun c60 => ?_) (fun c60 => ?_)
      · refine j_iload (y := yiJ35_gallopRight) dJ35_gallopRight_105 rfl ?_
        refine j_iload (y := yiJ35_gallopRight) dJ35_gallopRight_107 rfl ?_
        refine j_icmp_le (y := yiJ35_gallopRight) 116 dJ35_gallopRight_109 (by decide) ⟨⟨by omega, by omega⟩, ⟨by omega, by omega⟩⟩ (fun c109 => ?_) (fun c109 => ?_)
        · refine j_iload (y := yiJ35_gallopRight) dJ35_gallopRight_116 rfl ?_
          refine j_istore (y := yiJ35_gallopRight) [some (.ref q), some (.ref e), some (vi a), some (vi n), some (vi t), some (vi o), some (vi lo), some (vi (t + 1)), some (vi lo)] dJ35_gallopRight_118 (by decide) rfl rfl ?_
          refine j_iload (y := yiJ35_gallopRight) dJ35_gallopRight_120 rfl ?_
          refine j_iload (y := yiJ35_gallopRight) dJ35_gallopRight_122 rfl ?_
          refine j_isub (y := yiJ35_gallopRight) dJ35_gallopRight_124 ?_
          refine j_istore (y := yiJ35_gallopRight) [some (.ref q), some (.ref e), some (vi a), some (vi n), some (vi t), some (vi o), some (vi (t - o)), some (vi (t + 1)), some (vi lo)] dJ35_gallopRight_125 (by decide) rfl rfl ?_
          refine j_iload (y := yiJ35_gallopRight) dJ35_gallopRight_127 rfl ?_
          refine j_iload (y := yiJ35_gallopRight) dJ35_gallopRight_129 rfl ?_
          refine j_isub (y := yiJ35_gallopRight) dJ35_gallopRight_131 ?_
          refine j_istore (y := yiJ35_gallopRight) [some (.ref q), some (.ref e), some (vi a), some (vi n), some (vi t), some (vi (t - lo)), some (vi (t - o)), some (vi (t + 1)), some (vi lo)] dJ35_gallopRight_132 (by decide) rfl rfl ?_
          refine m_goto (y := yiJ35_gallopRight) 217 dJ35_gallopRight_134 (by decide) ?_
          refine mw_forget 7 ?_
          refine mw_forget 8 ?_
          exact J217 _ _ (by omega) (by first | exact hl1.c (by omega) | exact lo_0 (by omega) | exact lo_of (a + t - o) hs (by have := e73.1; have := e73.2.1; omega) ⟨by omega, by omega⟩ (by omega)) (by first | exact hl1.c (by omega) | exact hi_0 (by omega) | exact hi_of (a + t + o) hs (by have := e160.1; have := e160.2.1; omega) ⟨by omega, by omega⟩ (by omega))
        · refine j_iload (y := yiJ35_gallopRight) dJ35_gallopRight_112 rfl ?_
          refine j_istore (y := yiJ35_gallopRight) [some (.ref q), some (.ref e), some (vi a), some (vi n), some (vi t), some (vi (t + 1)), some (vi lo), some (vi (t + 1)), none] dJ35_gallopRight_114 (by decide) rfl rfl ?_
          refine j_iload (y := yiJ35_gallopRight) dJ35_gallopRight_116 rfl ?_
          refine j_istore (y := yiJ35_gallopRight) [some (.ref q), some (.ref e), some (vi a), some (vi n), some (vi t), some (vi (t + 1)), some (vi lo), some (vi (t + 1)), some (vi lo)] dJ35_gallopRight_118 (by decide) rfl rfl ?_
          refine j_iload (y := yiJ35_gallopRight) dJ35_gallopRight_120 rfl ?_
          refine j_iload (y := yiJ35_gallopRight) dJ35_gallopRight_122 rfl ?_
          refine j_isub (y := yiJ35_gallopRight) dJ35_gallopRight_124 ?_
          refine j_istore (y := yiJ35_gallopRight) [some (.ref q), some (.ref e), some (vi a), some (vi n), some (vi t), some (vi (t + 1)), some (vi (t - (t + 1))), some (vi (t + 1)), some (vi lo)] dJ35_gallopRight_125 (by decide) rfl rfl ?_
          refine j_iload (y := yiJ35_gallopRight) dJ35_gallopRight_127 rfl ?_
          refine j_iload (y := yiJ35_gallopRight) dJ35_gallopRight_129 rfl ?_
          refine j_isub (y := yiJ35_gallopRight) dJ35_gallopRight_131 ?_
          refine j_istore (y := yiJ35_gallopRight) [some (.ref q), some (.ref e), some (vi a), some (vi n), some (vi t), some (vi (t - lo)), some (vi (t - (t + 1))), some (vi (t + 1)), some (vi lo)] dJ35_gallopRight_132 (by decide) rfl rfl ?_
          refine m_goto (y := yiJ35_gallopRight) 217 dJ35_gallopRight_134 (by decide) ?_
          refine mw_forget 7 ?_
          refine mw_forget 8 ?_
          exact J217 _ _ (by omega) (by first | exact hl1.c (by omega) | exact lo_0 (by omega) | exact lo_of (a + t - o) hs (by have := e73.1; have := e73.2.1; omega) ⟨by omega, by omega⟩ (by omega)) (by first | exact hl1.c (by omega) | exact hi_0 (by omega) | exact hi_of (a + t + o) hs (by have := e160.1; have := e160.2.1; omega) ⟨by omega, by omega⟩ (by omega))
      · refine m_aload_n (y := yiJ35_gallopRight) dJ35_gallopRight_63 rfl ?_
        refine m_aload_n (y := yiJ35_gallopRight) dJ35_gallopRight_64 rfl ?_
        refine j_iload_n (y := yiJ35_gallopRight) dJ35_gallopRight_65 rfl ?_
        refine j_iload (y := yiJ35_gallopRight) dJ35_gallopRight_66 rfl ?_
        refine j_iadd (y := yiJ35_gallopRight) dJ35_gallopRight_68 ?_
        refine j_iload (y := yiJ35_gallopRight) dJ35_gallopRight_69 rfl ?_
        refine j_isub (y := yiJ35_gallopRight) dJ35_gallopRight_71 ?_
        refine h_aald5 (y := yiJ35_gallopRight) dJ35_gallopRight_72 he ⟨by omega, by omega⟩ (by omega) ?_
        rw [(hA (a + t - o) (by omega) (by omega)).1]
        show MW K yiJ35_gallopRight d h 73 [some (.ref q), some (.ref e), some (vi a), some (vi n), some (vi t), some (vi o), some (vi lo), some (vi (t + 1)), none] [(.ref (p (a + t - o))), (.ref q)] Q
        refine m_invF (y := yiJ35_gallopRight) (rB := (RX9, TX9, 3)) [(.ref (p (a + t - o)))] dJ35_gallopRight_73 hqc rfl q1996 q1517 q1516 rfl q1535 q1537 q1538 q1536 q1534 q168 q1539 ⟨by decide, by decide⟩ (by show _ = some 1; decide +kernel) (c_cmp K 1 h rk q (p (a + t - o)) (by omega) hq0 (hA _ (by omega) (by omega)).2) pdX9_compareTo ⟨Nat.le_of_ble_eq_true rfl, by decide, by omega⟩ (kk_z fun r73 h73 q73 => ?_) kx_z
        obtain ⟨rfl, e73⟩ := q73
        have b73 := e73.2.2
        have n73 := hn (a + t - o) (by omega) (by omega)
        refine j_if_ge (y := yiJ35_gallopRight) 105 dJ35_gallopRight_78 (by decide) ⟨by omega, by omega⟩ (fun c78 => ?_) (fun c78 => ?_)
        · refine j_iload (y := yiJ35_gallopRight) dJ35_gallopRight_105 rfl ?_
          refine j_iload (y := yiJ35_gallopRight) dJ35_gallopRight_107 rfl ?_
          refine j_icmp_le (y := yiJ35_gallopRight) 116 dJ35_gallopRight_109 (by decide) ⟨⟨by omega, by omega⟩, ⟨by omega, by omega⟩⟩ (fun c109 => ?_) (fun c109 => ?_)
          · refine j_iload (y := yiJ35_gallopRight) dJ35_gallopRight_116 rfl ?_
            refine j_istore (y := yiJ35_gallopRight) [some (.ref q), some (.ref e), some (vi a), some (vi n), some (vi t), some (vi o), some (vi lo), some (vi (t + 1)), some (vi lo)] dJ35_gallopRight_118 (by decide) rfl rfl ?_
            refine j_iload (y := yiJ35_gallopRight) dJ35_gallopRight_120 rfl ?_
            refine j_iload (y := yiJ35_gallopRight) dJ35_gallopRight_122 rfl ?_
            refine j_isub (y := yiJ35_gallopRight) dJ35_gallopRight_124 ?_
            refine j_istore (y := yiJ35_gallopRight) [some (.ref q), some (.ref e), some (vi a), some (vi n), some (vi t), some (vi o), some (vi (t - o)), some (vi (t + 1)), some (vi lo)] dJ35_gallopRight_125 (by decide) rfl rfl ?_
            refine j_iload (y := yiJ35_gallopRight) dJ35_gallopRight_127 rfl ?_
            refine j_iload (y := yiJ35_gallopRight) dJ35_gallopRight_129 rfl ?_
            refine j_isub (y := yiJ35_gallopRight) dJ35_gallopRight_131 ?_
            refine j_istore (y := yiJ35_gallopRight) [some (.ref q), some (.ref e), some (vi a), some (vi n), some (vi t), some (vi (t - lo)), some (vi (t - o)), some (vi (t + 1)), some (vi lo)] dJ35_gallopRight_132 (by decide) rfl rfl ?_
            refine m_goto (y := yiJ35_gallopRight) 217 dJ35_gallopRight_134 (by decide) ?_
            refine mw_forget 7 ?_
            refine mw_forget 8 ?_
            exact J217 _ _ (by omega) (by first | exact hl1.c (by omega) | exact lo_0 (by omega) | exact lo_of (a + t - o) hs (by have := e73.1; have := e73.2.1; omega) ⟨by omega, by omega⟩ (by omega)) (by first | exact hl1.c (by omega) | exact hi_0 (by omega) | exact hi_of (a + t + o) hs (by have := e160.1; have := e160.2.1; omega) ⟨by omega, by omega⟩ (by omega))
          · refine j_iload (y := yiJ35_gallopRight) dJ35_gallopRight_112 rfl ?_
            refine j_istore (y := yiJ35_gallopRight) [some (.ref q), some (.ref e), some (vi a), some (vi n), some (vi t), some (vi (t + 1)), some (vi lo), some (vi (t + 1)), none] dJ35_gallopRight_114 (by decide) rfl rfl ?_
            refine j_iload (y := yiJ35_gallopRight) dJ35_gallopRight_116 rfl ?_
            refine j_istore (y := yiJ35_gallopRight) [some (.ref q), some (.ref e), some (vi a), some (vi n), some (vi t), some (vi (t + 1)), some (vi lo), some (vi (t + 1)), some (vi lo)] dJ35_gallopRight_118 (by decide) rfl rfl ?_
            refine j_iload (y := yiJ35_gallopRight) dJ35_gallopRight_120 rfl ?_
            refine j_iload (y := yiJ35_gallopRight) dJ35_gallopRight_122 rfl ?_
            refine j_isub (y := yiJ35_gallopRight) dJ35_gallopRight_124 ?_
            refine j_istore (y := yiJ35_gallopRight) [some (.ref q), some (.ref e), some (vi a), some (vi n), some (vi t), some (vi (t + 1)), some (vi (t - (t + 1))), some (vi (t + 1)), some (vi lo)] dJ35_gallopRight_125 (by decide) rfl rfl ?_
            refine j_iload (y := yiJ35_gallopRight) dJ35_gallopRight_127 rfl ?_
            refine j_iload (y := yiJ35_gallopRight) dJ35_gallopRight_129 rfl ?_
            refine j_isub (y := yiJ35_gallopRight) dJ35_gallopRight_131 ?_
            refine j_istore (y := yiJ35_gallopRight) [some (.ref q), some (.ref e), some (vi a), some (vi n), some (vi t), some (vi (t - lo)), some (vi (t - (t + 1))), some (vi (t + 1)), some (vi lo)] dJ35_gallopRight_132 (by decide) rfl rfl ?_
            refine m_goto (y := yiJ35_gallopRight) 217 dJ35_gallopRight_134 (by decide) ?_
            refine mw_forget 7 ?_
            refine mw_forget 8 ?_
            exact J217 _ _ (by omega) (by first | exact hl1.c (by omega) | exact lo_0 (by omega) | exact lo_of (a + t - o) hs (by have := e73.1; have := e73.2.1; omega) ⟨by omega, by omega⟩ (by omega)) (by first | exact hl1.c (by omega) | exact hi_0 (by omega) | exact hi_of (a + t + o) hs (by have := e160.1; have := e160.2.1; omega) ⟨by omega, by omega⟩ (by omega))
        · refine j_iload (y := yiJ35_gallopRight) dJ35_gallopRight_81 rfl ?_
          refine j_istore (y := yiJ35_gallopRight) [some (.ref q), some (.ref e), some (vi a), some (vi n), some (vi t), some (vi o), some (vi o), some (vi (t + 1)), none] dJ35_gallopRight_83 (by decide) rfl rfl ?_
          refine j_iload (y := yiJ35_gallopRight) dJ35_gallopRight_85 rfl ?_
          refine j_iconst (y := yiJ35_gallopRight) dJ35_gallopRight_87 ?_
          refine j_ishlb (y := yiJ35_gallopRight) dJ35_gallopRight_88 ⟨by omega, by omega⟩ ?_
          refine j_iconst (y := yiJ35_gallopRight) dJ35_gallopRight_89 ?_
          refine j_iadd (y := yiJ35_gallopRight) dJ35_gallopRight_90 ?_
          refine j_istore (y := yiJ35_gallopRight) [some (.ref q), some (.ref e), some (vi a), some (vi n), some (vi t), some (vi ((2 * o) + 1)), some (vi o), some (vi (t + 1)), none] dJ35_gallopRight_91 (by decide) rfl rfl ?_
          refine j_iload (y := yiJ35_gallopRight) dJ35_gallopRight_93 rfl ?_
          refine j_if_gt (y := yiJ35_gallopRight) 56 dJ35_gallopRight_95 (by decide) ⟨by omega, by omega⟩ (fun c95 => ?_) (fun c95 => False.elim (by omega))
          exact ih56 _ (by omega) _ _ rfl (by omega) (hi_of (a + t - o) hs (by have := e73.1; have := e73.2.1; omega) ⟨by omega, by omega⟩ (by omega))
    exact L56 _ 1 0 rfl (by omega) (hi_of (a + t) hs (by have := e42.1; have := e42.2.1; omega) ⟨by omega, by omega⟩ (by omega))
theorem c_J35_gallopLeft (K : KT) (d : Nat) (h : MH) (rk : Nat → Int) (e cap q : Nat) (w : Bool) (a n t : Int) (f : Int → Option Nat) (p : Int → Nat) (hd : 3 ≤ d) (hB : kV K 12 = vi 1) (he : h.2.2 e = some (w, oaE K cap f)) (hA : RdA h rk f p a (a + n)) (hq : RdS h rk q) (hs : Asc rk p a (a + n)) (hn : ∀ i, a ≤ i → i < a + n → rk q ≠ rk (p i)) (hb : 0 ≤ a ∧ 0 < n ∧ a + n ≤ (cap : Int) ∧ cap ≤ 60000) (ht : 0 ≤ t ∧ t < n) : Mt K yiJ35_gallopLeft d [.ref q, .ref e, vi a, vi n, vi t] h (Rz fun v h' => h = h' ∧ (0 ≤ v ∧ v ≤ n) ∧ LoR rk p (rk q) a v ∧ HiR rk p (rk q) a n v) := by
  have hq0 := hq
  obtain ⟨ru, cs, ks, hqc⟩ := hq.cell
  refine mt_ofQ (by decide) (Nat.le_of_ble_eq_true rfl) (fun Q hQ => ?_)
  show MW K yiJ35_gallopLeft d h 0 [some (.ref q), some (.ref e), some (vi a), some (vi n), some (vi t), none, none, none, none] [] Q
  refine mw_wf (fun hwf => ?_)
  have l_he := hwf _ _ he
  have l_hqc := hwf _ _ hqc
  refine m_gets (y := yiJ35_gallopLeft) (ref := "") 12 rfl dJ35_gallopLeft_0 q1989 hB ?_
  refine j_if_ne (y := yiJ35_gallopLeft) 29 dJ35_gallopLeft_3 (by decide) ⟨by decide, by decide⟩ (fun _ => ?_) (fun c => absurd c (by decide))
  have J217 : ∀ (L R : Int), (-1 ≤ L ∧ L < R ∧ R ≤ n) → (LoR rk p (rk q) a (L + 1)) → (HiR rk p (rk q) a n R) → MW K yiJ35_gallopLeft d h 217 [some (.ref q), some (.ref e), some (vi a), some (vi n), some (vi t), some (vi L), some (vi R), none, none] [] Q := by
    intro L R hj hj1 hj2
    refine m_gets (y := yiJ35_gallopLeft) (ref := "") 12 rfl dJ35_gallopLeft_217 q1989 hB ?_
    refine j_if_ne (y := yiJ35_gallopLeft) 250 dJ35_gallopLeft_220 (by decide) ⟨by decide, by decide⟩ (fun _ => ?_) (fun c => absurd c (by decide))
    refine j_iinc (y := yiJ35_gallopLeft) [some (.ref q), some (.ref e), some (vi a), some (vi n), some (vi t), some (vi (L + 1)), some (vi R), none, none] dJ35_gallopLeft_250 rfl (by decide) rfl rfl ?_
    have L253 : ∀ (N : Nat) (l r : Int), (r - l).toNat = N → (0 ≤ l ∧ l ≤ r ∧ r ≤ n) → (LoR rk p (rk q) a l) → (HiR rk p (rk q) a n r) → MW K yiJ35_gallopLeft d h 253 [some (.ref q), some (.ref e), some (vi a), some (vi n), some (vi t), some (vi l), some (vi r), none, none] [] Q := by
      intro N
      induction N using Nat.strongRecOn with
      | _ N ih253 =>
      intro l r hN253 hm hm1 hm2
      refine j_iload (y := yiJ35_gallopLeft) dJ35_gallopLeft_253 rfl ?_
      refine j_iload (y := yiJ35_gallopLeft) dJ35_gallopLeft_255 rfl ?_
      refine j_icmp_ge (y := yiJ35_gallopLeft) 303 dJ35_gallopLeft_257 (by decide) ⟨⟨by omega, by omega⟩, ⟨by omega, by omega⟩⟩ (fun c257 => ?_) (fun c257 => ?_)
      · refine m_gets (y := yiJ35_gallopLeft) (ref := "") 12 rfl dJ35_gallopLeft_303 q1989 hB ?_
        refine j_if_ne (y := yiJ35_gallopLeft) 324 dJ35_gallopLeft_306 (by decide) ⟨by decide, by decide⟩ (fun _ => ?_) (fun c => absurd c (by decide))
        refine j_iload (y := yiJ35_gallopLeft) dJ35_gallopLeft_324 rfl ?_
        subst hQ; exact j_iret (y := yiJ35_gallopLeft) dJ35_gallopLeft_326 rfl (⟨rfl, ⟨by omega, by omega⟩, hm1.c (by omega), hm2.c (by omega)⟩)
      · refine j_iload (y := yiJ35_gallopLeft) dJ35_gallopLeft_260 rfl ?_
        refine j_iload (y := yiJ35_gallopLeft) dJ35_gallopLeft_262 rfl ?_
        refine j_iload (y := yiJ35_gallopLeft) dJ35_gallopLeft_264 rfl ?_
        refine j_isub (y := yiJ35_gallopLeft) dJ35_gallopLeft_266 ?_
        refine j_iconst (y := yiJ35_gallopLeft) dJ35_gallopLeft_267 ?_
        refine j_iushr1 (y := yiJ35_gallopLeft) dJ35_gallopLeft_268 ⟨by omega, by omega⟩ ?_
        refine j_iadd (y := yiJ35_gallopLeft) dJ35_gallopLeft_269 ?_
        refine j_istore (y := yiJ35_gallopLeft) [some (.ref q), some (.ref e), some (vi a), some (vi n), some (vi t), some (vi l), some (vi r), some (vi (l + ((r - l) / 2))), none] dJ35_gallopLeft_270 (by decide) rfl rfl ?_
        refine m_aload_n (y := yiJ35_gallopLeft) dJ35_gallopLeft_272 rfl ?_
        refine m_aload_n (y := yiJ35_gallopLeft) dJ35_gallopLeft_273 rfl ?_
        refine j_iload_n (y := yiJ35_gallopLeft) dJ35_gallopLeft_274 rfl ?_
        refine j_iload (y := yiJ35_gallopLeft) dJ35_gallopLeft_275 rfl ?_
        refine j_iadd (y := yiJ35_gallopLeft) dJ35_gallopLeft_277 ?_
        refine h_aald5 (y := yiJ35_gallopLeft) dJ35_gallopLeft_278 he ⟨by omega, by omega⟩ (by omega) ?_
        rw [(hA (a + (l + (r - l) / 2)) (by omega) (by omega)).1]
        show MW K yiJ35_gallopLeft d h 279 [some (.ref q), some (.ref e), some (vi a), some (vi n), some (vi t), some (vi l), some (vi r), some (vi (l + ((r - l) / 2))), none] [(.ref (p (a + (l + (r - l) / 2)))), (.ref q)] Q
        refine m_invF (y := yiJ35_gallopLeft) (rB := (RX9, TX9, 3)) [(.ref (p (a + (l + (r - l) / 2))))] dJ35_gallopLeft_279 hqc rfl q1996 q1517 q1516 rfl q1535 q1537 q1538 q1536 q1534 q168 q1539 ⟨by decide, by decide⟩ (by show _ = some 1; decide +kernel) (c_cmp K 1 h rk q (p (a + (l + (r - l) / 2))) (by omega) hq0 (hA _ (by omega) (by omega)).2) pdX9_compareTo ⟨Nat.le_of_ble_eq_true rfl, by decide, by omega⟩ (kk_z fun r279 h279 q279 => ?_) kx_z
        obtain ⟨rfl, e279⟩ := q279
        have b279 := e279.2.2
        have n279 := hn (a + (l + (r - l) / 2)) (by omega) (by omega)
        refine j_if_le (y := yiJ35_gallopLeft) 296 dJ35_gallopLeft_284 (by decide) ⟨by omega, by omega⟩ (fun c284 => ?_) (fun c284 => ?_)
        · refine j_iload (y := yiJ35_gallopLeft) dJ35_gallopLeft_296 rfl ?_
          refine j_istore (y := yiJ35_gallopLeft) [some (.ref q), some (.ref e), some (vi a), some (vi n), some (vi t), some (vi l), some (vi (l + ((r - l) / 2))), some (vi (l + ((r - l) / 2))), none] dJ35_gallopLeft_298 (by decide) rfl rfl ?_
          refine m_goto (y := yiJ35_gallopLeft) 253 dJ35_gallopLeft_300 (by decide) ?_
          refine mw_forget 7 ?_
          exact ih253 _ (by omega) _ _ rfl (by omega) (by first | exact hm1 | exact lo_of (a + (l + (r - l) / 2)) hs (by have := e279.1; have := e279.2.1; omega) ⟨by omega, by omega⟩ (by omega)) (by first | exact hm2 | exact hi_of (a + (l + (r - l) / 2)) hs (by have := e279.1; have := e279.2.1; omega) ⟨by omega, by omega⟩ (by omega))
        · refine j_iload (y := yiJ35_gallopLeft) dJ35_gallopLeft_287 rfl ?_
          refine j_iconst (y := yiJ35_gallopLeft) dJ35_gallopLeft_289 ?_
          refine j_iadd (y := yiJ35_gallopLeft) dJ35_gallopLeft_290 ?_
          refine j_istore (y := yiJ35_gallopLeft) [some (.ref q), some (.ref e), some (vi a), some (vi n), some (vi t), some (vi ((l + ((r - l) / 2)) + 1)), some (vi r), some (vi (l + ((r - l) / 2))), none] dJ35_gallopLeft_291 (by decide) rfl rfl ?_
          refine m_goto (y := yiJ35_gallopLeft) 300 dJ35_gallopLeft_293 (by decide) ?_
          refine m_goto (y := yiJ35_gallopLeft) 253 dJ35_gallopLeft_300 (by decide) ?_
          refine mw_forget 7 ?_
          exact ih253 _ (by omega) _ _ rfl (by omega) (by first | exact hm1 | exact lo_of (a + (l + (r - l) / 2)) hs (by have := e279.1; have := e279.2.1; omega) ⟨by omega, by omega⟩ (by omega)) (by first | exact hm2 | exact hi_of (a + (l + (r - l) / 2)) hs (by have := e279.1; have := e279.2.1; omega) ⟨by omega, by omega⟩ (by omega))
    exact L253 _ (L + 1) R rfl (by omega) hj1 hj2
  refine j_iconst (y := yiJ35_gallopLeft) dJ35_gallopLeft_29 ?_
  refine j_istore (y := yiJ35_gallopLeft) [some (.ref q), some (.ref e), some (vi a), some (vi n), some (vi t), some (vi 0), none, none, none] dJ35_gallopLeft_30 (by decide) rfl rfl ?_
  refine j_iconst (y := yiJ35_gallopLeft) dJ35_gallopLeft_32 ?_
  refine j_istore (y := yiJ35_gallopLeft) [some (.ref q), some (.ref e), some (vi a), some (vi n), some (vi t), some (vi 0), some (vi 1), none, none] dJ35_gallopLeft_33 (by decide) rfl rfl ?_
  refine m_aload_n (y := yiJ35_gallopLeft) dJ35_gallopLeft_35 rfl ?_
  refine m_aload_n (y := yiJ35_gallopLeft) dJ35_gallopLeft_36 rfl ?_
  refine j_iload_n (y := yiJ35_gallopLeft) dJ35_gallopLeft_37 rfl ?_
  refine j_iload (y := yiJ35_gallopLeft) dJ35_gallopLeft_38 rfl ?_
  refine j_iadd (y := yiJ35_gallopLeft) dJ35_gallopLeft_40 ?_
  refine h_aald5 (y := yiJ35_gallopLeft) dJ35_gallopLeft_41 he ⟨by omega, by omega⟩ (by omega) ?_
  rw [(hA (a + t) (by omega) (by omega)).1]
  show MW K yiJ35_gallopLeft d h 42 [some (.ref q), some (.ref e), some (vi a), some (vi n), some (vi t), some (vi 0), some (vi 1), none, none] [(.ref (p (a + t))), (.ref q)] Q
  refine m_invF (y := yiJ35_gallopLeft) (rB := (RX9, TX9, 3)) [(.ref (p (a + t)))] dJ35_gallopLeft_42 hqc rfl q1996 q1517 q1516 rfl q1535 q1537 q1538 q1536 q1534 q168 q1539 ⟨by decide, by decide⟩ (by show _ = some 1; decide +kernel) (c_cmp K 1 h rk q (p (a + t)) (by omega) hq0 (hA _ (by omega) (by omega)).2) pdX9_compareTo ⟨Nat.le_of_ble_eq_true rfl, by decide, by omega⟩ (kk_z fun r42 h42 q42 => ?_) kx_z
  obtain ⟨rfl, e42⟩ := q42
  have b42 := e42.2.2
  have n42 := hn (a + t) (by omega) (by omega)
  refine j_if_le (y := yiJ35_gallopLeft) 133 dJ35_gallopLeft_47 (by decide) ⟨by omega, by omega⟩ (fun c47 => ?_) (fun c47 => ?_)
  · refine j_iload (y := yiJ35_gallopLeft) dJ35_gallopLeft_133 rfl ?_
    refine j_iconst (y := yiJ35_gallopLeft) dJ35_gallopLeft_135 ?_
    refine j_iadd (y := yiJ35_gallopLeft) dJ35_gallopLeft_136 ?_
    refine j_istore (y := yiJ35_gallopLeft) [some (.ref q), some (.ref e), some (vi a), some (vi n), some (vi t), some (vi 0), some (vi 1), some (vi (t + 1)), none] dJ35_gallopLeft_137 (by decide) rfl rfl ?_
    have L139 : ∀ (N : Nat) (o lo : Int), (t + 1 - o).toNat = N → (0 ≤ lo ∧ lo < o ∧ lo ≤ t ∧ o ≤ 200000) → (HiR rk p (rk q) a n (t - lo)) → MW K yiJ35_gallopLeft d h 139 [some (.ref q), some (.ref e), some (vi a), some (vi n), some (vi t), some (vi lo), some (vi o), some (vi (t + 1)), none] [] Q := by
      intro N
      induction N using Nat.strongRecOn with
      | _ N ih139 =>
      intro o lo hN139 hl hl1
      refine j_iload (y := yiJ35_gallopLeft) dJ35_gallopLeft_139 rfl ?_
      refine j_iload (y := yiJ35_gallopLeft) dJ35_gallopLeft_141 rfl ?_
      refine j_icmp_ge (y := yiJ35_gallopLeft) 188 dJ35_gallopLeft_143 (by decide) ⟨⟨by omega, by omega⟩, ⟨by omega, by omega⟩⟩ (fun c143 => ?_) (fun c143 => ?_)
      · refine j_iload (y := yiJ35_gallopLeft) dJ35_gallopLeft_188 rfl ?_
        refine j_iload (y := yiJ35_gallopLeft) dJ35_gallopLeft_190 rfl ?_
        refine j_icmp_le (y := yiJ35_gallopLeft) 199 dJ35_gallopLeft_192 (by decide) ⟨⟨by omega, by omega⟩, ⟨by omega, by omega⟩⟩ (fun c192 => ?_) (fun c192 => ?_)
        · refine j_iload (y := yiJ35_gallopLeft) dJ35_gallopLeft_199 rfl ?_
          refine j_istore (y := yiJ35_gallopLeft) [some (.ref q), some (.ref e), some (vi a), some (vi n), some (vi t), some (vi lo), some (vi o), some (vi (t + 1)), some (vi lo)] dJ35_gallopLeft_201 (by decide) rfl rfl ?_
          refine j_iload (y := yiJ35_gallopLeft) dJ35_gallopLeft_203 rfl ?_
          refine j_iload (y := yiJ35_gallopLeft) dJ35_gallopLeft_205 rfl ?_
          refine j_isub (y := yiJ35_gallopLeft) dJ35_gallopLeft_207 ?_
          refine j_istore (y := yiJ35_gallopLeft) [some (.ref q), some (.ref e), some (vi a), some (vi n), some (vi t), some (vi (t - o)), some (vi o), some (vi (t + 1)), some (vi lo)] dJ35_gallopLeft_208 (by decide) rfl rfl ?_
          refine j_iload (y := yiJ35_gallopLeft) dJ35_gallopLeft_210 rfl ?_
          refine j_iload (y := yiJ35_gallopLeft) dJ35_gallopLeft_212 rfl ?_
          refine j_isub (y := yiJ35_gallopLeft) dJ35_gallopLeft_214 ?_
          refine j_istore (y := yiJ35_gallopLeft) [some (.ref q), some (.ref e), some (vi a), some (vi n), some (vi t), some (vi (t - o)), some (vi (t - lo)), some (vi (t + 1)), some (vi lo)] dJ35_gallopLeft_215 (by decide) rfl rfl ?_
          refine mw_forget 7 ?_
          refine mw_forget 8 ?_
          exact J217 _ _ (by omega) (by first | exact hl1.c (by omega) | exact lo_0 (by omega) | exact lo_of (a + t - o) hs (by have := e156.1; have := e156.2.1; omega) ⟨by omega, by omega⟩ (by omega)) (by first | exact hl1.c (by omega) | exact hi_0 (by omega) | exact hi_of (a + t + o) hs (by have := e73.1; have := e73.2.1; omega) ⟨by omega, by omega⟩ (by omega))
        · refine j_iload (y := yiJ35_gallopLeft) dJ35_gallopLeft_195 rfl ?_
          refine j_istore (y := yiJ35_gallopLeft) [some (.ref q), some (.ref e), some (vi a), some (vi n), some (vi t), some (vi lo), some (vi (t + 1)), some (vi (t + 1)), none] dJ35_gallopLeft_197 (by decide) rfl rfl ?_
          refine j_iload (y := yiJ35_gallopLeft) dJ35_gallopLeft_199 rfl ?_
          refine j_istore (y := yiJ35_gallopLeft) [some (.ref q), some (.ref e), some (vi a), some (vi n), some (vi t), some (vi lo), some (vi (t + 1)), some (vi (t + 1)), some (vi lo)] dJ35_gallopLeft_201 (by decide) rfl rfl ?_
          refine j_iload (y := yiJ35_gallopLeft) dJ35_gallopLeft_203 rfl ?_
          refine j_iload (y := yiJ35_gallopLeft) dJ35_gallopLeft_205 rfl ?_
          refine j_isub (y := yiJ35_gallopLeft) dJ35_gallopLeft_207 ?_
          refine j_istore (y := yiJ35_gallopLeft) [some (.ref q), some (.ref e), some (vi a), some (vi n), some (vi t), some (vi (t - (t + 1))), some (vi (t + 1)), some (vi (t + 1)), some (vi lo)] dJ35_gallopLeft_208 (by decide) rfl rfl ?_
          refine j_iload (y := yiJ35_gallopLeft) dJ35_gallopLeft_210 rfl ?_
          refine j_iload (y := yiJ35_gallopLeft) dJ35_gallopLeft_212 rfl ?_
          refine j_isub (y := yiJ35_gallopLeft) dJ35_gallopLeft_214 ?_
          refine j_istore (y := yiJ35_gallopLeft) [some (.ref q), some (.ref e), some (vi a), some (vi n), some (vi t), some (vi (t - (t + 1))), some (vi (t - lo)), some (vi (t + 1)), some (vi lo)] dJ35_gallopLeft_215 (by decide) rfl rfl ?_
          refine mw_forget 7 ?_
          refine mw_forget 8 ?_
          exact J217 _ _ (by omega) (by first | exact hl1.c (by omega) | exact lo_0 (by omega) | exact lo_of (a + t - o) hs (by have := e156.1; have := e156.2.1; omega) ⟨by omega, by omega⟩ (by omega)) (by first | exact hl1.c (by omega) | exact hi_0 (by omega) | exact hi_of (a + t + o) hs (by have := e73.1; have := e73.2.1; omega) ⟨by omega, by omega⟩ (by omega))
      · refine m_aload_n (y := yiJ35_gallopLeft) dJ35_gallopLeft_146 rfl ?_
        refine m_aload_n (y := yiJ35_gallopLeft) dJ35_gallopLeft_147 rfl ?_
        refine j_iload_n (y := yiJ35_gallopLeft) dJ35_gallopLeft_148 rfl ?_
        refine j_iload (y := yiJ35_gallopLeft) dJ35_gallopLeft_149 rfl ?_
        refine j_iadd (y := yiJ35_gallopLeft) dJ35_gallopLeft_151 ?_
        refine j_iload (y := yiJ35_gallopLeft) dJ35_gallopLeft_152 rfl ?_
        refine j_isub (y := yiJ35_gallopLeft) dJ35_gallopLeft_154 ?_
        refine h_aald5 (y := yiJ35_gallopLeft) dJ35_gallopLeft_155 he ⟨by omega, by omega⟩ (by omega) ?_
        rw [(hA (a + t - o) (by omega) (by omega)).1]
        show MW K yiJ35_gallopLeft d h 156 [some (.ref q), some (.ref e), some (vi a), some (vi n), some (vi t), some (vi lo), some (vi o), some (vi (t + 1)), none] [(.ref (p (a + t - o))), (.ref q)] Q
        refine m_invF (y := yiJ35_gallopLeft) (rB := (RX9, TX9, 3)) [(.ref (p (a + t - o)))] dJ35_gallopLeft_156 hqc rfl q1996 q1517 q1516 rfl q1535 q1537 q1538 q1536 q1534 q168 q1539 ⟨by decide, by decide⟩ (by show _ = some 1; decide +kernel) (c_cmp K 1 h rk q (p (a + t - o)) (by omega) hq0 (hA _ (by omega) (by omega)).2) pdX9_compareTo ⟨Nat.le_of_ble_eq_true rfl, by decide, by omega⟩ (kk_z fun r156 h156 q156 => ?_) kx_z
        obtain ⟨rfl, e156⟩ := q156
        have b156 := e156.2.2
        have n156 := hn (a + t - o) (by omega) (by omega)
        refine j_if_gt (y := yiJ35_gallopLeft) 188 dJ35_gallopLeft_161 (by decide) ⟨by omega, by omega⟩ (fun c161 => ?_) (fun c161 => ?_)
        · refine j_iload (y := yiJ35_gallopLeft) dJ35_gallopLeft_188 rfl ?_
          refine j_iload (y := yiJ35_gallopLeft) dJ35_gallopLeft_190 rfl ?_
          refine j_icmp_le (y := yiJ35_gallopLeft) 199 dJ35_gallopLeft_192 (by decide) ⟨⟨by omega, by omega⟩, ⟨by omega, by omega⟩⟩ (fun c192 => ?_) (fun c192 => ?_)
          · refine j_iload (y := yiJ35_gallopLeft) dJ35_gallopLeft_199 rfl ?_
            refine j_istore (y := yiJ35_gallopLeft) [some (.ref q), some (.ref e), some (vi a), some (vi n), some (vi t), some (vi lo), some (vi o), some (vi (t + 1)), some (vi lo)] dJ35_gallopLeft_201 (by decide) rfl rfl ?_
            refine j_iload (y := yiJ35_gallopLeft) dJ35_gallopLeft_203 rfl ?_
            refine j_iload (y := yiJ35_gallopLeft) dJ35_gallopLeft_205 rfl ?_
            refine j_isub (y := yiJ35_gallopLeft) dJ35_gallopLeft_207 ?_
            refine j_istore (y := yiJ35_gallopLeft) [some (.ref q), some (.ref e), some (vi a), some (vi n), some (vi t), some (vi (t - o)), some (vi o), some (vi (t + 1)), some (vi lo)] dJ35_gallopLeft_208 (by decide) rfl rfl ?_
            refine j_iload (y := yiJ35_gallopLeft) dJ35_gallopLeft_210 rfl ?_
            refine j_iload (y := yiJ35_gallopLeft) dJ35_gallopLeft_212 rfl ?_
            refine j_isub (y := yiJ35_gallopLeft) dJ35_gallopLeft_214 ?_
            refine j_istore (y := yiJ35_gallopLeft) [some (.ref q), some (.ref e), some (vi a), some (vi n), some (vi t), some (vi (t - o)), some (vi (t - lo)), some (vi (t + 1)), some (vi lo)] dJ35_gallopLeft_215 (by decide) rfl rfl ?_
            refine mw_forget 7 ?_
            refine mw_forget 8 ?_
            exact J217 _ _ (by omega) (by first | exact hl1.c (by omega) | exact lo_0 (by omega) | exact lo_of (a + t - o) hs (by have := e156.1; have := e156.2.1; omega) ⟨by omega, by omega⟩ (by omega)) (by first | exact hl1.c (by omega) | exact hi_0 (by omega) | exact hi_of (a + t + o) hs (by have := e73.1; have := e73.2.1; omega) ⟨by omega, by omega⟩ (by omega))
          · refine j_iload (y := yiJ35_gallopLeft) dJ35_gallopLeft_195 rfl ?_
            refine j_istore (y := yiJ35_gallopLeft) [some (.ref q), some (.ref e), some (vi a), some (vi n), some (vi t), some (vi lo), some (vi (t + 1)), some (vi (t + 1)), none] dJ35_gallopLeft_197 (by decide) rfl rfl ?_
            refine j_iload (y := yiJ35_gallopLeft) dJ35_gallopLeft_199 rfl ?_
            refine j_istore (y := yiJ35_gallopLeft) [some (.ref q), some (.ref e), some (vi a), some (vi n), some (vi t), some (vi lo), some (vi (t + 1)), some (vi (t + 1)), some (vi lo)] dJ35_gallopLeft_201 (by decide) rfl rfl ?_
            refine j_iload (y := yiJ35_gallopLeft) dJ35_gallopLeft_203 rfl ?_
            refine j_iload (y := yiJ35_gallopLeft) dJ35_gallopLeft_205 rfl ?_
            refine j_isub (y := yiJ35_gallopLeft) dJ35_gallopLeft_207 ?_
            refine j_istore (y := yiJ35_gallopLeft) [some (.ref q), some (.ref e), some (vi a), some (vi n), some (vi t), some (vi (t - (t + 1))), some (vi (t + 1)), some (vi (t + 1)), some (vi lo)] dJ35_gallopLeft_208 (by decide) rfl rfl ?_
            refine j_iload (y := yiJ35_gallopLeft) dJ35_gallopLeft_210 rfl ?_
            refine j_iload (y := yiJ35_gallopLeft) dJ35_gallopLeft_212 rfl ?_
            refine j_isub (y := yiJ35_gallopLeft) dJ35_gallopLeft_214 ?_
            refine j_istore (y := yiJ35_gallopLeft) [some (.ref q), some (.ref e), some (vi a), some (vi n), some (vi t), some (vi (t - (t + 1))), some (vi (t - lo)), some (vi (t + 1)), some (vi lo)] dJ35_gallopLeft_215 (by decide) rfl rfl ?_
            refine mw_forget 7 ?_
            refine mw_forget 8 ?_
            exact J217 _ _ (by omega) (by first | exact hl1.c (by omega) | exact lo_0 (by omega) | exact lo_of (a + t - o) hs (by have := e156.1; have := e156.2.1; omega) ⟨by omega, by omega⟩ (by omega)) (by first | exact hl1.c (by omega) | exact hi_0 (by omega) | exact hi_of (a + t + o) hs (by have := e73.1; have := e73.2.1; omega) ⟨by omega, by omega⟩ (by omega))
        · refine j_iload (y := yiJ35_gallopLeft) dJ35_gallopLeft_164 rfl ?_
          refine j_istore (y := yiJ35_gallopLeft) [some (.ref q), some (.ref e), some (vi a), some (vi n), some (vi t), some (vi o), some (vi o), some (vi (t + 1)), none] dJ35_gallopLeft_166 (by decide) rfl rfl ?_
          refine j_iload (y := yiJ35_gallopLeft) dJ35_gallopLeft_168 rfl ?_
          refine j_iconst (y := yiJ35_gallopLeft) dJ35_gallopLeft_170 ?_
          refine j_ishlb (y := yiJ35_gallopLeft) dJ35_gallopLeft_171 ⟨by omega, by omega⟩ ?_
          refine j_iconst (y := yiJ35_gallopLeft) dJ35_gallopLeft_172 ?_
          refine j_iadd (y := yiJ35_gallopLeft) dJ35_gallopLeft_173 ?_
          refine j_istore (y := yiJ35_gallopLeft) [some (.ref q), some (.ref e), some (vi a), some (vi n), some (vi t), some (vi o), some (vi ((2 * o) + 1)), some (vi (t + 1)), none] dJ35_gallopLeft_174 (by decide) rfl rfl ?_
          refine j_iload (y := yiJ35_gallopLeft) dJ35_gallopLeft_176 rfl ?_
          refine j_if_gt (y := yiJ35_gallopLeft) 139 dJ35_gallopLeft_178 (by decide) ⟨by omega, by omega⟩ (fun c178 => ?_) (fun c178 => False.elim (by omega))
          exact ih139 _ (by omega) _ _ rfl (by omega) (hi_of (a + t - o) hs (by have := e156.1; have := e156.2.1; omega) ⟨by omega, by omega⟩ (by omega))
    exact L139 _ 1 0 rfl (by omega) (hi_of (a + t) hs (by have := e42.1; have := e42.2.1; omega) ⟨by omega, by omega⟩ (by omega))
  · refine j_iload_n (y := yiJ35_gallopLeft) dJ35_gallopLeft_50 rfl ?_
    refine j_iload (y := yiJ35_gallopLeft) dJ35_gallopLeft_51 rfl ?_
    refine j_isub (y := yiJ35_gallopLeft) dJ35_gallopLeft_53 ?_
    refine j_istore (y := yiJ35_gallopLeft) [some (.ref q), some (.ref e), some (vi a), some (vi n), some (vi t), some (vi 0), some (vi 1), some (vi (n - t)), none] dJ35_gallopLeft_54 (by decide) rfl rfl ?_
    have L56 : ∀ (N : Nat) (o lo : Int), (n - t - o).toNat = N → (0 ≤ lo ∧ lo < o ∧ t + lo < n ∧ o ≤ 200000) → (LoR rk p (rk q) a (t + lo + 1)) → MW K yiJ35_gallopLeft d h 56 [some (.ref q), some (.ref e), some (vi a), some (vi n), some (vi t), some (vi lo), some (vi o), some (vi (n - t)), none] [] Q := by
      intro N
      induction N using Nat.strongRecOn with
      | _ N ih56 =>
      intro o lo hN56 hl hl1
      refine j_iload (y := yiJ35_gallopLeft) dJ35_gallopLeft_56 rfl ?_
      refine j_iload (y := yiJ35_gallopLeft) dJ35_gallopLeft_58 rfl ?_
      refine j_icmp_ge (y := yiJ35_gallopLeft) 105 dJ35_gallopLeft_60 (by decide) ⟨⟨by omega, by omega⟩, ⟨by omega, by omega⟩⟩ (fun c60 => ?_) (fun c60 => ?_)
      · refine j_iload (y := yiJ35_gallopLeft) dJ35_gallopLeft_105 rfl ?_
        refine j_iload (y := yiJ35_gallopLeft) dJ35_gallopLeft_107 rfl ?_
        refine j_icmp_le (y := yiJ35_gallopLeft) 116 dJ35_gallopLeft_109 (by decide) ⟨⟨by omega, by omega⟩, ⟨by omega, by omega⟩⟩ (fun c109 => ?_) (fun c109 => ?_)
        · refine j_iload (y := yiJ35_gallopLeft) dJ35_gallopLeft_116 rfl ?_
          refine j_iload (y := yiJ35_gallopLeft) dJ35_gallopLeft_118 rfl ?_
          refine j_iadd (y := yiJ35_gallopLeft) dJ35_gallopLeft_120 ?_
          refine j_istore (y := yiJ35_gallopLeft) [some (.ref q), some (.ref e), some (vi a), some (vi n), some (vi t), some (vi (lo + t)), some (vi o), some (vi (n - t)), none] dJ35_gallopLeft_121 (by decide) rfl rfl ?_
          refine j_iload (y := yiJ35_gallopLeft) dJ35_gallopLeft_123 rfl ?_
          refine j_iload (y := yiJ35_gallopLeft) dJ35_gallopLeft_125 rfl ?_
          refine j_iadd (y := yiJ35_gallopLeft) dJ35_gallopLeft_127 ?_
          refine j_istore (y := yiJ35_gallopLeft) [some (.ref q), some (.ref e), some (vi a), some (vi n), some (vi t), some (vi (lo + t)), some (vi (o + t)), some (vi (n - t)), none] dJ35_gallopLeft_128 (by decide) rfl rfl ?_
          refine m_goto (y := yiJ35_gallopLeft) 217 dJ35_gallopLeft_130 (by decide) ?_
          refine mw_forget 7 ?_
          exact J217 _ _ (by omega) (by first | exact hl1.c (by omega) | exact lo_0 (by omega) | exact lo_of (a + t - o) hs (by have := e156.1; have := e156.2.1; omega) ⟨by omega, by omega⟩ (by omega)) (by first | exact hl1.c (by omega) | exact hi_0 (by omega) | exact hi_of (a + t + o) hs (by have := e73.1; have := e73.2.1; omega) ⟨by omega, by omega⟩ (by omega))
        · refine j_iload (y := yiJ35_gallopLeft) dJ35_gallopLeft_112 rfl ?_
          refine j_istore (y := yiJ35_gallopLeft) [some (.ref q), some (.ref e), some (vi a), some (vi n), some (vi t), some (vi lo), some (vi (n - t)), some (vi (n - t)), none] dJ35_gallopLeft_114 (by decide) rfl rfl ?_
          refine j_iload (y := yiJ35_gallopLeft) dJ35_gallopLeft_116 rfl ?_
          refine j_iload (y := yiJ35_gallopLeft) dJ35_gallopLeft_118 rfl ?_
          refine j_iadd (y := yiJ35_gallopLeft) dJ35_gallopLeft_120 ?_
          refine j_istore (y := yiJ35_gallopLeft) [some (.ref q), some (.ref e), some (vi a), some (vi n), some (vi t), some (vi (lo + t)), some (vi (n - t)), some (vi (n - t)), none] dJ35_gallopLeft_121 (by decide) rfl rfl ?_
          refine j_iload (y := yiJ35_gallopLeft) dJ35_gallopLeft_123 rfl ?_
          refine j_iload (y := yiJ35_gallopLeft) dJ35_gallopLeft_125 rfl ?_
          refine j_iadd (y := yiJ35_gallopLeft) dJ35_gallopLeft_127 ?_
          refine j_istore (y := yiJ35_gallopLeft) [some (.ref q), some (.ref e), some (vi a), some (vi n), some (vi t), some (vi (lo + t)), some (vi ((n - t) + t)), some (vi (n - t)), none] dJ35_gallopLeft_128 (by decide) rfl rfl ?_
          refine m_goto (y := yiJ35_gallopLeft) 217 dJ35_gallopLeft_130 (by decide) ?_
          refine mw_forget 7 ?_
          exact J217 _ _ (by omega) (by first | exact hl1.c (by omega) | exact lo_0 (by omega) | exact lo_of (a + t - o) hs (by have := e156.1; have := e156.2.1; omega) ⟨by omega, by omega⟩ (by omega)) (by first | exact hl1.c (by omega) | exact hi_0 (by omega) | exact hi_of (a + t + o) hs (by have := e73.1; have := e73.2.1; omega) ⟨by omega, by omega⟩ (by omega))
      · refine m_aload_n (y := yiJ35_gallopLeft) dJ35_gallopLeft_63 rfl ?_
        refine m_aload_n (y := yiJ35_gallopLeft) dJ35_gallopLeft_64 rfl ?_
        refine j_iload_n (y := yiJ35_gallopLeft) dJ35_gallopLeft_65 rfl ?_
        refine j_iload (y := yiJ35_gallopLeft) dJ35_gallopLeft_66 rfl ?_
        refine j_iadd (y := yiJ35_gallopLeft) dJ35_gallopLeft_68 ?_
        refine j_iload (y := yiJ35_gallopLeft) dJ35_gallopLeft_69 rfl ?_
        refine j_iadd (y := yiJ35_gallopLeft) dJ35_gallopLeft_71 ?_
        refine h_aald5 (y := yiJ35_gallopLeft) dJ35_gallopLeft_72 he ⟨by omega, by omega⟩ (by omega) ?_
        rw [(hA (a + t + o) (by omega) (by omega)).1]
        show MW K yiJ35_gallopLeft d h 73 [some (.ref q), some (.ref e), some (vi a), some (vi n), some (vi t), some (vi lo), some (vi o), some (vi (n - t)), none] [(.ref (p (a + t + o))), (.ref q)] Q
        refine m_invF (y := yiJ35_gallopLeft) (rB := (RX9, TX9, 3)) [(.ref (p (a + t + o)))] dJ35_gallopLeft_73 hqc rfl q1996 q1517 q1516 rfl q1535 q1537 q1538 q1536 q1534 q168 q1539 ⟨by decide, by decide⟩ (by show _ = some 1; decide +kernel) (c_cmp K 1 h rk q (p (a + t + o)) (by omega) hq0 (hA _ (by omega) (by omega)).2) pdX9_compareTo ⟨Nat.le_of_ble_eq_true rfl, by decide, by omega⟩ (kk_z fun r73 h73 q73 => ?_) kx_z
        obtain ⟨rfl, e73⟩ := q73
        have b73 := e73.2.2
        have n73 := hn (a + t + o) (by omega) (by omega)
        refine j_if_le (y := yiJ35_gallopLeft) 105 dJ35_gallopLeft_78 (by decide) ⟨by omega, by omega⟩ (fun c78 => ?_) (fun c78 => ?_)
        · refine j_iload (y := yiJ35_gallopLeft) dJ35_gallopLeft_105 rfl ?_
          refine j_iload (y := yiJ35_gallopLeft) dJ35_gallopLeft_107 rfl ?_
          refine j_icmp_le (y := yiJ35_gallopLeft) 116 dJ35_gallopLeft_109 (by decide) ⟨⟨by omega, by omega⟩, ⟨by omega, by omega⟩⟩ (fun c109 => ?_) (fun c109 => ?_)
          · refine j_iload (y := yiJ35_gallopLeft) dJ35_gallopLeft_116 rfl ?_
            refine j_iload (y := yiJ35_gallopLeft) dJ35_gallopLeft_118 rfl ?_
            refine j_iadd (y := yiJ35_gallopLeft) dJ35_gallopLeft_120 ?_
            refine j_istore (y := yiJ35_gallopLeft) [some (.ref q), some (.ref e), some (vi a), some (vi n), some (vi t), some (vi (lo + t)), some (vi o), some (vi (n - t)), none] dJ35_gallopLeft_121 (by decide) rfl rfl ?_
            refine j_iload (y := yiJ35_gallopLeft) dJ35_gallopLeft_123 rfl ?_
            refine j_iload (y := yiJ35_gallopLeft) dJ35_gallopLeft_125 rfl ?_
            refine j_iadd (y := yiJ35_gallopLeft) dJ35_gallopLeft_127 ?_
            refine j_istore (y := yiJ35_gallopLeft) [some (.ref q), some (.ref e), some (vi a), some (vi n), some (vi t), some (vi (lo + t)), some (vi (o + t)), some (vi (n - t)), none] dJ35_gallopLeft_128 (by decide) rfl rfl ?_
            refine m_goto (y := yiJ35_gallopLeft) 217 dJ35_gallopLeft_130 (by decide) ?_
            refine mw_forget 7 ?_
            exact J217 _ _ (by omega) (by first | exact hl1.c (by omega) | exact lo_0 (by omega) | exact lo_of (a + t - o) hs (by have := e156.1; have := e156.2.1; omega) ⟨by omega, by omega⟩ (by omega)) (by first | exact hl1.c (by omega) | exact hi_0 (by omega) | exact hi_of (a + t + o) hs (by have := e73.1; have := e73.2.1; omega) ⟨by omega, by omega⟩ (by omega))
          · refine j_iload (y := yiJ35_gallopLeft) dJ35_gallopLeft_112 rfl ?_
            refine j_istore (y := yiJ35_gallopLeft) [some (.ref q), some (.ref e), some (vi a), some (vi n), some (vi t), some (vi lo), some (vi (n - t)), some (vi (n - t)), none] dJ35_gallopLeft_114 (by decide) rfl rfl ?_
            refine j_iload (y := yiJ35_gallopLeft) dJ35_gallopLeft_116 rfl ?_
            refine j_iload (y := yiJ35_gallopLeft) dJ35_gallopLeft_118 rfl ?_
            refine j_iadd (y := yiJ35_gallopLeft) dJ35_gallopLeft_120 ?_
            refine j_istore (y := yiJ35_gallopLeft) [some (.ref q), some (.ref e), some (vi a), some (vi n), some (vi t), some (vi (lo + t)), some (vi (n - t)), some (vi (n - t)), none] dJ35_gallopLeft_121 (by decide) rfl rfl ?_
            refine j_iload (y := yiJ35_gallopLeft) dJ35_gallopLeft_123 rfl ?_
            refine j_iload (y := yiJ35_gallopLeft) dJ35_gallopLeft_125 rfl ?_
            refine j_iadd (y := yiJ35_gallopLeft) dJ35_gallopLeft_127 ?_
            refine j_istore (y := yiJ35_gallopLeft) [some (.ref q), some (.ref e), some (vi a), some (vi n), some (vi t), some (vi (lo + t)), some (vi ((n - t) + t)), some (vi (n - t)), none] dJ35_gallopLeft_128 (by decide) rfl rfl ?_
            refine m_goto (y := yiJ35_gallopLeft) 217 dJ35_gallopLeft_130 (by decide) ?_
            refine mw_forget 7 ?_
            exact J217 _ _ (by omega) (by first | exact hl1.c (by omega) | exact lo_0 (by omega) | exact lo_of (a + t - o) hs (by have := e156.1; have := e156.2.1; omega) ⟨by omega, by omega⟩ (by omega)) (by first | exact hl1.c (by omega) | exact hi_0 (by omega) | exact hi_of (a + t + o) hs (by have := e73.1; have := e73.2.1; omega) ⟨by omega, by omega⟩ (by omega))
        · refine j_iload (y := yiJ35_gallopLeft) dJ35_gallopLeft_81 rfl ?_
          refine j_istore (y := yiJ35_gallopLeft) [some (.ref q), some (.ref e), some (vi a), some (vi n), some (vi t), some (vi o), some (vi o), some (vi (n - t)), none] dJ35_gallopLeft_83 (by decide) rfl rfl ?_
          refine j_iload (y := yiJ35_gallopLeft) dJ35_gallopLeft_85 rfl ?_
          refine j_iconst (y := yiJ35_gallopLeft) dJ35_gallopLeft_87 ?_
          refine j_ishlb (y := yiJ35_gallopLeft) dJ35_gallopLeft_88 ⟨by omega, by omega⟩ ?_
          refine j_iconst (y := yiJ35_gallopLeft) dJ35_gallopLeft_89 ?_
          refine j_iadd (y := yiJ35_gallopLeft) dJ35_gallopLeft_90 ?_
          refine j_istore (y := yiJ35_gallopLeft) [some (.ref q), some (.ref e), some (vi a), some (vi n), some (vi t), some (vi o), some (vi ((2 * o) + 1)), some (vi (n - t)), none] dJ35_gallopLeft_91 (by decide) rfl rfl ?_
          refine j_iload (y := yiJ35_gallopLeft) dJ35_gallopLeft_93 rfl ?_
          refine j_if_gt (y := yiJ35_gallopLeft) 56 dJ35_gallopLeft_95 (by decide) ⟨by omega, by omega⟩ (fun c95 => ?_) (fun c95 => False.elim (by omega))
          exact ih56 _ (by omega) _ _ rfl (by omega) (lo_of (a + t + o) hs (by have := e73.1; have := e73.2.1; omega) ⟨by omega, by omega⟩ (by omega))
    exact L56 _ 1 0 rfl (by omega) (lo_of (a + t) hs (by have := e42.1; have := e42.2.1; omega) ⟨by omega, by omega⟩ (by omega))
