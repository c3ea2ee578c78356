/-! ===== PLAIN LAWS of ranges and indices ===== -/
/-- an index that lies within n -/
def nin (p : Int32) (n : Nat) : Bool := decide (0 ≤ p.toInt ∧ p.toInt < n)
/-- a value between two -/
def nrg (v lo hi : Int32) : Bool := decide (lo.toInt ≤ v.toInt ∧ v.toInt ≤ hi.toInt)
theorem nrg_t {v lo hi : Int32} (h1 : ¬ v < lo) (h2 : ¬ hi < v) : nbo (nrg v lo hi) = nI 1 := by
  rw [Int32.lt_iff_toInt_lt] at h1 h2
  rw [show nrg v lo hi = true from decide_eq_true ⟨by omega, by omega⟩]
  rfl
theorem nrg_f1 {v lo hi : Int32} (h1 : v < lo) : nbo (nrg v lo hi) = nI 0 := by
  rw [Int32.lt_iff_toInt_lt] at h1
  rw [show nrg v lo hi = false from decide_eq_false (fun h => by omega)]
  rfl
theorem nrg_f2 {v lo hi : Int32} (h1 : hi < v) : nbo (nrg v lo hi) = nI 0 := by
  rw [Int32.lt_iff_toInt_lt] at h1
  rw [show nrg v lo hi = false from decide_eq_false (fun h => by omega)]
  rfl
theorem nrg_nn {v : Int32} {a b : Nat} (ha : a < 2 ^ 31) (hb : b < 2 ^ 31) : nrg v (nI a) (nI b) = true ↔ ∃ j, a ≤ j ∧ j ≤ b ∧ v = nI j := by
  unfold nrg
  rw [decide_eq_true_iff, nI_toInt ha, nI_toInt hb]
  constructor
  · rintro ⟨h1, h2⟩
    obtain ⟨j, hj, rfl⟩ := nI_of (x := v) (by rw [Int32.lt_iff_toInt_lt, Int32.toInt_zero]; omega)
    rw [nI_toInt hj] at h1 h2
    exact ⟨j, by omega, by omega, rfl⟩
  · rintro ⟨j, h1, h2, rfl⟩
    rw [nI_toInt (by omega)]
    omega
theorem nrg_nnF {v : Int32} {a b : Nat} (ha : a < 2 ^ 31) (hb : b < 2 ^ 31) : nrg v (nI a) (nI b) = false ↔ ∀ j, a ≤ j → j ≤ b → v ≠ nI j := by
  rw [← Bool.not_eq_true, nrg_nn ha hb]
  exact ⟨fun h j h1 h2 e => h ⟨j, h1, h2, e⟩, fun h ⟨j, h1, h2, e⟩ => h j h1 h2 e⟩
theorem nrg_m {v : Int32} {b : Nat} (hb : b < 2 ^ 31) : nrg v (-1) (nI b) = true ↔ v = -1 ∨ ∃ j, j ≤ b ∧ v = nI j := by
  unfold nrg
  rw [decide_eq_true_iff, nI_toInt hb, show (-1 : Int32).toInt = -1 from by decide]
  constructor
  · rintro ⟨h1, h2⟩
    by_cases h : v.toInt = -1
    · left
      apply Int32.toInt_inj.mp
      rw [h]; decide
    · right
      obtain ⟨j, hj, rfl⟩ := nI_of (x := v) (by rw [Int32.lt_iff_toInt_lt, Int32.toInt_zero]; omega)
      rw [nI_toInt hj] at h2
      exact ⟨j, by omega, rfl⟩
  · rintro (rfl | ⟨j, h1, rfl⟩)
    · rw [show (-1 : Int32).toInt = -1 from by decide]; omega
    · rw [nI_toInt (by omega)]; omega
/-- 0 .. n - 1, as the code says it -/
theorem nI_m1T {n : Nat} (hn : n < 2 ^ 31) : (nI n - nI 1).toInt = (n : Int) - 1 := by
  by_cases h : n < 2 ^ 30
  · exact pk_sub_toInt h (by decide)
  · rw [pk_sub (by omega), nI_toInt (by omega)]; omega
theorem nrg_in {v : Int32} {n : Nat} (hn : n < 2 ^ 31) : nrg v (nI 0) (nI n - nI 1) = nin v n := by
  unfold nrg nin
  rw [nI_m1T hn, nI_toInt (by decide)]
  congr 1
  apply propext
  omega
theorem nrg_inm {v : Int32} {n : Nat} (hn : n < 2 ^ 31) : nrg v (-1) (nI n - nI 1) = true ↔ v = -1 ∨ ∃ j, j < n ∧ v = nI j := by
  unfold nrg
  rw [decide_eq_true_iff, nI_m1T hn, show (-1 : Int32).toInt = -1 from by decide]
  constructor
  · rintro ⟨h1, h2⟩
    by_cases h : v.toInt = -1
    · left
      apply Int32.toInt_inj.mp
      rw [h]; decide
    · right
      obtain ⟨j, hj, rfl⟩ := nI_of (x := v) (by rw [Int32.lt_iff_toInt_lt, Int32.toInt_zero]; omega)
      rw [nI_toInt hj] at h2
      exact ⟨j, by omega, rfl⟩
  · rintro (rfl | ⟨j, h1, rfl⟩)
    · rw [show (-1 : Int32).toInt = -1 from by decide]; omega
    · rw [nI_toInt (by omega)]; omega
theorem nin_t {v : Int32} {n : Nat} (hn : n < 2 ^ 31) : nin v n = true ↔ ∃ j, j < n ∧ v = nI j := by
  unfold nin
  rw [decide_eq_true_iff]
  constructor
  · rintro ⟨h1, h2⟩
    obtain ⟨j, hj, rfl⟩ := nI_of (x := v) (by rw [Int32.lt_iff_toInt_lt, Int32.toInt_zero]; omega)
    rw [nI_toInt hj] at h2
    exact ⟨j, by omega, rfl⟩
  · rintro ⟨j, h1, rfl⟩
    rw [nI_toInt (by omega)]; omega
theorem nin_nI {j n : Nat} (hj : j < 2 ^ 31) : nin (nI j) n = decide (j < n) := by
  unfold nin
  rw [nI_toInt hj]
  congr 1
  apply propext
  omega
theorem nI_inj {a b : Nat} (ha : a < 2 ^ 31) (hb : b < 2 ^ 31) (h : nI a = nI b) : a = b := (nI_eq ha hb).mp h
/-- a call of the reference that changes nothing, its answer known -/
def mPure (na : nA) (h : nH) (M : nMem) (v : Int32) : Int32 → nA → nH → Prop := fun r na' h' => v = r ∧ na = na' ∧ mPut na h M = h'
/-- a call of the reference: its answer and its memory behind, by a relation -/
def mRel (na : nA) (h : nH) (P : Int32 → nMem → Prop) : Int32 → nA → nH → Prop := fun r na' h' => na = na' ∧ ∃ M2, mPut na h M2 = h' ∧ P r M2
def mRelV (na : nA) (h : nH) (P : nMem → Prop) : nA → nH → Prop := fun na' h' => na = na' ∧ ∃ M2, mPut na h M2 = h' ∧ P M2
/-! ===== THE REFERENCE's memory, plainly ===== -/
def mN (M : nMem) (k : Nat) : Nat := (M k 0).toNatClampNeg
def mA (M : nMem) (k i : Nat) : Nat := (M k i).toNatClampNeg
def mB (M : nMem) (k : Nat) : Bool := decide (M k 0 ≠ 0)
theorem mN_of {M : nMem} {k n : Nat} (h : M k 0 = nI n) (hn : n < 2 ^ 31) : mN M k = n := by unfold mN; rw [h, nI_clamp hn]
theorem mA_of {M : nMem} {k i n : Nat} (h : M k i = nI n) (hn : n < 2 ^ 31) : mA M k i = n := by unfold mA; rw [h, nI_clamp hn]
theorem mB_of {M : nMem} {k : Nat} {b : Bool} (h : M k 0 = nbo b) : mB M k = b := by unfold mB; rw [h]; cases b <;> decide
/-- names outside S are as they were -/
def mFr (S : List Nat) (M M2 : nMem) : Prop := ∀ k, k ∉ S → M2 k = M k
theorem mFr.rf {S : List Nat} {M : nMem} : mFr S M M := fun _ _ => rfl
theorem mFr.set {S : List Nat} {M M2 : nMem} {k : Nat} {f : Nat → Int32} (hk : k ∈ S) (h : mFr S M M2) : mFr S M (mset M2 k f) := fun j hj => by
  rw [mset_n (fun e : j = k => hj (by rw [e]; exact hk))]
  exact h j hj
theorem mFr.trans {S T : List Nat} {M M2 M3 : nMem} (hS : ∀ k ∈ S, k ∈ T) (h : mFr S M M2) (h2 : mFr T M2 M3) : mFr T M M3 := fun k hk => (h2 k hk).trans (h k fun z => hk (hS k z))
theorem mFr.cmp {S T U : List Nat} {M M2 M3 : nMem} (hS : ∀ k ∈ S, k ∈ U) (hT : ∀ k ∈ T, k ∈ U) (h : mFr S M M2) (h2 : mFr T M2 M3) : mFr U M M3 := fun k hk => (h2 k fun z => hk (hT k z)).trans (h k fun z => hk (hS k z))
theorem mN_fr {S : List Nat} {M M2 : nMem} {k : Nat} (h : mFr S M M2) (hk : k ∉ S) : mN M2 k = mN M k := by unfold mN; rw [h k hk]
theorem mA_fr {S : List Nat} {M M2 : nMem} {k i : Nat} (h : mFr S M M2) (hk : k ∉ S) : mA M2 k i = mA M k i := by unfold mA; rw [h k hk]
theorem mFr.wk {S T : List Nat} {M M2 : nMem} (hS : ∀ k ∈ S, k ∈ T) (h : mFr S M M2) : mFr T M M2 := fun k hk => h k fun z => hk (hS k z)
/-- filled up to i -/
def fil (g b : Nat → Int32) (i : Nat) : Nat → Int32 := fun p => if p < i then g p else b p
theorem fil_0 (g b : Nat → Int32) : fil g b 0 = b := by funext p; unfold fil; rw [if_neg (Nat.not_lt_zero p)]
theorem fil_u {g b : Nat → Int32} {i : Nat} {x : Int32} (hx : x = g i) : upd (fil g b i) i x = fil g b (i + 1) := by
  funext p
  unfold upd fil
  by_cases e : p = i
  · subst e
    rw [if_pos rfl, if_pos (Nat.lt_succ_self _), hx]
  · rw [if_neg e]
    by_cases l : p < i
    · rw [if_pos l, if_pos (by omega)]
    · rw [if_neg l, if_neg (by omega)]
theorem fil_lt {g b : Nat → Int32} {i p : Nat} (h : p < i) : fil g b i p = g p := by unfold fil; rw [if_pos h]
theorem fil_ge {g b : Nat → Int32} {i p : Nat} (h : i ≤ p) : fil g b i p = b p := by unfold fil; rw [if_neg (by omega)]
/-- names that no answer depends on -/
def mScr : List Nat := [12, 13, 24, 25, 31, 32, 33, 34, 35, 36, 37, 38, 39, 40, 41, 42, 43, 44, 45, 46, 47, 48, 49, 50, 51, 52, 53, 54, 60]
/-- the same in all that answers depend on -/
def mEq (M M2 : nMem) : Prop := (∀ k, k ∉ mScr → k ≠ 28 → k ≠ 29 → mIsA k = true → M k = M2 k) ∧ (∀ k, k ∉ mScr → M k 0 = M2 k 0) ∧ (∀ i, i < 10 → M 28 i = M2 28 i) ∧ ∀ i, i < 3000 → M 29 i = M2 29 i
theorem mEq.rf {M : nMem} : mEq M M := ⟨fun _ _ _ _ _ => rfl, fun _ _ => rfl, fun _ _ => rfl, fun _ _ => rfl⟩
theorem mEq.of {M M2 : nMem} (h : M = M2) : mEq M M2 := h ▸ mEq.rf
theorem mEq.mk3 {M M2 : nMem} (h : ∀ k, k ∉ mScr → k ≠ 28 → k ≠ 29 → M k = M2 k) (h28 : ∀ i, i < 10 → M 28 i = M2 28 i) (h29 : ∀ i, i < 3000 → M 29 i = M2 29 i) : mEq M M2 :=
  ⟨fun k a b c _ => h k a b c, fun k a => by
    by_cases e : k = 28
    · subst e; exact h28 0 (by decide)
    · by_cases e2 : k = 29
      · subst e2; exact h29 0 (by decide)
      · rw [h k a e e2], h28, h29⟩
theorem mEq.symm {M M2 : nMem} (h : mEq M M2) : mEq M2 M := ⟨fun k a b c d => (h.1 k a b c d).symm, fun k a => (h.2.1 k a).symm, fun i a => (h.2.2.1 i a).symm, fun i a => (h.2.2.2 i a).symm⟩
theorem mEq.trans {M M2 M3 : nMem} (h : mEq M M2) (g : mEq M2 M3) : mEq M M3 := ⟨fun k a b c d => (h.1 k a b c d).trans (g.1 k a b c d), fun k a => (h.2.1 k a).trans (g.2.1 k a), fun i a => (h.2.2.1 i a).trans (g.2.2.1 i a), fun i a => (h.2.2.2 i a).trans (g.2.2.2 i a)⟩
theorem mEq.fr {S : List Nat} {M M2 : nMem} (hS : ∀ k ∈ S, k ∈ mScr) (h : mFr S M M2) : mEq M2 M :=
  mEq.mk3 (fun k a _ _ => h k fun z => a (hS k z)) (fun i _ => by rw [h 28 fun z => absurd (hS 28 z) (by decide)]) (fun i _ => by rw [h 29 fun z => absurd (hS 29 z) (by decide)])
/-- a call of the reference that answers and leaves what o says -/
def mOp (na : nA) (h : nH) (o : Int32 × nMem) : Int32 → nA → nH → Prop := fun r na' h' => na = na' ∧ o.1 = r ∧ ∃ M2, mPut na h M2 = h' ∧ mEq M2 o.2
/-- the same, its memory exactly so -/
def mOpE (na : nA) (h : nH) (o : Int32 × nMem) : Int32 → nA → nH → Prop := fun r na' h' => na = na' ∧ o.1 = r ∧ ∃ M2, mPut na h M2 = h' ∧ M2 = o.2
/-- a step's number -/
def stp (s : Nat) : Prop := s = 100 ∨ s = 101 ∨ (s < 100 ∧ s % 10 ≤ 1)
theorem stp_lt {s : Nat} (h : stp s) : s < 102 := by unfold stp at h; omega
/-- what holds of the reference's memory between the law's calls -/
def mInv (M : nMem) : Prop :=
  (M 0 0 = nI (mN M 0) ∧ mN M 0 ≤ 15) ∧ (M 1 0 = nI (mN M 1) ∧ (mN M 1 = 0 ∨ 3 ≤ mN M 1) ∧ mN M 1 ≤ 9) ∧ (M 11 0 = nbo (mB M 11) ∧ (mB M 11 = true → 3 ≤ mN M 1)) ∧
  (M 14 0 = nI (mN M 14) ∧ mN M 14 ≤ 300) ∧ (M 15 0 = nI (mN M 15) ∧ mN M 15 ≤ 100 ∧ (mN M 15 ≠ 0 → 3 ≤ mN M 1)) ∧ (M 20 0 = nI (mN M 20) ∧ mN M 20 ≤ 40) ∧ (M 26 0 = nI (mN M 26) ∧ mN M 26 ≤ 10) ∧ (M 27 0 = nI (mN M 27) ∧ mN M 27 ≤ 80) ∧ (M 55 0 = nI (mN M 55) ∧ mN M 55 ≤ 1000) ∧
  (∀ i, i < mN M 0 → (M 2 i = nI (mA M 2 i) ∧ mA M 2 i ≤ 4) ∧ (M 3 i = nI (mA M 3 i) ∧ 1 ≤ mA M 3 i ∧ mA M 3 i ≤ 20) ∧ (M 4 i = nI (mA M 4 i) ∧ 1 ≤ mA M 4 i ∧ mA M 4 i ≤ 9)) ∧
  (∀ p, p < mN M 1 → M 6 p = nI (mA M 6 p) ∧ mA M 6 p < mN M 1) ∧ (∀ p q, p < mN M 1 → q < mN M 1 → mA M 6 p = mA M 6 q → p = q) ∧ (mB M 11 = false → ∀ p, p < mN M 1 → mA M 6 p = p) ∧
  (∀ r p, r < mN M 15 → p < mN M 1 → M 18 (9 * r + p) = nI (mA M 18 (9 * r + p)) ∧ mA M 18 (9 * r + p) < mN M 1) ∧
  (∀ k, k < mN M 20 → (M 21 k = nI (mA M 21 k) ∧ mA M 21 k < 100) ∧ (M 22 k = nI (mA M 22 k) ∧ mA M 22 k < 9)) ∧
  (∀ f, f < mN M 26 → M 28 f = nI (mA M 28 f) ∧ mA M 28 f ≤ 300) ∧ (∀ f k, f < mN M 26 → k < mA M 28 f → M 29 (300 * f + k) = nI (mA M 29 (300 * f + k)) ∧ stp (mA M 29 (300 * f + k))) ∧
  (∀ i, i < mN M 14 → M 16 i = nI (mA M 16 i) ∧ stp (mA M 16 i) ∧ (mA M 16 i < 100 → mA M 16 i / 10 < mN M 1)) ∧
  (∀ t, t < 6 → (M 57 t = -1 ∨ ∃ c, c ≤ 4 ∧ M 57 t = nI c) ∧ M 58 t = nI (mA M 58 t) ∧ mA M 58 t ≤ 60)
