/-! ===== PLAIN: a count down that ends below 0; colours ===== -/
def pmi (q : Nat) : Int32 := nI q + (-1)
theorem pmi_s (q : Nat) : pmi (q + 1) = nI q := pk_m1 q
theorem pmi_0 : pmi 0 = -1 := by decide
theorem pmi_p {q : Nat} (h : 1 ≤ q) : nI (q - 1) = pmi q := by
  obtain ⟨z, rfl⟩ : ∃ z, q = z + 1 := ⟨q - 1, by omega⟩
  rw [pmi_s]
  rfl
theorem pmi_n {q : Nat} (h : ¬ pmi q < 0) : ∃ z, q = z + 1 := by
  cases q with
  | zero => exact absurd (by rw [pmi_0]; decide) h
  | succ z => exact ⟨z, rfl⟩
theorem pmi_z {q : Nat} (hq : q < 2 ^ 31) (h : pmi q < 0) : q = 0 := by
  cases q with
  | zero => rfl
  | succ z =>
    rw [pmi_s] at h
    exact absurd h (nI_pos (by omega))
theorem mWrong_ext {M : nMem} {f g : Nat → Int32} (hT : ∀ k, k < mN M 20 → mA M 21 k < mN M 15 → mA M 22 k < mN M 1 → f (mTop M (mN M 1) (mA M 21 k) (mA M 22 k)) = g (mTop M (mN M 1) (mA M 21 k) (mA M 22 k))) : mWrong M f = mWrong M g := by
  refine cntb_cong (fun k hk => ?_)
  unfold mBad
  by_cases a : mN M 15 ≤ mA M 21 k
  · rw [decide_eq_true a, Bool.true_or, Bool.true_or]
  · by_cases b : mN M 1 ≤ mA M 22 k
    · rw [decide_eq_true b, Bool.true_or, Bool.true_or]
    · rw [hT k hk (by omega) (by omega)]
theorem mWrong_fr {S : List Nat} {M M2 : nMem} {f : Nat → Int32} (h : mFr S M M2) (hS : 1 ∉ S ∧ 15 ∉ S ∧ 18 ∉ S ∧ 19 ∉ S ∧ 20 ∉ S ∧ 21 ∉ S ∧ 22 ∉ S ∧ 23 ∉ S) : mWrong M2 f = mWrong M f := by
  obtain ⟨s1, s15, s18, s19, s20, s21, s22, s23⟩ := hS
  have eT : ∀ n r p, mTop M2 n r p = mTop M n r p := fun n r p => by unfold mTop mA; rw [h 18 s18, h 19 s19]
  have eB : mBad M2 f = mBad M f := by
    funext i
    unfold mBad mN mA
    rw [h 15 s15, h 1 s1, h 21 s21, h 22 s22, h 23 s23, eT]
  unfold mWrong mN
  rw [eB, h 20 s20]
theorem lst2_s {w : Nat → Nat} {b k x y : Nat} (h : lst2 w b k = (x, y)) : lst2 w b (k + 1) = if w k < x then (w k, k) else (x, y) := by
  conv => lhs; unfold lst2
  rw [h]
/-- how many things are wrong with the k-th colouring -/
def mGW (M : nMem) (c k : Nat) : Nat := mWrong M (fun p => nI (gsk c (mN M 1) k p))
def o_colours (c what : Int32) (M : nMem) : Int32 × nMem :=
  if nrg what (-1) (nI (mN M 1) - nI 1) = false then (-1, M) else if nrg c (nI 1) (nI 4) = false then (-2, M) else if mN M 15 = 0 then (-3, M) else if 6 < mN M 1 then (-3, M)
  else (if what = -1 then nI (lst2 (mGW M c.toNatClampNeg) 1000 (c.toNatClampNeg ^ mN M 1)).1 else nI (gsk c.toNatClampNeg (mN M 1) (lst2 (mGW M c.toNatClampNeg) 1000 (c.toNatClampNeg ^ mN M 1)).2 what.toNatClampNeg), M)
theorem lst2_le {w : Nat → Nat} {b : Nat} : ∀ k, (lst2 w b k).1 ≤ b
  | 0 => Nat.le_refl b
  | k + 1 => by
    unfold lst2
    have := lst2_le (w := w) (b := b) k
    split
    · show w k ≤ b; omega
    · exact this
/-- the i-th byte of the k lowest, the highest first -/
def byt (b : Int32) (k i : Nat) : Int32 := (b >>> (nI (8 * (k - 1 - i)) &&& 31)).toInt8.toInt32
def o_feed (b k : Int32) (M : nMem) : Int32 × nMem :=
  if nrg k (nI 0) (nI 4) = false then (-2, M) else if 80 < mN M 27 + k.toNatClampNeg then (-4, M)
  else (nI (mN M 27 + k.toNatClampNeg), mset (mset M 30 (blk (M 30) (mN M 27) k.toNatClampNeg (byt b k.toNatClampNeg))) 27 (fun _ => nI (mN M 27 + k.toNatClampNeg)))
