/-! ===== PLAIN: acts, tapes ===== -/
theorem sw_c {x : Int32} {n : Nat} (h : ¬ (x.toInt < 0 ∨ (n : Int) < x.toInt)) : ∃ j, j ≤ n ∧ x = nI j := by
  obtain ⟨j, hj, rfl⟩ := nI_of (x := x) (by rw [Int32.lt_iff_toInt_lt, Int32.toInt_zero]; omega)
  rw [nI_toInt hj] at h
  exact ⟨j, by omega, rfl⟩
def bd1 (M : nMem) (b : Nat) : nMem := mset (mset M 56 (if mN M 55 < 20 then upd (M 56) (mN M 55) (nI b) else M 56)) 55 (fun _ => nI (mN M 55 + 1))
def bds (l : List Nat) (M : nMem) : nMem := l.foldl bd1 M
theorem bds_app (a b : List Nat) (M : nMem) : bds (a ++ b) M = bds b (bds a M) := List.foldl_append
theorem bds_fr : ∀ (l : List Nat) (M : nMem), mFr [55, 56] M (bds l M)
  | [], M => mFr.rf
  | a :: l, M => mFr.trans (fun _ h => h) (mFr.set (by decide) (mFr.set (by decide) mFr.rf)) (bds_fr l (bd1 M a))
theorem bd1_n {M : nMem} {b : Nat} (hb : mN M 55 ≤ 1000) : mN (bd1 M b) 55 = mN M 55 + 1 := mN_of rfl (by omega)
theorem bds_n : ∀ {l : List Nat} {M : nMem}, M 55 0 = nI (mN M 55) → mN M 55 + l.length ≤ 1000 → bds l M 55 0 = nI (mN M 55 + l.length) ∧ mN (bds l M) 55 = mN M 55 + l.length
  | [], M, h, hb => ⟨h, rfl⟩
  | a :: l, M, h, hb => by
    rw [List.length_cons] at hb
    have e := bd1_n (M := M) (b := a) (by omega)
    obtain ⟨q1, q2⟩ := bds_n (l := l) (M := bd1 M a) (by rw [e]; rfl) (by rw [e]; omega)
    rw [e] at q1 q2
    have e2 : mN M 55 + 1 + l.length = mN M 55 + (a :: l).length := by rw [List.length_cons]; omega
    exact ⟨q1.trans (by rw [e2]), q2.trans e2⟩
def vG (k : Nat) (r x : Int32) : Int32 := if k = 1 then x + r - nI 4 else if k = 3 then x * nI 3 + r else x + r
def tG (k : Nat) : List Nat := if k = 1 then [20, 10] else if k = 3 then [40, 10] else [10]
def vPL (k : Nat) (r a x : Int32) : Int32 := vG k r x - a
def tPL (k : Nat) : List Nat := 11 :: tG k
def vLL (k : Nat) (r a x : Int32) : Int32 := vPL k r a x + vG k r x
def tLL (k : Nat) : List Nat := 30 :: (tPL k ++ tG k)
def vL (k : Nat) (r a x : Int32) : Int32 := if k = 2 then vLL k r a x else if k = 3 then - vLL k r a x else vPL k r a x
def tL (k : Nat) : List Nat := if k = 2 then tLL k else if k = 3 then 41 :: tLL k else tPL k
def vPR (k i : Nat) (r a x : Int32) : Int32 := vL k r a x ^^^ nI i
def tPR (k : Nat) : List Nat := 12 :: tL k
def vR (k i : Nat) (r a x : Int32) : Int32 := if k = 4 then vL k r a x + vPR k i r a (x - nI 1) else vPR k i r a x
def tR (k : Nat) : List Nat := if k = 4 then 50 :: (tL k ++ tPR k) else tPR k
theorem tG_len (k : Nat) : (tG k).length ≤ 2 := by unfold tG; split; decide; split <;> decide
theorem tPL_len (k : Nat) : (tPL k).length ≤ 3 := by unfold tPL; rw [List.length_cons]; have := tG_len k; omega
theorem tLL_len (k : Nat) : (tLL k).length ≤ 6 := by unfold tLL; rw [List.length_cons, List.length_append]; have := tG_len k; have := tPL_len k; omega
theorem tL_len (k : Nat) : (tL k).length ≤ 7 := by
  have := tLL_len k; have := tPL_len k
  unfold tL
  split
  · omega
  · split
    · rw [List.length_cons]; omega
    · omega
theorem tPR_len (k : Nat) : (tPR k).length ≤ 8 := by unfold tPR; rw [List.length_cons]; have := tL_len k; omega
theorem tR_len (k : Nat) : (tR k).length ≤ 16 := by
  have := tL_len k; have := tPR_len k
  unfold tR
  split
  · rw [List.length_cons, List.length_append]; omega
  · omega
def o_act (i a x : Int32) (M : nMem) : Int32 × nMem :=
  let M0 := mset M 55 (fun _ => nI 0)
  let p := i.toNatClampNeg
  let k := mA M 2 p
  if nin i (mN M 0) = false then (0, M0) else if nrg a (nI 0) (nI 2) = false then (0, M0)
  else if a.toNatClampNeg = 0 then (vG k (M 3 p) x, bds (tG k) M0) else if a.toNatClampNeg = 1 then (vL k (M 3 p) (M 4 p) x, bds (tL k) M0) else (vR k p (M 3 p) (M 4 p) x, bds (tR k) M0)
def o_trace (i : Int32) (M : nMem) : Int32 × nMem := (if nrg i (nI 0) (nI 19) = true ∧ i < nI (mN M 55) then M 56 i.toNatClampNeg else -1, M)
def o_taken (i k : Int32) (M : nMem) : Int32 × nMem :=
  (if nrg k (nI 0) (nI 4) = false then -2 else if nin i (mN M 0) = false then -11
  else if k.toNatClampNeg = 0 ∨ mA M 2 i.toNatClampNeg = k.toNatClampNeg ∨ (k.toNatClampNeg = 2 ∧ mA M 2 i.toNatClampNeg = 3) then nI (mA M 2 i.toNatClampNeg) else -12, M)
def o_count (w : Int32) (M : nMem) : Int32 × nMem :=
  (if w = nI 0 then nI (mN M 0) else if w = nI 1 then nI (mN M 1) else if w = nI 2 then nI (mN M 14) else if w = nI 3 then nI (mN M 26) else if w = nI 4 then nI (mN M 27)
  else if w = nI 5 then nI (mN M 20) else if w = nI 6 then nbo (mB M 11) else if w = nI 7 then nI (mN M 55) else -2, M)
theorem nI_nm {j : Nat} (hj : j < 2 ^ 31) : ¬ nI j = -1 := fun e => absurd (e ▸ nI_pos (n := j) hj) (by decide)
theorem nI_subT {a b : Nat} (ha : a < 2 ^ 31) (hb : b < 2 ^ 31) : (nI a - nI b).toInt = (a : Int) - b := by
  rw [Int32.toInt_sub, nI_toInt ha, nI_toInt hb, Int.bmod_def]
  split <;> omega
theorem sub_le {i s m : Nat} (hi : i < 2 ^ 31) (hs : s < 2 ^ 31) (hm : m < 2 ^ 31) : nI i ≤ nI s - nI m ↔ i + m ≤ s := by
  rw [Int32.le_iff_toInt_le, nI_subT hs hm, nI_toInt hi]
  omega
theorem sub_lt {i s m : Nat} (hi : i < 2 ^ 31) (hs : s < 2 ^ 31) (hm : m < 2 ^ 31) : nI s - nI m < nI i ↔ s < i + m := by
  rw [Int32.lt_iff_toInt_lt, nI_subT hs hm, nI_toInt hi]
  omega
