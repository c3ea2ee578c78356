/-! ===== PLAIN: people set ===== -/
def sumN : Nat → (Nat → Nat) → Nat
  | 0, _ => 0
  | n + 1, f => sumN n f + f n
def mxN : Nat → (Nat → Nat) → Nat
  | 0, _ => 0
  | n + 1, f => if mxN n f < f n then f n else mxN n f
theorem sumN_le {f : Nat → Nat} {c : Nat} : ∀ {n : Nat}, (∀ p, p < n → f p ≤ c) → sumN n f ≤ n * c
  | 0, _ => Nat.zero_le _
  | n + 1, h => by
    have a := sumN_le (n := n) (fun p hp => h p (by omega))
    have b := h n (by omega)
    show sumN n f + f n ≤ _
    rw [Nat.succ_mul]
    omega
theorem mxN_le {f : Nat → Nat} {c : Nat} : ∀ {n : Nat}, (∀ p, p < n → f p ≤ c) → mxN n f ≤ c
  | 0, _ => Nat.zero_le _
  | n + 1, h => by
    have a := mxN_le (n := n) (fun p hp => h p (by omega))
    have b := h n (by omega)
    unfold mxN
    split <;> omega
def dst (a b : Nat) : Nat := if a < b then b - a else a - b
def plw (w k : Nat) : List Nat := (List.range k).filter (fun x => w.testBit x)
theorem plw_t {w k : Nat} (h : w.testBit k = true) : plw w (k + 1) = plw w k ++ [k] := by unfold plw; rw [List.range_succ, List.filter_append]; simp [h]
theorem plw_f {w k : Nat} (h : w.testBit k = false) : plw w (k + 1) = plw w k := by unfold plw; rw [List.range_succ, List.filter_append]; simp [h]
theorem plw_mem {w k x : Nat} (h : x ∈ plw w k) : x < k ∧ w.testBit x = true := by
  unfold plw at h
  rw [List.mem_filter, List.mem_range] at h
  exact h
theorem getD_mem {l : List Nat} {j : Nat} (h : j < l.length) : l.getD j 0 ∈ l := by
  rw [List.getD_eq_getElem?_getD, List.getElem?_eq_getElem h]
  exact List.getElem_mem h
theorem plw_lt {w k j : Nat} (h : j < (plw w k).length) : (plw w k).getD j 0 < k := (plw_mem (getD_mem h)).1
theorem snoc_get {l : List Nat} {x j : Nat} (h : j < (l ++ [x]).length) : (l ++ [x]).getD j 0 = if j = l.length then x else l.getD j 0 := by
  rw [List.length_append, List.length_singleton] at h
  by_cases e : j = l.length
  · rw [if_pos e, e, List.getD_eq_getElem?_getD, List.getElem?_append_right (Nat.le_refl _), Nat.sub_self]; rfl
  · rw [if_neg e, List.getD_eq_getElem?_getD, List.getElem?_append_left (by omega), ← List.getD_eq_getElem?_getD]
theorem plw_len_mono {w j k : Nat} (h : j ≤ k) : (plw w j).length ≤ (plw w k).length := by
  induction k with
  | zero => rw [show j = 0 by omega]; exact Nat.le_refl _
  | succ k ih =>
    by_cases e : j = k + 1
    · rw [e]; exact Nat.le_refl _
    · have := ih (by omega)
      cases q : w.testBit k with
      | true => rw [plw_t q, List.length_append]; omega
      | false => rw [plw_f q]; exact this
noncomputable def cst (n : Nat) (R : Nat → Nat) (ml : List Nat) (v : Nat) : Nat := sumN n (fun p => dst (R (ml.getD (unr n v p) 0)) (R (ml.getD (unr n v ((p + 1) % n)) 0)))
def whyS (M : nMem) (s : Int32) : Int32 :=
  if mN M 1 = 0 ∨ 7 < mN M 1 then -3 else if s < 0 ∨ 2 ^ mN M 0 ≤ s.toNatClampNeg then -2
  else if anyb (mN M 0) (fun k => s.toNatClampNeg.testBit k && decide (mA M 2 k = 4)) = true ∨ (plw s.toNatClampNeg (mN M 0)).length ≠ mN M 1 then -2 else 0
noncomputable def bst (M : nMem) (w : Nat) : Nat × Nat := lst2 (cst (mN M 1) (mA M 3) (plw w (mN M 0))) 1000000 (fct (mN M 1))
noncomputable def bsR (M : nMem) (w p : Nat) : Nat := (plw w (mN M 0)).getD (unr (mN M 1) (bst M w).2 p) 0
def fsP (M : nMem) (s r : Int32) (M2 : nMem) : Prop := mFr [50, 51, 52, 53, 54] M M2 ∧ r = whyS M s ∧
  (whyS M s = 0 → (3 ≤ mN M 1 → M2 54 0 = nI (bst M s.toNatClampNeg).1 ∧ ∀ p, p < mN M 1 → M2 53 p = nI (bsR M s.toNatClampNeg p) ∧ bsR M s.toNatClampNeg p < mN M 0))
theorem fsP_n {M M2 : nMem} {s : Int32} {c : Int32} (hF : mFr [50, 51, 52, 53, 54] M M2) (e : whyS M s = c) (hc : c ≠ 0) : fsP M s c M2 := ⟨hF, e.symm, fun z => absurd (e.symm.trans z) hc⟩
theorem lst2_mono {w : Nat → Nat} {b k : Nat} : (lst2 w b (k + 1)).1 ≤ (lst2 w b k).1 := by
  conv => lhs; unfold lst2
  split
  · rename_i h; dsimp only; omega
  · exact Nat.le_refl _
theorem lst2_lt {w : Nat → Nat} {b : Nat} (h : w 0 < b) : ∀ {k : Nat}, 1 ≤ k → (lst2 w b k).1 < b
  | 0, h1 => by omega
  | 1, _ => by
    show (if w 0 < b then (w 0, 0) else (b, 0)).1 < b
    rw [if_pos h]; exact h
  | k + 2, _ => Nat.lt_of_le_of_lt lst2_mono (lst2_lt h (by omega))
noncomputable def o_set (s what : Int32) (M : nMem) : Int32 × nMem :=
  (if whyS M s ≠ 0 then whyS M s else if what = -1 then nI (bst M s.toNatClampNeg).1 else if nin what (mN M 1) = true then nI (bsR M s.toNatClampNeg what.toNatClampNeg) else -1, M)
def spr (n : Nat) (P : Nat → Nat) (most : Nat) : List Nat → (Nat → Nat) → Nat → Option Nat
  | [], _, sum => some sum
  | s :: l, row, sum => if 100 ≤ s then spr n P most l (fun x => row (trn (s - 100) n x)) (sum + most)
    else if n ≤ s / 10 then none else spr n P most l (swo n row (s / 10)) (sum + (P (row (s / 10)) + P (row ((s / 10 + 1) % n))))
noncomputable def o_spent (s f : Int32) (M : nMem) : Int32 × nMem :=
  (if nin f (mN M 26) = false then -1 else if whyS M s ≠ 0 then whyS M s else
    match spr (mN M 1) (mA M 4) (mxN (mN M 1) (fun p => mA M 4 (bsR M s.toNatClampNeg p))) (mFs M f.toNatClampNeg) (bsR M s.toNatClampNeg) 0 with
    | none => -3
    | some v => nI v, M)
theorem spr_w {n most s sum : Nat} {P row : Nat → Nat} {l : List Nat} (h : 100 ≤ s) : spr n P most (s :: l) row sum = spr n P most l (fun x => row (trn (s - 100) n x)) (sum + most) := by
  conv => lhs; unfold spr
  exact if_pos h
theorem spr_n {n most s sum : Nat} {P row : Nat → Nat} {l : List Nat} (h : ¬ 100 ≤ s) (h2 : n ≤ s / 10) : spr n P most (s :: l) row sum = none := by
  unfold spr
  rw [if_neg h, if_pos h2]
theorem spr_p {n most s sum : Nat} {P row : Nat → Nat} {l : List Nat} (h : ¬ 100 ≤ s) (h2 : ¬ n ≤ s / 10) : spr n P most (s :: l) row sum = spr n P most l (swo n row (s / 10)) (sum + (P (row (s / 10)) + P (row ((s / 10 + 1) % n)))) := by
  conv => lhs; unfold spr
  rw [if_neg h, if_neg h2]
theorem shr_z {w k : Nat} (hw : w < 2 ^ 31) : w / 2 ^ k = 0 ↔ w < 2 ^ k := by
  rw [Nat.div_eq_zero_iff]
  constructor
  · rintro (h | h)
    · exact absurd h (Nat.pos_iff_ne_zero.mp (Nat.two_pow_pos k))
    · exact h
  · exact Or.inr
