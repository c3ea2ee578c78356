/-! ===== PLAIN FUNCTIONS: turns, swaps, blocks, counts ===== -/
/-- a row turned: how 0 forwards, else backwards -/
def tur (how n : Nat) (f : Nat → Int32) : Nat → Int32 := fun p => if p < n then (if how = 0 then f ((p + (n - 1)) % n) else f ((p + 1) % n)) else f p
def swp (f : Nat → Int32) (p q : Nat) : Nat → Int32 := upd (upd f p (f q)) q (f p)
/-- b with g's first n values from o on -/
def blk (b : Nat → Int32) (o n : Nat) (g : Nat → Int32) : Nat → Int32 := fun q => if o ≤ q ∧ q < o + n then g (q - o) else b q
theorem blk_0 (b : Nat → Int32) (o : Nat) (g : Nat → Int32) : blk b o 0 g = b := by
  funext q
  unfold blk
  rw [if_neg (by omega)]
theorem blk_u {b g : Nat → Int32} {o i : Nat} {x : Int32} (hx : x = g i) : upd (blk b o i g) (o + i) x = blk b o (i + 1) g := by
  funext q
  unfold upd blk
  by_cases e : q = o + i
  · subst e
    rw [if_pos rfl, if_pos (by omega), hx, Nat.add_sub_cancel_left]
  · rw [if_neg e]
    by_cases l : o ≤ q ∧ q < o + i
    · rw [if_pos l, if_pos (by omega)]
    · rw [if_neg l, if_neg (by omega)]
theorem blk_in {b g : Nat → Int32} {o n i : Nat} (h : i < n) : blk b o n g (o + i) = g i := by
  unfold blk
  rw [if_pos (by omega), Nat.add_sub_cancel_left]
theorem blk_out {b g : Nat → Int32} {o n q : Nat} (h : q < o ∨ o + n ≤ q) : blk b o n g q = b q := by
  unfold blk
  rw [if_neg (by omega)]
theorem nif {α : Type} {b c : Prop} [db : Decidable b] [dc : Decidable c] (h : b ↔ c) {x y : α} : (if b then x else y) = if c then x else y := by
  by_cases q : b
  · rw [if_pos q, if_pos (h.mp q)]
  · rw [if_neg q, if_neg (fun z => q (h.mpr z))]
def anyb : Nat → (Nat → Bool) → Bool
  | 0, _ => false
  | n + 1, P => anyb n P || P n
def allb : Nat → (Nat → Bool) → Bool
  | 0, _ => true
  | n + 1, P => allb n P && P n
def cntb : Nat → (Nat → Bool) → Nat
  | 0, _ => 0
  | n + 1, P => cntb n P + (if P n = true then 1 else 0)
theorem anyb_t {P : Nat → Bool} : ∀ {n p : Nat}, p < n → P p = true → anyb n P = true
  | n + 1, p, h, hp => by
    unfold anyb
    rcases Nat.lt_succ_iff_lt_or_eq.mp h with e | e
    · rw [anyb_t e hp, Bool.true_or]
    · subst e; rw [hp, Bool.or_true]
theorem anyb_f {P : Nat → Bool} : ∀ {n : Nat}, (∀ p, p < n → P p = false) → anyb n P = false
  | 0, _ => rfl
  | n + 1, h => by
    unfold anyb
    rw [anyb_f (fun p hp => h p (Nat.lt_succ_of_lt hp)), h n (Nat.lt_succ_self n)]
    rfl
theorem allb_iff {P : Nat → Bool} : ∀ {n : Nat}, allb n P = true ↔ ∀ p, p < n → P p = true
  | 0 => ⟨fun _ p h => absurd h (Nat.not_lt_zero p), fun _ => rfl⟩
  | n + 1 => by
    unfold allb
    rw [Bool.and_eq_true, allb_iff]
    constructor
    · rintro ⟨a, b⟩ p hp
      rcases Nat.lt_succ_iff_lt_or_eq.mp hp with e | e
      · exact a p e
      · subst e; exact b
    · exact fun h => ⟨fun p hp => h p (Nat.lt_succ_of_lt hp), h n (Nat.lt_succ_self n)⟩
theorem anyb_iff {P : Nat → Bool} {n : Nat} : anyb n P = true ↔ ∃ p, p < n ∧ P p = true := by
  constructor
  · intro h
    by_cases q : ∃ p, p < n ∧ P p = true
    · exact q
    · rw [anyb_f (fun p hp => by
        cases e : P p with
        | false => rfl
        | true => exact absurd ⟨p, hp, e⟩ q)] at h
      cases h
  · rintro ⟨p, hp, e⟩
    exact anyb_t hp e
theorem cntb_le {P : Nat → Bool} : ∀ n, cntb n P ≤ n
  | 0 => Nat.le_refl 0
  | n + 1 => by
    have := cntb_le (P := P) n
    unfold cntb
    split <;> omega
theorem allb_cong {P R : Nat → Bool} : ∀ {n : Nat}, (∀ p, p < n → P p = R p) → allb n P = allb n R
  | 0, _ => rfl
  | n + 1, h => by
    unfold allb
    rw [allb_cong (fun p hp => h p (Nat.lt_succ_of_lt hp)), h n (Nat.lt_succ_self n)]
theorem anyb_cong {P R : Nat → Bool} : ∀ {n : Nat}, (∀ p, p < n → P p = R p) → anyb n P = anyb n R
  | 0, _ => rfl
  | n + 1, h => by
    unfold anyb
    rw [anyb_cong (fun p hp => h p (Nat.lt_succ_of_lt hp)), h n (Nat.lt_succ_self n)]
theorem cntb_cong {P R : Nat → Bool} : ∀ {n : Nat}, (∀ p, p < n → P p = R p) → cntb n P = cntb n R
  | 0, _ => rfl
  | n + 1, h => by
    unfold cntb
    rw [cntb_cong (fun p hp => h p (Nat.lt_succ_of_lt hp)), h n (Nat.lt_succ_self n)]
/-- the first from b on that fits, of at most k -/
def fstb (P : Nat → Bool) : Nat → Nat → Nat
  | 0, b => b
  | k + 1, b => if P b = true then b else fstb P k (b + 1)
theorem fstb_t {P : Nat → Bool} {k b : Nat} (h : P b = true) : fstb P (k + 1) b = b := by unfold fstb; rw [if_pos h]
theorem fstb_f {P : Nat → Bool} {k b : Nat} (h : P b = false) : fstb P (k + 1) b = fstb P k (b + 1) := by
  conv => lhs; unfold fstb
  rw [if_neg (by rw [h]; decide)]
/-- the ribbon on top at row r, place p -/
def mTop (M : nMem) (n r p : Nat) : Nat := if M 19 (9 * r + p) = nI 1 ∧ M 19 (9 * r + (p + (n - 1)) % n) ≠ nI 2 then mA M 18 (9 * r + (p + 1) % n) else mA M 18 (9 * r + p)
def mLike (M : nMem) (n r s : Nat) : Bool := allb n (fun p => decide (M 10 (mTop M n r p) = M 10 (mTop M n s p)))
/-- whether a thing of the picture is wrong with the colours f -/
def mBad (M : nMem) (f : Nat → Int32) (i : Nat) : Bool := decide (mN M 15 ≤ mA M 21 i) || (decide (mN M 1 ≤ mA M 22 i) || decide (f (mTop M (mN M 1) (mA M 21 i) (mA M 22 i)) ≠ M 23 i))
def mWrong (M : nMem) (f : Nat → Int32) : Nat := cntb (mN M 20) (mBad M f)
/-- the k-th row of n colours out of c -/
def gsk (c n k p : Nat) : Nat := k / c ^ (n - 1 - p) % c
/-- the least of w 0 .. w (K - 1), if below b, and the first place where it is -/
def lst2 (w : Nat → Nat) (b : Nat) : Nat → Nat × Nat
  | 0 => (b, 0)
  | k + 1 => if w k < (lst2 w b k).1 then (w k, k) else lst2 w b k
def o_passN (p how : Nat) (M : nMem) : Int32 × nMem :=
  let n := mN M 1
  let q := (p + 1) % n
  let inn := if how = 0 then mA M 6 p else mA M 6 q
  let out := if how = 0 then mA M 6 q else mA M 6 p
  let l1 := upd (M 8) inn (M 8 inn - nI 1)
  if M 8 inn < nI 1 ∨ M 8 out < nI 2 then (-3, M) else if mN M 14 = 300 then (-4, M)
  else (nI (mN M 14 + 1), mset (mset (mset (mset (mset (mset M 8 (upd l1 out (l1 out - nI 2))) 6 (swp (M 6) p q)) 5 (swp (M 5) p q)) 17 (upd (M 17) p (nI (how + 1)))) 16 (upd (M 16) (mN M 14) (nI (10 * p + how)))) 14 (fun _ => nI (mN M 14 + 1)))
def o_pass (p how : Int32) (M : nMem) : Int32 × nMem :=
  if nin p (mN M 1) = false then (-1, M) else if nrg how (nI 0) (nI 1) = false then (-2, M) else if mB M 11 = false then (-3, M) else o_passN p.toNatClampNeg how.toNatClampNeg M
def o_walkN (how : Nat) (M : nMem) : Int32 × nMem :=
  let n := mN M 1
  let g := 10 + mN M 15 / 3
  let h2 := tur how n (M 6)
  if anyb n (fun p => decide (M 8 p < nI g)) = true then (-3, M) else if mN M 14 = 300 then (-4, M) else if mN M 15 = 100 then (-4, M)
  else (nI (mN M 14 + 1), mset (mset (mset (mset (mset (mset (mset (mset (mset M 8 (fil (fun p => M 8 p - nI g) (M 8) n)) 6 h2) 5 (tur how n (M 5))) 18 (blk (M 18) (9 * mN M 15) n h2)) 19 (blk (M 19) (9 * mN M 15) n (M 17))) 17 (fil (fun _ => nI 0) (M 17) n)) 15 (fun _ => nI (mN M 15 + 1))) 16 (upd (M 16) (mN M 14) (nI (100 + how)))) 14 (fun _ => nI (mN M 14 + 1)))
def o_walk (how : Int32) (M : nMem) : Int32 × nMem :=
  if nrg how (nI 0) (nI 1) = false then (-2, M) else if mB M 11 = false then (-3, M) else o_walkN how.toNatClampNeg M
