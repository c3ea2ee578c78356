/-! ===== PLAIN: forms ===== -/
def iI (z : Int) : Int32 := Int32.ofInt z
theorem iI_n (n : Nat) : iI (n : Int) = nI n := rfl
theorem bmod_id {z : Int} (h1 : -2147483648 ≤ z) (h2 : z < 2147483648) : z.bmod 4294967296 = z := by
  rw [Int.bmod_def]
  split <;> omega
theorem iI_toInt {z : Int} (h1 : -2147483648 ≤ z) (h2 : z < 2147483648) : (iI z).toInt = z := by
  unfold iI
  rw [Int32.toInt_ofInt]
  exact bmod_id h1 h2
theorem iI_ext {x : Int32} {z : Int} (h1 : -2147483648 ≤ z) (h2 : z < 2147483648) (h : x.toInt = z) : x = iI z := by
  apply Int32.toInt_inj.mp
  rw [iI_toInt h1 h2, h]
/-- two places that are far apart on a ring of n -/
def farb (n p q : Nat) : Bool := if p < q then decide (1 < q - p ∧ q - p < n - 1) else decide (1 < p - q ∧ p - q < n - 1)
/-- how many of the first q passes are left when those that x may go ahead of are left out at the end -/
def kdn (n : Nat) (f : Nat → Nat) (x : Nat) : Nat → Nat
  | 0 => 0
  | q + 1 => if farb n (f q / 10) (x / 10) = true then kdn n f x q else q + 1
theorem kdn_le {n : Nat} {f : Nat → Nat} {x : Nat} : ∀ q, kdn n f x q ≤ q
  | 0 => Nat.le_refl 0
  | q + 1 => by
    have := kdn_le (n := n) (f := f) (x := x) q
    unfold kdn
    split <;> omega
def flp (x : Nat) : Nat := if x % 2 = 0 then x + 1 else x - 1
def updN (f : Nat → Nat) (k x : Nat) : Nat → Nat := fun j => if j = k then x else f j
/-- a pass x comes behind the m passes f -/
def ftake (n : Nat) (f : Nat → Nat) (m x : Nat) : (Nat → Nat) × Nat :=
  let q := kdn n f x m
  if 0 < q ∧ f (q - 1) = flp x then ((fun k => if k < q - 1 then f k else f (k + 1)), m - 1) else (updN f m x, m + 1)
/-- the place of the least pass that may come first, of those from i on, d looked at -/
def bsel (n : Nat) (f : Nat → Nat) (i : Nat) : Nat → Nat
  | 0 => i
  | d + 1 => if (decide (f (i + d + 1) < f (bsel n f i d)) && allb (d + 1) (fun j => farb n (f (i + j) / 10) (f (i + d + 1) / 10))) = true then i + d + 1 else bsel n f i d
theorem bsel_in {n : Nat} {f : Nat → Nat} {i : Nat} : ∀ d, i ≤ bsel n f i d ∧ bsel n f i d ≤ i + d
  | 0 => ⟨Nat.le_refl i, Nat.le_refl i⟩
  | d + 1 => by
    have := bsel_in (n := n) (f := f) (i := i) d
    unfold bsel
    split <;> omega
def fbring (n : Nat) (f : Nat → Nat) (m i : Nat) : Nat → Nat :=
  let b := bsel n f i (m - 1 - i)
  fun k => if k = i then f b else if i < k ∧ k ≤ b then f (k - 1) else f k
def fords (n m : Nat) : Nat → (Nat → Nat) → (Nat → Nat)
  | 0, f => f
  | k + 1, f => fbring n (fords n m k f) m k
/-- the steps st, k of them, cut down: turns, passes, how many -/
def ffold (n : Nat) (st : Nat → Nat) : Nat → Option (Int × (Nat → Nat) × Nat)
  | 0 => some (0, (fun _ => 0), 0)
  | k + 1 => match ffold n st k with
    | none => none
    | some (t, f, m) => if st k = 100 then some (t + 1, f, m) else if 100 ≤ st k then some (t - 1, f, m)
      else if n ≤ st k / 10 then none else some (t, ftake n f m (10 * ((((st k / 10 : Nat) : Int) - t).emod n).toNat + st k % 10))
/-- a form: turns, passes in their order, how many; none: a pass is at no place -/
def fform (n : Nat) (st : Nat → Nat) (k : Nat) : Option (Int × (Nat → Nat) × Nat) := match ffold n st k with
  | none => none
  | some (t, f, m) => some (t, fords n m m f, m)
theorem ffold_none {n : Nat} {st : Nat → Nat} : ∀ {d k : Nat}, ffold n st k = none → ffold n st (k + d) = none
  | 0, k, h => h
  | d + 1, k, h => by
    have := ffold_none (d := d) h
    show ffold n st (k + d + 1) = none
    unfold ffold
    rw [this]
theorem ftake_m {n : Nat} {f : Nat → Nat} {m x : Nat} : (ftake n f m x).2 ≤ m + 1 := by
  unfold ftake
  dsimp only
  split
  · show m - 1 ≤ m + 1; omega
  · exact Nat.le_refl _
theorem ftake_lt {n : Nat} {f : Nat → Nat} {m x : Nat} (hx : x < 100) (hf : ∀ k, k < m → f k < 100) : ∀ k, k < (ftake n f m x).2 → (ftake n f m x).1 k < 100 := by
  unfold ftake
  dsimp only
  split
  · rename_i h
    intro k hk
    dsimp only at hk ⊢
    split
    · exact hf k (by omega)
    · exact hf (k + 1) (by omega)
  · intro k hk
    dsimp only at hk ⊢
    unfold updN
    split
    · exact hx
    · exact hf k (by omega)
/-- what a fold's outcome keeps to -/
theorem ffold_ok {n : Nat} (hn : 0 < n) (hn9 : n ≤ 9) {st : Nat → Nat} : ∀ {k : Nat} {t : Int} {f : Nat → Nat} {m : Nat}, ffold n st k = some (t, f, m) → -(k : Int) ≤ t ∧ t ≤ k ∧ m ≤ k ∧ ∀ j, j < m → f j < 100
  | 0, t, f, m, h => by
    cases h
    exact ⟨by omega, by omega, Nat.le_refl 0, fun j hj => absurd hj (Nat.not_lt_zero j)⟩
  | k + 1, t, f, m, h => by
    unfold ffold at h
    cases e : ffold n st k with
    | none => rw [e] at h; cases h
    | some p =>
      obtain ⟨t0, f0, m0⟩ := p
      obtain ⟨h1, h2, h3, h4⟩ := ffold_ok hn hn9 e
      rw [e] at h
      dsimp only at h
      split at h
      · cases h; exact ⟨by omega, by omega, by omega, h4⟩
      · split at h
        · cases h; exact ⟨by omega, by omega, by omega, h4⟩
        · split at h
          · cases h
          · injection h with h
            injection h with ha hb
            subst ha
            have h7 : st k % 10 < 10 := Nat.mod_lt _ (by decide)
            have h8 : ((((st k / 10 : Nat) : Int) - t0).emod n).toNat < 9 := by
              have a := Int.emod_lt_of_pos (((st k / 10 : Nat) : Int) - t0) (show (0 : Int) < n by omega)
              have b := Int.emod_nonneg (((st k / 10 : Nat) : Int) - t0) (show (n : Int) ≠ 0 by omega)
              show ((((st k / 10 : Nat) : Int) - t0) % n).toNat < 9
              omega
            have e1 : f = (ftake n f0 m0 (10 * ((((st k / 10 : Nat) : Int) - t0).emod n).toNat + st k % 10)).1 := by rw [hb]
            have e2 : m = (ftake n f0 m0 (10 * ((((st k / 10 : Nat) : Int) - t0).emod n).toNat + st k % 10)).2 := by rw [hb]
            refine ⟨by omega, by omega, ?_, ?_⟩
            · rw [e2]; have := ftake_m (n := n) (f := f0) (m := m0) (x := 10 * ((((st k / 10 : Nat) : Int) - t0).emod n).toNat + st k % 10); omega
            · rw [e1, e2]; exact ftake_lt (by omega) h4
theorem fbring_lt {n : Nat} {f : Nat → Nat} {m i : Nat} (hi : i < m) (hf : ∀ k, k < m → f k < 100) : ∀ k, k < m → fbring n f m i k < 100 := by
  intro k hk
  have hb := bsel_in (n := n) (f := f) (i := i) (m - 1 - i)
  unfold fbring
  show (if k = i then _ else if i < k ∧ k ≤ bsel n f i (m - 1 - i) then _ else _) < 100
  split
  · exact hf _ (by omega)
  · split
    · exact hf _ (by omega)
    · exact hf k hk
theorem fords_lt {n m : Nat} : ∀ {k : Nat} {f : Nat → Nat}, k ≤ m → (∀ j, j < m → f j < 100) → ∀ j, j < m → fords n m k f j < 100
  | 0, f, _, h => h
  | k + 1, f, hk, h => fbring_lt (by omega) (fords_lt (by omega) h)
/-- Java's remainders, twice, with the divisor added between: a place on the ring -/
theorem rem2 {a n : Nat} {t : Int} (ha : a ≤ 1000) (h1 : -1000 ≤ t) (h2 : t ≤ 1000) (hn : 0 < n) (hn9 : n ≤ 9) :
    (nI a - iI t) - (nI a - iI t) / nI n * nI n + nI n = nI ((((a : Int) - t).tmod n + n).toNat) ∧ ((((a : Int) - t).tmod n + n).toNat) % n = (((a : Int) - t).emod n).toNat ∧ ((((a : Int) - t).tmod n + n).toNat) < 20 := by
  have hn' : (nI n).toInt = n := nI_toInt (by omega)
  have hx : (nI a - iI t).toInt = (a : Int) - t := by
    rw [Int32.toInt_sub, nI_toInt (by omega), iI_toInt (by omega) (by omega)]
    exact bmod_id (by omega) (by omega)
  obtain ⟨X, hX⟩ : ∃ X : Int, X = (a : Int) - t := ⟨_, rfl⟩
  rw [← hX] at hx ⊢
  have q1 := Int.tmod_lt_of_pos X (show (0 : Int) < n by omega)
  have q2 := Int.lt_tmod_of_pos X (show (0 : Int) < n by omega)
  have hd : (((nI a - iI t)) / nI n).toInt = X.tdiv n := by
    rw [Int32.toInt_div_of_ne_right _ _ (nI_nm (by omega)), hx, hn']
  have hdef := Int.tmod_def X n
  obtain ⟨q, hq⟩ : ∃ q : Int, q = (n : Int) * X.tdiv n := ⟨_, rfl⟩
  rw [← hq] at hdef
  have hm : ((nI a - iI t) / nI n * nI n).toInt = q := by
    rw [Int32.toInt_mul, hd, hn', Int.mul_comm, ← hq]
    exact bmod_id (by omega) (by omega)
  have hr : ((nI a - iI t) - (nI a - iI t) / nI n * nI n).toInt = X.tmod n := by
    rw [Int32.toInt_sub, hx, hm, ← hdef]
    exact bmod_id (by omega) (by omega)
  have hs : ((nI a - iI t) - (nI a - iI t) / nI n * nI n + nI n).toInt = X.tmod n + n := by
    rw [Int32.toInt_add, hr, hn']
    exact bmod_id (by omega) (by omega)
  have hY : ((X.tmod n + n).toNat : Int) = X.tmod n + n := Int.toNat_of_nonneg (by omega)
  have he : (X.tmod n + n) % n = X % n := by
    rw [hdef, hq, show X - (n : Int) * X.tdiv n + n = X + n * (1 - X.tdiv n) by rw [Int.mul_sub, Int.mul_one]; omega]
    exact Int.add_mul_emod_self_left _ _ _
  refine ⟨?_, ?_, by omega⟩
  · apply Int32.toInt_inj.mp
    rw [hs, nI_toInt (by omega), hY]
  · apply Int.ofNat_inj.mp
    have e0 := Int.emod_nonneg X (show (n : Int) ≠ 0 by omega)
    show (((X.tmod n + n).toNat % n : Nat) : Int) = ((X % n).toNat : Int)
    rw [Int.natCast_emod, hY, he, Int.toNat_of_nonneg e0]
/-- the reference's form: m passes f -/
def frR (M : nMem) (f : Nat → Nat) (m : Nat) : Prop := M 37 0 = nI m ∧ ∀ k, k < m → M 35 k = nI (f k)
theorem flp_x {x : Nat} (hx : x < 100) : nI x ^^^ nI 1 = nI (flp x) := by
  have : ∀ z : Fin 100, nI z.val ^^^ nI 1 = nI (flp z.val) := by decide +kernel
  exact this ⟨x, hx⟩
theorem flp_lt {x : Nat} (hx : x < 100) : flp x < 100 := by unfold flp; split <;> omega
theorem kdn_t {n : Nat} {f : Nat → Nat} {x q : Nat} (h : farb n (f q / 10) (x / 10) = true) : kdn n f x (q + 1) = kdn n f x q := by
  conv => lhs; unfold kdn
  rw [if_pos h]
theorem kdn_f {n : Nat} {f : Nat → Nat} {x q : Nat} (h : farb n (f q / 10) (x / 10) = false) : kdn n f x (q + 1) = q + 1 := by
  conv => lhs; unfold kdn
  rw [if_neg (by rw [h]; decide)]
theorem ftake_rm {n : Nat} {f : Nat → Nat} {m x : Nat} (h : 0 < kdn n f x m ∧ f (kdn n f x m - 1) = flp x) : ftake n f m x = ((fun k => if k < kdn n f x m - 1 then f k else f (k + 1)), m - 1) := by
  unfold ftake
  dsimp only
  rw [if_pos h]
theorem ftake_ad {n : Nat} {f : Nat → Nat} {m x : Nat} (h : ¬ (0 < kdn n f x m ∧ f (kdn n f x m - 1) = flp x)) : ftake n f m x = (updN f m x, m + 1) := by
  unfold ftake
  dsimp only
  rw [if_neg h]
theorem bsel_s {n : Nat} {f : Nat → Nat} {i d : Nat} {g : Bool} (h : (decide (f (i + d + 1) < f (bsel n f i d)) && allb (d + 1) (fun j => farb n (f (i + j) / 10) (f (i + d + 1) / 10))) = g) : bsel n f i (d + 1) = if g = true then i + d + 1 else bsel n f i d := by
  conv => lhs; unfold bsel
  rw [h]
/-- the steps of figure f, or of the dance for f = -1 -/
def mSt (M : nMem) (f : Int32) : Nat → Nat := fun k => if f = -1 then mA M 16 k else mA M 29 (300 * f.toNatClampNeg + k)
def mSn (M : nMem) (f : Int32) : Nat := if f = -1 then mN M 14 else mA M 28 f.toNatClampNeg
def o_form (f w : Int32) (M : nMem) : Int32 × nMem :=
  (if f ≠ -1 ∧ nin f (mN M 26) = false then -99 else if w < -2 then -99 else if mN M 1 = 0 then -98 else
  match fform (mN M 1) (mSt M f) (mSn M f) with
  | none => -97
  | some (t, g, m) => if w = -2 then iI t else if w = -1 then nI m else if w < nI m then nI (g w.toNatClampNeg) else -99, M)
def o_akin (a b : Int32) (M : nMem) : Int32 × nMem :=
  (if a ≠ -1 ∧ nin a (mN M 26) = false then -1 else if b ≠ -1 ∧ nin b (mN M 26) = false then -1 else if mN M 1 = 0 then -3 else
  match fform (mN M 1) (mSt M a) (mSn M a), fform (mN M 1) (mSt M b) (mSn M b) with
  | some (t, g, m), some (t2, g2, m2) => nbo (decide (t = t2) && (decide (m = m2) && allb m (fun k => decide (g k = g2 k))))
  | _, _ => -3, M)
theorem pmi_sub (m : Nat) : nI m - nI 1 = pmi m := by
  unfold pmi
  rw [Int32.sub_eq_add_neg, show -nI 1 = -1 by decide]
theorem iI_add (a b : Int) : iI a + iI b = iI (a + b) := (Int32.ofInt_add a b).symm
theorem iI_p1 (t : Int) : iI t + nI 1 = iI (t + 1) := iI_add t 1
theorem iI_m1 (t : Int) : iI t + (-1) = iI (t - 1) := by
  rw [show (-1 : Int32) = iI (-1) by decide, iI_add]
  rfl
theorem ffold_100 {n : Nat} {st : Nat → Nat} {k m : Nat} {t : Int} {f : Nat → Nat} (e : ffold n st k = some (t, f, m)) (h : st k = 100) : ffold n st (k + 1) = some (t + 1, f, m) := by
  conv => lhs; unfold ffold
  rw [e]
  dsimp only
  rw [if_pos h]
theorem ffold_101 {n : Nat} {st : Nat → Nat} {k m : Nat} {t : Int} {f : Nat → Nat} (e : ffold n st k = some (t, f, m)) (h : st k ≠ 100) (h2 : 100 ≤ st k) : ffold n st (k + 1) = some (t - 1, f, m) := by
  conv => lhs; unfold ffold
  rw [e]
  dsimp only
  rw [if_neg h, if_pos h2]
theorem ffold_x {n : Nat} {st : Nat → Nat} {k m : Nat} {t : Int} {f : Nat → Nat} (e : ffold n st k = some (t, f, m)) (h : st k < 100) (h2 : n ≤ st k / 10) : ffold n st (k + 1) = none := by
  conv => lhs; unfold ffold
  rw [e]
  dsimp only
  rw [if_neg (by omega), if_neg (by omega), if_pos h2]
theorem ffold_tk {n : Nat} {st : Nat → Nat} {k m : Nat} {t : Int} {f : Nat → Nat} (e : ffold n st k = some (t, f, m)) (h : st k < 100) (h2 : st k / 10 < n) : ffold n st (k + 1) = some (t, ftake n f m (10 * ((((st k / 10 : Nat) : Int) - t).emod n).toNat + st k % 10)) := by
  conv => lhs; unfold ffold
  rw [e]
  dsimp only
  rw [if_neg (by omega), if_neg (by omega), if_neg (by omega)]
theorem fform_n {n : Nat} {st : Nat → Nat} {k d : Nat} (h : ffold n st k = none) (hd : k ≤ d) : fform n st d = none := by
  unfold fform
  rw [show d = k + (d - k) by omega, ffold_none h]
theorem fform_s {n : Nat} {st : Nat → Nat} {k m : Nat} {t : Int} {f : Nat → Nat} (e : ffold n st k = some (t, f, m)) : fform n st k = some (t, fords n m m f, m) := by
  unfold fform
  rw [e]
theorem emod_lt9 {a : Int} {n : Nat} (hn : 0 < n) : (a.emod n).toNat < n := by
  have e1 := Int.emod_lt_of_pos a (show (0 : Int) < n by omega)
  have e2 := Int.emod_nonneg a (show (n : Int) ≠ 0 by omega)
  show (a % n).toNat < n
  omega
/-- where the steps of f lie in M: c of them, the k-th of them s -/
def mCn (M : nMem) (f : Int32) (c : Nat) : Prop := (f = -1 ∧ M 14 0 = nI c) ∨ ∃ z, z < 10 ∧ f = nI z ∧ M 28 z = nI c
def mSk (M : nMem) (f : Int32) (k s : Nat) : Prop := (f = -1 ∧ M 16 k = nI s) ∨ ∃ z, z < 10 ∧ f = nI z ∧ M 29 (300 * z + k) = nI s
theorem mCn.fr {S : List Nat} {M M2 : nMem} {f : Int32} {c : Nat} (h : mFr S M M2) (hS : 14 ∉ S ∧ 28 ∉ S) (hc : mCn M f c) : mCn M2 f c := by
  rcases hc with ⟨a, b⟩ | ⟨z, a, b, c⟩
  · exact Or.inl ⟨a, by rw [h 14 hS.1]; exact b⟩
  · exact Or.inr ⟨z, a, b, by rw [h 28 hS.2]; exact c⟩
theorem mSk.fr {S : List Nat} {M M2 : nMem} {f : Int32} {k s : Nat} (h : mFr S M M2) (hS : 16 ∉ S ∧ 29 ∉ S) (hc : mSk M f k s) : mSk M2 f k s := by
  rcases hc with ⟨a, b⟩ | ⟨z, a, b, c⟩
  · exact Or.inl ⟨a, by rw [h 16 hS.1]; exact b⟩
  · exact Or.inr ⟨z, a, b, by rw [h 29 hS.2]; exact c⟩
/-- findForm's answer and memory -/
def mFF (M : nMem) (o : Option (Int × (Nat → Nat) × Nat)) (r : Int32) (M2 : nMem) : Prop := mFr [35, 37, 38] M M2 ∧ match o with
  | none => r = nI 0
  | some (t, g, m) => r = nI 1 ∧ frR M2 g m ∧ M2 38 0 = iI t
theorem mSx {M : nMem} (hI : mInv M) {f : Int32} (hf : f = -1 ∨ nin f (mN M 26) = true) : mCn M f (mSn M f) ∧ mSn M f ≤ 300 ∧ ∀ k, k < mSn M f → mSk M f k (mSt M f k) ∧ stp (mSt M f k) := by
  obtain ⟨h0, h1, h11, ⟨h14, b14⟩, h15, h20, ⟨h26, b26⟩, h27, h55, iP, iH, iHi, iHd, iC, iT, iF, iG, iS, iZ⟩ := hI
  rcases hf with e | e
  · subst e
    unfold mSn mSt
    simp only [if_true]
    exact ⟨Or.inl ⟨rfl, h14⟩, b14, fun k hk => ⟨Or.inl ⟨rfl, (iS k hk).1⟩, (iS k hk).2.1⟩⟩
  · obtain ⟨z, hz, rfl⟩ := (nin_t (by omega)).mp e
    have hzc : (nI z).toNatClampNeg = z := nI_clamp (by omega)
    unfold mSn mSt
    simp only [if_neg (nI_nm (show z < 2 ^ 31 by omega)), hzc]
    exact ⟨Or.inr ⟨z, by omega, rfl, (iF z hz).1⟩, (iF z hz).2, fun k hk => ⟨Or.inr ⟨z, by omega, rfl, (iG z k hz hk).1⟩, (iG z k hz hk).2⟩⟩
theorem fform_ok {n : Nat} (hn : 0 < n) (hn9 : n ≤ 9) {st : Nat → Nat} {k m : Nat} {t : Int} {f : Nat → Nat} (h : fform n st k = some (t, f, m)) : -(k : Int) ≤ t ∧ t ≤ k ∧ m ≤ k ∧ ∀ j, j < m → f j < 100 := by
  unfold fform at h
  cases e : ffold n st k with
  | none => rw [e] at h; cases h
  | some p =>
    obtain ⟨t0, f0, m0⟩ := p
    rw [e] at h
    cases h
    obtain ⟨a, b, c, d⟩ := ffold_ok hn hn9 e
    exact ⟨a, b, c, fords_lt (Nat.le_refl _) d⟩
theorem w_nn {w : Int32} (h : -2 ≤ w) (h2 : ¬ w = -2) (h3 : ¬ w = -1) : ¬ w < 0 := by
  have e2 : w.toInt ≠ -2 := fun e => h2 (Int32.toInt_inj.mp (e.trans (by decide)))
  have e3 : w.toInt ≠ -1 := fun e => h3 (Int32.toInt_inj.mp (e.trans (by decide)))
  rw [Int32.le_iff_toInt_le, show (-2 : Int32).toInt = -2 by decide] at h
  rw [Int32.lt_iff_toInt_lt, Int32.toInt_zero]
  omega
theorem iI_inj {a b : Int} (ha : -1000 ≤ a ∧ a ≤ 1000) (hb : -1000 ≤ b ∧ b ≤ 1000) (h : iI a = iI b) : a = b := by
  have := congrArg Int32.toInt h
  rwa [iI_toInt (by omega) (by omega), iI_toInt (by omega) (by omega)] at this
theorem allb_mono {P : Nat → Bool} {k m : Nat} (h : k ≤ m) (hm : allb m P = true) : allb k P = true := allb_iff.mpr fun p hp => allb_iff.mp hm p (by omega)
