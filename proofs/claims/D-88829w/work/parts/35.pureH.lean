/-! ===== PLAIN: orders, their ranks, how far they are ===== -/
theorem cntb_ext {P R : Nat → Bool} {n i : Nat} (hi : i < n) (h : ∀ x, x < n → x ≠ i → P x = R x) : cntb n P + (if R i = true then 1 else 0) = cntb n R + (if P i = true then 1 else 0) := by
  induction n with
  | zero => omega
  | succ n ih =>
    show cntb n P + _ + _ = cntb n R + _ + _
    by_cases e : i = n
    · subst e
      rw [cntb_cong (R := R) (fun x hx => h x (by omega) (by omega))]
      omega
    · have := ih (by omega) (fun x hx => h x (by omega))
      rw [h n (by omega) (by omega)]
      omega
theorem cntb_mono {P R : Nat → Bool} {n : Nat} (h : ∀ x, x < n → P x = true → R x = true) : cntb n P ≤ cntb n R := by
  induction n with
  | zero => exact Nat.le_refl _
  | succ n ih =>
    have := ih (fun x hx => h x (by omega))
    show cntb n P + _ ≤ cntb n R + _
    by_cases e : P n = true
    · rw [if_pos e, if_pos (h n (by omega) e)]; omega
    · rw [if_neg e]; omega
theorem cntb_strict {P R : Nat → Bool} {n i : Nat} (hi : i < n) (h : ∀ x, x < n → P x = true → R x = true) (hP : P i = false) (hR : R i = true) : cntb n P < cntb n R := by
  have a := cntb_ext (P := fun x => if x = i then false else R x) (R := R) hi (fun x _ e => if_neg e)
  have b := cntb_mono (n := n) (P := P) (R := fun x => if x = i then false else R x) (fun x hx e => by
    by_cases q : x = i
    · subst q; rw [hP] at e; cases e
    · rw [if_neg q]; exact h x hx e)
  rw [if_pos hR, if_neg (by rw [if_pos rfl]; decide)] at a
  omega
theorem cntb_not {P : Nat → Bool} : ∀ n, cntb n P + cntb n (fun x => !P x) = n
  | 0 => rfl
  | n + 1 => by
    have := cntb_not (P := P) n
    show cntb n P + _ + (cntb n _ + _) = _
    cases e : P n
    · rw [if_neg (by decide), if_pos (by show (!P n) = true; rw [e]; rfl)]; omega
    · rw [if_pos rfl, if_neg (by show ¬ (!P n) = true; rw [e]; decide)]; omega
theorem cntb_lim {P : Nat → Bool} {k n : Nat} (hk : k ≤ n) : cntb n (fun x => decide (x < k) && P x) = cntb k P := by
  induction n with
  | zero => rw [show k = 0 by omega]; rfl
  | succ n ih =>
    by_cases e : k = n + 1
    · subst e
      exact cntb_cong (fun x hx => by rw [decide_eq_true hx, Bool.true_and])
    · show cntb n _ + _ = _
      rw [ih (by omega)]
      show cntb k P + (if (decide (n < k) && P n) = true then 1 else 0) = _
      rw [decide_eq_false (by omega), Bool.false_and]
      rfl
theorem cntb_nth {P : Nat → Bool} : ∀ {n d : Nat}, d < cntb n P → ∃ k, k < n ∧ P k = true ∧ cntb k P = d
  | 0, d, h => absurd h (Nat.not_lt_zero d)
  | n + 1, d, h => by
    by_cases e : d < cntb n P
    · obtain ⟨k, hk, a, b⟩ := cntb_nth e
      exact ⟨k, by omega, a, b⟩
    · have h2 : d < cntb n P + (if P n = true then 1 else 0) := h
      by_cases q : P n = true
      · rw [if_pos q] at h2
        exact ⟨n, by omega, q, by omega⟩
      · rw [if_neg q] at h2; omega
def isPm (n : Nat) (o : Nat → Nat) : Prop := (∀ i, i < n → o i < n) ∧ ∀ i j, i < n → j < n → o i = o j → i = j
/-- the last one taken out -/
def pmD (o : Nat → Nat) (n : Nat) : Nat → Nat := fun i => if o i = n then o n else o i
theorem isPm_D {n : Nat} {o : Nat → Nat} (h : isPm (n + 1) o) : isPm n (pmD o n) := by
  constructor
  · intro i hi
    unfold pmD
    have a := h.1 i (by omega)
    have b := h.1 n (by omega)
    split
    · rename_i e
      have : o n ≠ n := fun q => absurd (h.2 i n (by omega) (by omega) (e.trans q.symm)) (by omega)
      omega
    · omega
  · intro i j hi hj e
    have inj := fun a b => h.2 a b
    unfold pmD at e
    split at e <;> split at e
    · rename_i a b; exact inj i j (by omega) (by omega) (a.trans b.symm)
    · have := inj n j (by omega) (by omega) e; omega
    · have := inj i n (by omega) (by omega) e; omega
    · exact inj i j (by omega) (by omega) e
theorem isPm_surj : ∀ {n : Nat} {o : Nat → Nat}, isPm n o → ∀ k, k < n → ∃ i, i < n ∧ o i = k
  | 0, _, _, k, hk => absurd hk (Nat.not_lt_zero k)
  | n + 1, o, h, k, hk => by
    by_cases e : o n = k
    · exact ⟨n, by omega, e⟩
    · have ih := isPm_surj (isPm_D h)
      have hn := h.1 n (by omega)
      by_cases q : k = n
      · obtain ⟨i, hi, a⟩ := ih (o n) (by omega)
        unfold pmD at a
        split at a
        · rename_i b; exact ⟨i, by omega, b.trans q.symm⟩
        · have := h.2 i n (by omega) (by omega) a; omega
      · obtain ⟨i, hi, a⟩ := ih k (by omega)
        unfold pmD at a
        split at a
        · exact absurd a e
        · exact ⟨i, by omega, a⟩
theorem isPm_of_surj {n : Nat} {o : Nat → Nat} (h1 : ∀ i, i < n → o i < n) (h2 : ∀ k, k < n → ∃ i, i < n ∧ o i = k) : isPm n o := by
  refine ⟨h1, fun i j hi hj e => ?_⟩
  let s : Nat → Nat := fun k => if h : k < n then Classical.choose (h2 k h) else k
  have hs : ∀ k, k < n → s k < n ∧ o (s k) = k := fun k hk => by
    show (if h : k < n then Classical.choose (h2 k h) else k) < n ∧ o (if h : k < n then Classical.choose (h2 k h) else k) = k
    rw [dif_pos hk]
    exact Classical.choose_spec (h2 k hk)
  have pm : isPm n s := ⟨fun k hk => (hs k hk).1, fun a b ha hb q => by rw [← (hs a ha).2, ← (hs b hb).2, q]⟩
  obtain ⟨a, ha, ea⟩ := isPm_surj pm i hi
  obtain ⟨b, hb, eb⟩ := isPm_surj pm j hj
  have : a = b := by rw [← (hs a ha).2, ← (hs b hb).2, ea, eb, e]
  rw [← ea, ← eb, this]
theorem cntb_pm : ∀ {n : Nat} {o : Nat → Nat}, isPm n o → ∀ P : Nat → Bool, cntb n (fun i => P (o i)) = cntb n P
  | 0, _, _, _ => rfl
  | n + 1, o, h, P => by
    have ih := cntb_pm (isPm_D h) P
    show cntb n (fun i => P (o i)) + (if P (o n) = true then 1 else 0) = cntb n P + _
    by_cases e : o n = n
    · rw [e, ← ih]
      congr 1
      refine cntb_cong (fun x hx => ?_)
      unfold pmD
      rw [if_neg (fun q => absurd (h.2 x n (by omega) (by omega) (q.trans e.symm)) (by omega))]
    · obtain ⟨i, hi, ei⟩ := isPm_surj h n (by omega)
      have hin : i < n := by
        by_cases q : i = n
        · subst q; exact absurd ei e
        · omega
      have := cntb_ext (P := fun x => P (o x)) (R := fun x => P (pmD o n x)) hin (fun x hx q => by
        show P (o x) = P (pmD o n x)
        unfold pmD
        rw [if_neg (fun z => q (h.2 x i (by omega) (by omega) (z.trans ei.symm)))])
      try dsimp only at this
      rw [ih, ei, show pmD o n i = o n by unfold pmD; rw [if_pos ei]] at this
      omega
/-- how many behind are less -/
def lss (n : Nat) (o : Nat → Nat) (i : Nat) : Nat := cntb n (fun q => decide (i < q) && decide (o q < o i))
/-- not among the first i -/
def fre (o : Nat → Nat) (i k : Nat) : Bool := !anyb i (fun j => decide (o j = k))
theorem fre_iff {o : Nat → Nat} {i k : Nat} : fre o i k = true ↔ ∀ j, j < i → o j ≠ k := by
  unfold fre
  rw [Bool.not_eq_true', ← Bool.not_eq_true, anyb_iff]
  constructor
  · intro h j hj e; exact h ⟨j, hj, decide_eq_true e⟩
  · rintro h ⟨j, hj, e⟩; exact h j hj (of_decide_eq_true e)
theorem fre_cong {o u : Nat → Nat} {i : Nat} (h : ∀ j, j < i → o j = u j) (k : Nat) : fre o i k = fre u i k := by
  unfold fre
  rw [anyb_cong (fun p hp => by rw [h p hp])]
theorem lss_fre {n : Nat} {o : Nat → Nat} (h : isPm n o) {i : Nat} (hi : i < n) : lss n o i = cntb (o i) (fre o i) := by
  rw [← cntb_lim (Nat.le_of_lt (h.1 i hi)), ← cntb_pm h]
  refine cntb_cong (fun q hq => ?_)
  have e : ((decide (i < q) && decide (o q < o i)) = true) ↔ ((decide (o q < o i) && fre o i (o q)) = true) := by
    rw [Bool.and_eq_true, Bool.and_eq_true, decide_eq_true_iff, decide_eq_true_iff, fre_iff]
    constructor
    · rintro ⟨a, b⟩
      exact ⟨b, fun j hj e => by have := h.2 j q (by omega) hq e; omega⟩
    · rintro ⟨a, b⟩
      refine ⟨?_, a⟩
      by_cases c : q < i
      · exact absurd rfl (b q c)
      · by_cases d : q = i
        · subst d; omega
        · omega
  exact Bool.eq_iff_iff.mpr e
theorem fre_cnt {n : Nat} {o : Nat → Nat} : ∀ {i : Nat}, (∀ j, j < i → o j < n) → (∀ a b, a < i → b < i → o a = o b → a = b) → cntb n (fre o i) + i = n
  | 0, _, _ => by
    rw [cntb_cong (P := fre o 0) (R := fun _ => true) (fun p _ => rfl)]
    have : ∀ m, cntb m (fun _ => true) = m := fun m => by
      induction m with
      | zero => rfl
      | succ m ih => show cntb m _ + 1 = _; rw [ih]
    rw [this]; rfl
  | i + 1, h1, h2 => by
    have ih := fre_cnt (i := i) (fun j hj => h1 j (by omega)) (fun a b ha hb => h2 a b (by omega) (by omega))
    have e := cntb_ext (P := fre o i) (R := fre o (i + 1)) (h1 i (by omega)) (fun x hx q => by
      refine Bool.eq_iff_iff.mpr ?_
      rw [fre_iff, fre_iff]
      constructor
      · intro a j hj
        by_cases c : j = i
        · subst c; exact fun z => q z.symm
        · exact a j (by omega)
      · intro a j hj; exact a j (by omega))
    have a : fre o i (o i) = true := fre_iff.mpr (fun j hj z => by have := h2 j i (by omega) (by omega) z; omega)
    have b : ¬ fre o (i + 1) (o i) = true := fun z => fre_iff.mp z i (by omega) rfl
    rw [if_pos a, if_neg b] at e
    omega
theorem lss_lt {n : Nat} {o : Nat → Nat} (h : isPm n o) {i : Nat} (hi : i < n) : lss n o i + i < n := by
  have a := fre_cnt (n := n) (o := o) (i := i) (fun j hj => h.1 j (by omega)) (fun a b ha hb => h.2 a b (by omega) (by omega))
  have b := cntb_strict (P := fun k => decide (k < o i) && fre o i k) (R := fre o i) (h.1 i hi) (fun x _ q => (Bool.and_eq_true_iff.mp q).2) (by first | rw [decide_eq_false (by omega), Bool.false_and])
    (fre_iff.mpr (fun j hj z => by have := h.2 j i (by omega) hi z; omega))
  rw [cntb_lim (Nat.le_of_lt (h.1 i hi)), ← lss_fre h hi] at b
  omega
theorem leh_inj {n : Nat} {o u : Nat → Nat} (ho : isPm n o) (hu : isPm n u) (h : ∀ i, i < n → lss n o i = lss n u i) : ∀ i, i < n → o i = u i := by
  intro i
  induction i using Nat.strongRecOn with
  | _ i ih =>
    intro hi
    have e := h i hi
    rw [lss_fre ho hi, lss_fre hu hi, ← cntb_lim (Nat.le_of_lt (ho.1 i hi)), ← cntb_lim (Nat.le_of_lt (hu.1 i hi)),
      cntb_cong (R := fun x => decide (x < o i) && fre u i x) (fun p hp => by rw [fre_cong (fun j hj => ih j hj (by omega))])] at e
    have fo : fre u i (o i) = true := by rw [← fre_cong (fun j hj => ih j hj (by omega))]; exact fre_iff.mpr (fun j hj z => by have := ho.2 j i (by omega) hi z; omega)
    have fu : fre u i (u i) = true := fre_iff.mpr (fun j hj z => by have := hu.2 j i (by omega) hi z; omega)
    rcases Nat.lt_trichotomy (o i) (u i) with c | c | c
    · have := cntb_strict (P := fun x => decide (x < o i) && fre u i x) (R := fun x => decide (x < u i) && fre u i x) (ho.1 i hi)
        (fun x _ q => by rw [Bool.and_eq_true, decide_eq_true_iff] at q ⊢; exact ⟨by omega, q.2⟩) (by first | rw [decide_eq_false (by omega), Bool.false_and]) (by first | rw [decide_eq_true c, fo]; rfl)
      omega
    · exact c
    · have := cntb_strict (R := fun x => decide (x < o i) && fre u i x) (P := fun x => decide (x < u i) && fre u i x) (hu.1 i hi)
        (fun x _ q => by rw [Bool.and_eq_true, decide_eq_true_iff] at q ⊢; exact ⟨by omega, q.2⟩) (by first | rw [decide_eq_false (by omega), Bool.false_and]) (by first | rw [decide_eq_true c, fu]; rfl)
      omega
/-- an order of these numbers of less behind -/
theorem leh_ex {n : Nat} {c : Nat → Nat} (hc : ∀ p, p < n → c p + p < n) : ∃ o, isPm n o ∧ ∀ p, p < n → lss n o p = c p := by
  have step : ∀ i, i ≤ n → ∃ o : Nat → Nat, (∀ j, j < i → o j < n) ∧ (∀ a b, a < i → b < i → o a = o b → a = b) ∧ ∀ p, p < i → cntb (o p) (fre o p) = c p := by
    intro i
    induction i with
    | zero => intro _; exact ⟨id, fun j hj => by omega, fun a b ha => by omega, fun p hp => by omega⟩
    | succ i ih =>
      intro hi
      obtain ⟨o, h1, h2, h3⟩ := ih (by omega)
      have hf := fre_cnt h1 h2
      have := hc i (by omega)
      obtain ⟨k, hk, fk, ck⟩ := cntb_nth (show c i < cntb n (fre o i) by omega)
      have fk2 := fre_iff.mp fk
      have e : ∀ j, j < i → updN o i k j = o j := fun j hj => if_neg (by omega)
      have ei : updN o i k i = k := if_pos rfl
      refine ⟨updN o i k, fun j hj => ?_, fun a b ha hb q => ?_, fun p hp => ?_⟩
      · by_cases q : j = i
        · subst q; rw [ei]; exact hk
        · rw [e j (by omega)]; exact h1 j (by omega)
      · by_cases qa : a = i
        · by_cases qb : b = i
          · omega
          · subst qa; rw [ei, e b (by omega)] at q; exact absurd q.symm (fk2 b (by omega))
        · by_cases qb : b = i
          · subst qb; rw [ei, e a (by omega)] at q; exact absurd q (fk2 a (by omega))
          · rw [e a (by omega), e b (by omega)] at q; exact h2 a b (by omega) (by omega) q
      · by_cases q : p = i
        · subst q
          rw [ei, cntb_cong (R := fre o p) (fun x _ => fre_cong e x)]
          exact ck
        · rw [e p (by omega), cntb_cong (R := fre o p) (fun x _ => fre_cong (fun j hj => e j (by omega)) x)]
          exact h3 p (by omega)
  obtain ⟨o, h1, h2, h3⟩ := step n (Nat.le_refl n)
  exact ⟨o, ⟨h1, h2⟩, fun p hp => by rw [lss_fre ⟨h1, h2⟩ hp]; exact h3 p hp⟩
def fct : Nat → Nat
  | 0 => 1
  | k + 1 => fct k * (k + 1)
theorem fct_pos : ∀ n, 0 < fct n
  | 0 => by decide
  | n + 1 => Nat.mul_pos (fct_pos n) (by omega)
/-- the rank of the first p -/
def rkp (n : Nat) (o : Nat → Nat) : Nat → Nat
  | 0 => 0
  | p + 1 => rkp n o p * (n - p) + lss n o p
def rnk (n : Nat) (o : Nat → Nat) : Nat := rkp n o n
/-- what is left of v behind j digits from the last on -/
def lft (v : Nat) : Nat → Nat
  | 0 => v
  | j + 1 => lft v j / (j + 1)
def dgt (n v p : Nat) : Nat := lft v (n - 1 - p) % (n - p)
theorem dgt_lt {n v p : Nat} (hp : p < n) : dgt n v p + p < n := by
  have : dgt n v p < n - p := Nat.mod_lt _ (by omega)
  omega
theorem lft_fct (v : Nat) : ∀ j, lft v j = v / fct j
  | 0 => (Nat.div_one v).symm
  | j + 1 => by
    show lft v j / (j + 1) = _
    rw [lft_fct v j, Nat.div_div_eq_div_mul]
    rfl
theorem rkp_lt {n : Nat} {o : Nat → Nat} (h : isPm n o) : ∀ {p : Nat}, p ≤ n → (rkp n o p + 1) * fct (n - p) ≤ fct n
  | 0, _ => by show (0 + 1) * fct n ≤ fct n; omega
  | p + 1, hp => by
    have ih := rkp_lt h (p := p) (by omega)
    have hl := lss_lt h (show p < n by omega)
    have e : fct (n - p) = fct (n - (p + 1)) * (n - p) := by
      rw [show n - p = (n - (p + 1)) + 1 by omega]
      rfl
    rw [e] at ih
    show (rkp n o p * (n - p) + lss n o p + 1) * fct (n - (p + 1)) ≤ fct n
    refine Nat.le_trans (Nat.mul_le_mul_right _ (show rkp n o p * (n - p) + lss n o p + 1 ≤ (rkp n o p + 1) * (n - p) by rw [Nat.add_mul]; omega)) ?_
    rw [Nat.mul_assoc, Nat.mul_comm (n - p)]
    exact ih
theorem rnk_lt {n : Nat} {o : Nat → Nat} (h : isPm n o) : rnk n o < fct n := by
  have := rkp_lt h (Nat.le_refl n)
  rw [Nat.sub_self] at this
  show rkp n o n < fct n
  have e : fct 0 = 1 := rfl
  rw [e] at this
  omega
theorem lft_rnk {n : Nat} {o : Nat → Nat} (h : isPm n o) : ∀ {j : Nat}, j ≤ n → lft (rnk n o) j = rkp n o (n - j)
  | 0, _ => rfl
  | j + 1, hj => by
    show lft (rnk n o) j / (j + 1) = _
    rw [lft_rnk h (by omega), show n - j = (n - (j + 1)) + 1 by omega]
    show (rkp n o (n - (j + 1)) * (n - (n - (j + 1))) + lss n o (n - (j + 1))) / (j + 1) = _
    have hl := lss_lt h (show n - (j + 1) < n by omega)
    rw [show n - (n - (j + 1)) = j + 1 by omega, Nat.mul_comm, Nat.mul_add_div (by omega), Nat.div_eq_of_lt (by omega), Nat.add_zero]
theorem dgt_rnk {n : Nat} {o : Nat → Nat} (h : isPm n o) {p : Nat} (hp : p < n) : dgt n (rnk n o) p = lss n o p := by
  unfold dgt
  rw [lft_rnk h (by omega), show n - (n - 1 - p) = p + 1 by omega]
  show (rkp n o p * (n - p) + lss n o p) % (n - p) = _
  have hl := lss_lt h hp
  rw [Nat.mul_comm, Nat.mul_add_mod, Nat.mod_eq_of_lt (by omega)]
theorem rnk_of {n v : Nat} {o : Nat → Nat} (hv : v < fct n) (h : ∀ p, p < n → lss n o p = dgt n v p) : rnk n o = v := by
  have key : ∀ p, p ≤ n → rkp n o p = lft v (n - p) := by
    intro p
    induction p with
    | zero => intro _; rw [Nat.sub_zero, lft_fct, Nat.div_eq_of_lt hv]; rfl
    | succ p ih =>
      intro hp
      show rkp n o p * (n - p) + lss n o p = _
      rw [ih (by omega), h p (by omega)]
      unfold dgt
      rw [show n - p = (n - 1 - p) + 1 by omega]
      show lft v (n - 1 - p) / (n - 1 - p + 1) * (n - 1 - p + 1) + lft v (n - 1 - p) % (n - 1 - p + 1) = lft v (n - (p + 1))
      rw [show n - (p + 1) = n - 1 - p by omega, Nat.mul_comm]
      exact Nat.div_add_mod _ _
  have := key n (Nat.le_refl n)
  rw [Nat.sub_self] at this
  exact this
theorem rnk_inj {n : Nat} {o u : Nat → Nat} (ho : isPm n o) (hu : isPm n u) (h : rnk n o = rnk n u) : ∀ i, i < n → o i = u i :=
  leh_inj ho hu (fun i hi => by rw [← dgt_rnk ho hi, ← dgt_rnk hu hi, h])
theorem rnk_cong {n : Nat} {o u : Nat → Nat} (h : ∀ i, i < n → o i = u i) : rnk n o = rnk n u := by
  have key : ∀ p, p ≤ n → rkp n o p = rkp n u p := by
    intro p
    induction p with
    | zero => intro _; rfl
    | succ p ih =>
      intro hp
      show rkp n o p * (n - p) + lss n o p = rkp n u p * (n - p) + lss n u p
      rw [ih (by omega)]
      congr 1
      exact cntb_cong (fun q hq => by rw [h q hq, h p (by omega)])
  exact key n (Nat.le_refl n)
theorem unr_ex {n v : Nat} (hv : v < fct n) : ∃ o, isPm n o ∧ rnk n o = v := by
  obtain ⟨o, h1, h2⟩ := leh_ex (n := n) (c := dgt n v) (fun p hp => dgt_lt hp)
  exact ⟨o, h1, rnk_of hv h2⟩
noncomputable def unr (n v : Nat) : Nat → Nat := if h : v < fct n then Classical.choose (unr_ex h) else id
theorem unr_pm {n v : Nat} (h : v < fct n) : isPm n (unr n v) := by unfold unr; rw [dif_pos h]; exact (Classical.choose_spec (unr_ex h)).1
theorem unr_rnk {n v : Nat} (h : v < fct n) : rnk n (unr n v) = v := by unfold unr; rw [dif_pos h]; exact (Classical.choose_spec (unr_ex h)).2
theorem unr_of {n : Nat} {o : Nat → Nat} (h : isPm n o) : ∀ i, i < n → unr n (rnk n o) i = o i := rnk_inj (unr_pm (rnk_lt h)) h (unr_rnk (rnk_lt h))
theorem isPm_cong {n : Nat} {o u : Nat → Nat} (h : ∀ i, i < n → o i = u i) (hu : isPm n u) : isPm n o :=
  ⟨fun i hi => by rw [h i hi]; exact hu.1 i hi, fun i j hi hj e => hu.2 i j hi hj (by rw [← h i hi, ← h j hj]; exact e)⟩
/-- two neighbours change -/
def swo (n : Nat) (o : Nat → Nat) (p : Nat) : Nat → Nat := fun x => o (tsp p ((p + 1) % n) x)
theorem tsp_tsp (p q x : Nat) : tsp p q (tsp p q x) = x := by unfold tsp; split <;> (try split) <;> (try split) <;> omega
theorem swo_pm {n p : Nat} {o : Nat → Nat} (hp : p < n) (h : isPm n o) : isPm n (swo n o p) :=
  ⟨fun i hi => h.1 _ (tsp_lt hp (Nat.mod_lt _ (by omega)) hi), fun i j hi hj e => tsp_inj (h.2 _ _ (tsp_lt hp (Nat.mod_lt _ (by omega)) hi) (tsp_lt hp (Nat.mod_lt _ (by omega)) hj) e)⟩
noncomputable def nbr (n v p : Nat) : Nat := rnk n (swo n (unr n v) p)
theorem swo_cong {n p : Nat} {o u : Nat → Nat} (hp : p < n) (h : ∀ i, i < n → o i = u i) : ∀ i, i < n → swo n o p i = swo n u p i := fun i hi => h _ (tsp_lt hp (Nat.mod_lt _ (by omega)) hi)
theorem nbr_rnk {n p : Nat} {o : Nat → Nat} (hp : p < n) (h : isPm n o) : nbr n (rnk n o) p = rnk n (swo n o p) := rnk_cong (swo_cong hp (unr_of h))
theorem nbr_lt {n v p : Nat} (hp : p < n) (hv : v < fct n) : nbr n v p < fct n := rnk_lt (swo_pm hp (unr_pm hv))
theorem nbr_nbr {n v p : Nat} (hp : p < n) (hv : v < fct n) : nbr n (nbr n v p) p = v := by
  rw [show nbr n v p = rnk n (swo n (unr n v) p) from rfl, nbr_rnk hp (swo_pm hp (unr_pm hv)), rnk_cong (u := unr n v) (fun i _ => by unfold swo; rw [tsp_tsp])]
  exact unr_rnk hv
abbrev BS : Type := (Nat → Nat) × (Nat → Nat) × Nat
noncomputable def relax (n v p : Nat) (s : BS) : BS := if s.1 (nbr n v p) = 0 then (updN s.1 (nbr n v p) (s.1 v + 1), updN s.2.1 s.2.2 (nbr n v p), s.2.2 + 1) else s
noncomputable def rlx (n v : Nat) : Nat → BS → BS
  | 0, s => s
  | p + 1, s => relax n v p (rlx n v p s)
noncomputable def bfs (n : Nat) : Nat → Nat → BS → BS
  | 0, _, s => s
  | k + 1, f, s => if f < s.2.2 then bfs n k (f + 1) (rlx n (s.2.1 f) n s) else s
def bfs0 (g : Nat) : BS := (updN (fun _ => 0) g 1, updN (fun _ => 0) 0 g, 1)
noncomputable def bfsG (n g : Nat) : Nat → Nat := (bfs n (fct n + 1) 0 (bfs0 g)).1
/-- what holds while orders are met: behind the first f all is done; i of the neighbours of the one at hand are done -/
def bI (n g f i : Nat) (s : BS) : Prop :=
  (∀ j, j < s.2.2 → s.2.1 j < fct n ∧ s.1 (s.2.1 j) ≠ 0) ∧ (∀ v, v < fct n → s.1 v ≠ 0 → ∃ j, j < s.2.2 ∧ s.2.1 j = v) ∧ (∀ a b, a ≤ b → b < s.2.2 → s.1 (s.2.1 a) ≤ s.1 (s.2.1 b)) ∧
  (f ≤ s.2.2 ∧ (f < s.2.2 → ∀ j, j < s.2.2 → s.1 (s.2.1 j) ≤ s.1 (s.2.1 f) + 1)) ∧ cntb (fct n) (fun v => decide (s.1 v ≠ 0)) = s.2.2 ∧
  (∀ j p, j < f → p < n → s.1 (nbr n (s.2.1 j) p) ≠ 0 ∧ s.1 (nbr n (s.2.1 j) p) ≤ s.1 (s.2.1 j) + 1) ∧
  (f < s.2.2 → ∀ p, p < i → s.1 (nbr n (s.2.1 f) p) ≠ 0 ∧ s.1 (nbr n (s.2.1 f) p) ≤ s.1 (s.2.1 f) + 1) ∧
  (∀ v, v < fct n → 1 < s.1 v → ∃ p, p < n ∧ s.1 (nbr n v p) ≠ 0 ∧ s.1 (nbr n v p) + 1 = s.1 v) ∧ s.1 g = 1
theorem bI.le {n g f i : Nat} {s : BS} (h : bI n g f i s) : s.2.2 ≤ fct n := by rw [← h.2.2.2.2.1]; exact cntb_le _
theorem bI_0 {n g : Nat} (hg : g < fct n) : bI n g 0 0 (bfs0 g) := by
  have e1 : ∀ v, updN (fun _ => 0) g 1 v = if v = g then 1 else 0 := fun v => rfl
  have eg : updN (fun _ => 0) g 1 g = 1 := if_pos rfl
  have e0 : updN (fun _ => 0) 0 g 0 = g := if_pos rfl
  unfold bI bfs0
  dsimp only
  refine ⟨fun j hj => ?_, fun v hv h => ?_, fun a b hab hb => ?_, ⟨by omega, fun _ j hj => ?_⟩, ?_, fun j p hj => by omega, fun _ p hp => by omega, fun v hv h => ?_, eg⟩
  · rw [show j = 0 by omega, e0, eg]; exact ⟨hg, by decide⟩
  · refine ⟨0, by omega, ?_⟩
    rw [e1] at h
    by_cases c : v = g
    · rw [e0, c]
    · rw [if_neg c] at h; exact absurd rfl h
  · rw [show a = b by omega]; exact Nat.le_refl _
  · rw [show j = 0 by omega]; omega
  · have := cntb_ext (P := fun v => decide (updN (fun _ => 0) g 1 v ≠ 0)) (R := fun _ => false) hg (fun x hx q => by first | rw [e1, if_neg q]; rfl)
    have z : ∀ m, cntb m (fun _ => false) = 0 := fun m => by
      induction m with
      | zero => rfl
      | succ m ih => show cntb m _ + _ = 0; rw [ih]; rfl
    try dsimp only at this
    rw [z, eg] at this
    simpa using this
  · rw [e1] at h
    split at h <;> omega
theorem bI_relax {n g f i : Nat} {s : BS} (h : bI n g f i s) (hf : f < s.2.2) (hi : i < n) : bI n g f (i + 1) (relax n (s.2.1 f) i s) := by
  obtain ⟨I1, I2, I3, ⟨I4a, I4⟩, I5, I6, I7, I8, I9⟩ := h
  have hvf := (I1 f hf).1
  have hr := nbr_lt hi hvf
  unfold relax
  by_cases c : s.1 (nbr n (s.2.1 f) i) = 0
  · rw [if_pos c]
    generalize er : nbr n (s.2.1 f) i = r at *
    obtain ⟨G, Ln, t⟩ := s
    dsimp only at *
    have eg : ∀ v, G v ≠ 0 → updN G r (G (Ln f) + 1) v = G v := fun v hv => if_neg (fun e => by subst e; exact hv c)
    have er2 : updN G r (G (Ln f) + 1) r = G (Ln f) + 1 := if_pos rfl
    have el : ∀ j, j < t → updN Ln t r j = Ln j := fun j hj => if_neg (by omega)
    have et : updN Ln t r t = r := if_pos rfl
    unfold bI
    dsimp only
    refine ⟨fun j hj => ?_, fun v hv h => ?_, fun a b hab hb => ?_, ⟨by omega, fun _ j hj => ?_⟩, ?_, fun j p hj hp => ?_, fun _ p hp => ?_, fun v hv h => ?_, ?_⟩
    · by_cases q : j = t
      · subst q; rw [et, er2]; exact ⟨hr, by omega⟩
      · rw [el j (by omega), eg _ (I1 j (by omega)).2]; exact I1 j (by omega)
    · by_cases q : v = r
      · exact ⟨t, by omega, by rw [et, q]⟩
      · have : updN G r (G (Ln f) + 1) v = G v := if_neg q
        rw [this] at h
        obtain ⟨j, hj, e⟩ := I2 v hv h
        exact ⟨j, by omega, by rw [el j hj]; exact e⟩
    · by_cases q : b = t
      · subst q
        rw [et, er2]
        by_cases q2 : a = b
        · subst q2; rw [et, er2]; exact Nat.le_refl _
        · rw [el a (by omega), eg _ (I1 a (by omega)).2]; exact I4 hf a (by omega)
      · rw [el a (by omega), el b (by omega), eg _ (I1 a (by omega)).2, eg _ (I1 b (by omega)).2]; exact I3 a b hab (by omega)
    · rw [el f hf, eg _ (I1 f hf).2]
      by_cases q : j = t
      · subst q; rw [et, er2]; exact Nat.le_refl _
      · rw [el j (by omega), eg _ (I1 j (by omega)).2]; exact I4 hf j (by omega)
    · have := cntb_ext (P := fun v => decide (G v ≠ 0)) (R := fun v => decide (updN G r (G (Ln f) + 1) v ≠ 0)) hr (fun x hx q => by first | rw [show updN G r (G (Ln f) + 1) x = G x from if_neg q])
      try dsimp only at this
      rw [er2, c, I5, if_pos (decide_eq_true (by omega)), if_neg (by decide)] at this
      omega
    · have := I6 j p hj hp
      rw [el j (by omega), eg _ this.1, eg _ (I1 j (by omega)).2]; exact this
    · rw [el f hf, eg _ (I1 f hf).2]
      by_cases q : p = i
      · subst q; rw [er, er2]; exact ⟨by omega, Nat.le_refl _⟩
      · have := I7 hf p (by omega)
        rw [eg _ this.1]; exact this
    · by_cases q : v = r
      · subst q
        have e2 : nbr n v i = Ln f := by rw [← er]; exact nbr_nbr hi hvf
        exact ⟨i, hi, by rw [e2, eg _ (I1 f hf).2]; exact (I1 f hf).2, by rw [e2, eg _ (I1 f hf).2, er2]⟩
      · rw [show updN G r (G (Ln f) + 1) v = G v from if_neg q] at h ⊢
        obtain ⟨p, hp, a, b⟩ := I8 v hv h
        exact ⟨p, hp, by rw [eg _ a]; exact a, by rw [eg _ a]; exact b⟩
    · rw [eg _ (by omega)]; exact I9
  · rw [if_neg c]
    refine ⟨I1, I2, I3, ⟨I4a, I4⟩, I5, I6, fun _ p hp => ?_, I8, I9⟩
    by_cases q : p = i
    · subst q
      refine ⟨c, ?_⟩
      obtain ⟨j, hj, e⟩ := I2 _ hr c
      rw [← e]
      exact I4 hf j hj
    · exact I7 hf p (by omega)
theorem relax_f {n v i f : Nat} {s : BS} (hf : f < s.2.2) : (relax n v i s).2.1 f = s.2.1 f ∧ s.2.2 ≤ (relax n v i s).2.2 := by
  unfold relax
  split
  · exact ⟨if_neg (by omega), by dsimp only; omega⟩
  · exact ⟨rfl, Nat.le_refl _⟩
theorem bI_rlx {n g f : Nat} {s : BS} (h : bI n g f 0 s) (hf : f < s.2.2) : ∀ i, i ≤ n → bI n g f i (rlx n (s.2.1 f) i s) ∧ (rlx n (s.2.1 f) i s).2.1 f = s.2.1 f ∧ f < (rlx n (s.2.1 f) i s).2.2
  | 0, _ => ⟨h, rfl, hf⟩
  | i + 1, hi => by
    obtain ⟨a, b, c⟩ := bI_rlx h hf i (by omega)
    have d := bI_relax a c (by omega)
    rw [b] at d
    have e := relax_f (n := n) (v := s.2.1 f) (i := i) c
    exact ⟨d, e.1.trans b, Nat.lt_of_lt_of_le c e.2⟩
theorem bI_next {n g f : Nat} {s : BS} (h : bI n g f n s) (hf : f < s.2.2) : bI n g (f + 1) 0 s := by
  obtain ⟨I1, I2, I3, ⟨I4a, I4⟩, I5, I6, I7, I8, I9⟩ := h
  refine ⟨I1, I2, I3, ⟨by omega, fun h2 j hj => ?_⟩, I5, fun j p hj hp => ?_, fun _ p hp => by omega, I8, I9⟩
  · have := I3 f (f + 1) (by omega) h2
    have := I4 hf j hj
    omega
  · by_cases q : j = f
    · subst q; exact I7 hf p hp
    · exact I6 j p (by omega) hp
theorem bfs_end {n k f : Nat} {s : BS} (h : ¬ f < s.2.2) : bfs n k f s = s := by
  cases k with
  | zero => rfl
  | succ k => unfold bfs; rw [if_neg h]
theorem bfs_go {n k f : Nat} {s : BS} (h : f < s.2.2) : bfs n (k + 1) f s = bfs n k (f + 1) (rlx n (s.2.1 f) n s) := by
  conv => lhs; unfold bfs
  rw [if_pos h]
theorem bfs_bI {n g : Nat} : ∀ {k f : Nat} {s : BS}, bI n g f 0 s → fct n + 1 ≤ f + k → ∃ f2, bI n g f2 0 (bfs n k f s) ∧ ¬ f2 < (bfs n k f s).2.2
  | 0, f, s, h, hk => ⟨f, h, by have := h.le; show ¬ f < s.2.2; omega⟩
  | k + 1, f, s, h, hk => by
    by_cases c : f < s.2.2
    · rw [bfs_go c]
      obtain ⟨a, b, d⟩ := bI_rlx h c n (Nat.le_refl n)
      exact bfs_bI (bI_next a d) (by omega)
    · rw [bfs_end c]
      exact ⟨f, h, c⟩
theorem bfs_Q {n g : Nat} (hg : g < fct n) : bfsG n g g = 1 ∧ (∀ v, v < fct n → bfsG n g v ≠ 0 → ∀ p, p < n → bfsG n g (nbr n v p) ≠ 0 ∧ bfsG n g (nbr n v p) ≤ bfsG n g v + 1) ∧
    ∀ v, v < fct n → 1 < bfsG n g v → ∃ p, p < n ∧ bfsG n g (nbr n v p) + 1 = bfsG n g v := by
  obtain ⟨f, ⟨I1, I2, I3, ⟨I4a, I4⟩, I5, I6, I7, I8, I9⟩, h⟩ := bfs_bI (bI_0 hg) (k := fct n + 1) (f := 0) (by omega)
  refine ⟨I9, fun v hv hm p hp => ?_, fun v hv hm => ?_⟩
  · obtain ⟨j, hj, rfl⟩ := I2 v hv hm
    exact I6 j p (by omega) hp
  · obtain ⟨p, hp, _, b⟩ := I8 v hv hm
    exact ⟨p, hp, b⟩
