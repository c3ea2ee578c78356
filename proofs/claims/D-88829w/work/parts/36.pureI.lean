/-! ===== PLAIN: all orders are met, soon; the way back ===== -/
theorem bfs_way {n g : Nat} (hg : g < fct n) {t : Nat → Nat} (ht : isPm n t) : ∀ k, k ≤ n → ∃ o, isPm n o ∧ (∀ i, i < k → o i = t i) ∧ bfsG n g (rnk n o) ≠ 0 ∧ bfsG n g (rnk n o) ≤ k * n + 1 := by
  obtain ⟨Q0, Q1, -⟩ := bfs_Q hg
  intro k
  induction k with
  | zero => intro _; exact ⟨unr n g, unr_pm hg, fun i hi => by omega, by rw [unr_rnk hg, Q0]; decide, by rw [unr_rnk hg, Q0]; omega⟩
  | succ k ih =>
    intro hk
    obtain ⟨o, ho, ha, hm, hb⟩ := ih (by omega)
    have inner : ∀ m, ∀ o : Nat → Nat, isPm n o → (∀ i, i < k → o i = t i) → k + m < n → o (k + m) = t k → bfsG n g (rnk n o) ≠ 0 → ∃ u, isPm n u ∧ (∀ i, i < k + 1 → u i = t i) ∧ bfsG n g (rnk n u) ≠ 0 ∧ bfsG n g (rnk n u) ≤ bfsG n g (rnk n o) + m := by
      intro m
      induction m with
      | zero =>
        intro o ho ha hm he hz
        refine ⟨o, ho, fun i hi => ?_, hz, by omega⟩
        by_cases e : i = k
        · subst e; exact he
        · exact ha i (by omega)
      | succ m ihm =>
        intro o ho ha hm he hz
        have e1 : (k + m + 1) % n = k + m + 1 := Nat.mod_eq_of_lt (by omega)
        have q := Q1 (rnk n o) (rnk_lt ho) hz (k + m) (by omega)
        rw [nbr_rnk (by omega) ho] at q
        obtain ⟨u, a, b, c, d⟩ := ihm (swo n o (k + m)) (swo_pm (by omega) ho) (fun i hi => by
          unfold swo tsp
          rw [e1, if_neg (by omega), if_neg (by omega)]
          exact ha i hi) (by omega) (by
          unfold swo tsp
          rw [e1, if_neg (by omega), if_pos rfl]
          exact he) q.1
        exact ⟨u, a, b, c, by omega⟩
    obtain ⟨j, hj, ej⟩ := isPm_surj ho (t k) (ht.1 k (by omega))
    have hjk : k ≤ j := by
      by_cases c : j < k
      · have := ht.2 j k (by omega) (by omega) (by rw [← ha j c]; exact ej)
        omega
      · omega
    obtain ⟨u, a, b, c, d⟩ := inner (j - k) o ho ha (by omega) (by rw [show k + (j - k) = j by omega]; exact ej) hm
    refine ⟨u, a, b, c, ?_⟩
    rw [Nat.succ_mul]
    omega
theorem bfs_all {n g v : Nat} (hg : g < fct n) (hv : v < fct n) : bfsG n g v ≠ 0 ∧ bfsG n g v ≤ n * n + 1 := by
  obtain ⟨o, ho, ha, hm, hb⟩ := bfs_way hg (unr_pm hv) n (Nat.le_refl n)
  have e : rnk n o = v := by rw [rnk_cong ha]; exact unr_rnk hv
  rw [e] at hm hb
  exact ⟨hm, hb⟩
theorem fstb_at {P : Nat → Bool} {p : Nat} (hp : P p = true) : ∀ {k b : Nat}, (∀ q, b ≤ q → q < p → P q = false) → b ≤ p → p < b + k → fstb P k b = p
  | 0, b, _, _, _ => by omega
  | k + 1, b, h, h1, h2 => by
    by_cases e : b = p
    · subst e; exact fstb_t hp
    · rw [fstb_f (h b (Nat.le_refl b) (by omega))]
      exact fstb_at hp (fun q a c => h q (by omega) c) (by omega) (by omega)
/-- the first place by which an order comes nearer -/
noncomputable def fsp (n : Nat) (G : Nat → Nat) (v : Nat) : Nat := fstb (fun p => decide (G (nbr n v p) + 1 = G v)) n 0
/-- the way back, by its orders -/
noncomputable def gwy (n : Nat) (G : Nat → Nat) (v : Nat) : Nat → Nat
  | 0 => v
  | k + 1 => nbr n (gwy n G v k) (fsp n G (gwy n G v k))
theorem fsp_at {n v p : Nat} {G : Nat → Nat} (hp : p < n) (h : G (nbr n v p) + 1 = G v) (hn : ∀ q, q < p → ¬ G (nbr n v q) + 1 = G v) : fsp n G v = p :=
  fstb_at (decide_eq_true h) (fun q _ hq => decide_eq_false (hn q hq)) (Nat.zero_le p) (by omega)
noncomputable def o_fewest (t what : Int32) (M : nMem) : Int32 × nMem :=
  let n := mN M 1
  let z := t.toNatClampNeg
  let gl := fun p => (M 59 (60 * z + p)).toNatClampNeg
  let G := bfsG n (rnk n gl)
  let v := rnk n (mA M 6)
  (if nrg t (nI 0) (nI 5) = false ∨ what < -1 then -1 else if n = 0 ∨ 7 < n then -3 else if M 57 z = -1 then -11 else if M 57 z ≠ nI 0 then -12 else if mA M 58 z < n then -13
  else @ite _ ((∀ p, p < n → nin (M 59 (60 * z + p)) n = true) ∧ isPm n gl) (Classical.propDecidable _)
    (if what = -1 then nI (G v - 1) else if what < nI (G v - 1) then nI (fsp n G (gwy n G v what.toNatClampNeg)) else -1) (-2), M)
theorem fct_le {n : Nat} (h : n ≤ 7) : fct n ≤ 5040 := by
  have : ∀ n : Fin 8, fct n.val ≤ 5040 := by decide
  exact this ⟨n, by omega⟩
theorem lft_le (v : Nat) : ∀ j, lft v j ≤ v
  | 0 => Nat.le_refl v
  | j + 1 => Nat.le_trans (Nat.div_le_self _ _) (lft_le v j)
theorem sh_c {k : Nat} (hk : k < 31) : ((nI k &&& 31).toBitVec.smod 32).toNat = k := by
  have : ∀ k : Fin 31, ((nI k.val &&& 31).toBitVec.smod 32).toNat = k.val := by decide +kernel
  exact this ⟨k, hk⟩
theorem and1 {a : Nat} (h : a < 2 ^ 31) : nI a &&& nI 1 = nI (a % 2) := by
  apply Int32.toBitVec_inj.mp
  rw [Int32.toBitVec_and]
  apply BitVec.eq_of_toNat_eq
  rw [BitVec.toNat_and]
  have e : ∀ {x : Nat}, x < 2 ^ 31 → (nI x).toBitVec.toNat = x := fun {x} hx => by
    have := pk_shl (nI x) 0 0 (by decide)
    show (BitVec.ofInt 32 (x : Int)).toNat = x
    rw [BitVec.toNat_ofInt]
    omega
  rw [e h, e (by decide), e (by omega), Nat.and_one_is_mod]
theorem bitv {u k : Nat} (hu : u < 2 ^ 31) (hk : k < 31) : nI u >>> (nI k &&& 31) &&& nI 1 = nI (u / 2 ^ k % 2) := by
  rw [pk_shrN hu _ k (sh_c hk)]
  exact and1 (Nat.lt_of_le_of_lt (Nat.div_le_self _ _) hu)
theorem bitt {u k : Nat} : u / 2 ^ k % 2 = if u.testBit k = true then 1 else 0 := by
  by_cases c : u / 2 ^ k % 2 = 1
  · rw [if_pos (by rw [Nat.testBit_eq_decide_div_mod_eq]; exact decide_eq_true c)]
    exact c
  · rw [if_neg (by rw [Nat.testBit_eq_decide_div_mod_eq]; exact fun z => c (of_decide_eq_true z))]
    omega
theorem orN {a b : Nat} (ha : a < 2 ^ 31) (hb : b < 2 ^ 31) : nI a ||| nI b = nI (a ||| b) := by
  apply Int32.toBitVec_inj.mp
  rw [Int32.toBitVec_or]
  apply BitVec.eq_of_toNat_eq
  rw [BitVec.toNat_or]
  have e : ∀ {x : Nat}, x < 2 ^ 31 → (nI x).toBitVec.toNat = x := fun {x} hx => by
    show (BitVec.ofInt 32 (x : Int)).toNat = x
    rw [BitVec.toNat_ofInt]
    omega
  rw [e ha, e hb, e (Nat.or_lt_two_pow ha hb)]
theorem shl1 {k : Nat} (hk : k < 31) : nI 1 <<< (nI k &&& 31) = nI (2 ^ k) := by
  have h : (2 : Nat) ^ k < 2 ^ 31 := Nat.pow_lt_pow_right (by decide) hk
  rw [pk_shlN _ k (sh_c hk) (by omega), Nat.one_mul]
/-- places filled up to i, with the numbers c of less free -/
def pOrd (n : Nat) (c o : Nat → Nat) (i : Nat) : Prop := (∀ j, j < i → o j < n) ∧ (∀ a b, a < i → b < i → o a = o b → a = b) ∧ ∀ p, p < i → cntb (o p) (fre o p) = c p
theorem pOrd_s {n i k : Nat} {c o : Nat → Nat} (h : pOrd n c o i) (hk : k < n) (fk : fre o i k = true) (ck : cntb k (fre o i) = c i) : pOrd n c (updN o i k) (i + 1) := by
  obtain ⟨h1, h2, h3⟩ := h
  have fk2 := fre_iff.mp fk
  have e : ∀ j, j < i → updN o i k j = o j := fun j hj => if_neg (by omega)
  have ei : updN o i k i = k := if_pos rfl
  refine ⟨fun j hj => ?_, fun a b ha hb q => ?_, fun p hp => ?_⟩
  · by_cases q : j = i
    · subst q; rw [ei]; exact hk
    · rw [e j (by omega)]; exact h1 j (by omega)
  · by_cases qa : a = i
    · by_cases qb : b = i
      · omega
      · subst qa; rw [ei, e b (by omega)] at q; exact absurd q.symm (fk2 b (by omega))
    · by_cases qb : b = i
      · subst qb; rw [ei, e a (by omega)] at q; exact absurd q (fk2 a (by omega))
      · rw [e a (by omega), e b (by omega)] at q; exact h2 a b (by omega) (by omega) q
  · by_cases q : p = i
    · subst q
      rw [ei, cntb_cong (R := fre o p) (fun x _ => fre_cong e x)]
      exact ck
    · rw [e p (by omega), cntb_cong (R := fre o p) (fun x _ => fre_cong (fun j hj => e j (by omega)) x)]
      exact h3 p (by omega)
theorem pOrd_e {n v : Nat} {o : Nat → Nat} (h : pOrd n (dgt n v) o n) (hv : v < fct n) : ∀ i, i < n → o i = unr n v i := by
  have pm : isPm n o := ⟨h.1, h.2.1⟩
  have r : rnk n o = v := rnk_of hv (fun p hp => by rw [lss_fre pm hp]; exact h.2.2 p hp)
  intro i hi
  rw [← unr_of pm i hi, r]
theorem fre_s {o : Nat → Nat} {i k x : Nat} : fre (updN o i k) (i + 1) x = (fre o i x && decide (x ≠ k)) := by
  refine Bool.eq_iff_iff.mpr ?_
  rw [Bool.and_eq_true, fre_iff, fre_iff, decide_eq_true_iff]
  constructor
  · intro h
    refine ⟨fun j hj e => h j (by omega) ((if_neg (by omega)).trans e), fun e => h i (by omega) ((if_pos rfl).trans e.symm)⟩
  · rintro ⟨a, b⟩ j hj e
    unfold updN at e
    split at e
    · exact b e.symm
    · exact a j (by omega) e
theorem cntb_zero {P : Nat → Bool} : ∀ {n : Nat}, (∀ x, x < n → P x = false) → cntb n P = 0
  | 0, _ => rfl
  | n + 1, h => by
    show cntb n P + _ = 0
    rw [cntb_zero (fun x hx => h x (by omega)), h n (by omega)]
    rfl
theorem pmi_inc (q : Nat) : pmi q + nI 1 = pmi (q + 1) := by
  unfold pmi
  rw [← nI_add, Int32.add_assoc, Int32.add_comm (-1), ← Int32.add_assoc]
theorem pmi_ok {q : Nat} (h : q ≠ 0) : pmi q = nI (q - 1) := by
  obtain ⟨z, rfl⟩ : ∃ z, q = z + 1 := ⟨q - 1, by omega⟩
  exact pk_m1 z
theorem relax_y {n v p t : Nat} {G Ln : Nat → Nat} (h : G (nbr n v p) = 0) : relax n v p (G, Ln, t) = (updN G (nbr n v p) (G v + 1), updN Ln t (nbr n v p), t + 1) := by unfold relax; exact if_pos h
theorem relax_n {n v p t : Nat} {G Ln : Nat → Nat} (h : ¬ G (nbr n v p) = 0) : relax n v p (G, Ln, t) = (G, Ln, t) := by unfold relax; exact if_neg h
theorem rlx_G {n v w : Nat} {s : BS} (h : s.1 w ≠ 0) : ∀ p, (rlx n v p s).1 w = s.1 w
  | 0 => rfl
  | p + 1 => by
    have ih := rlx_G (n := n) (v := v) h p
    show (relax n v p (rlx n v p s)).1 w = _
    unfold relax
    split
    · rename_i c
      rw [← ih]
      exact if_neg (fun e => by subst e; rw [ih] at c; exact h c)
    · exact ih
theorem full_bits {n u : Nat} (hu : u < 2 ^ n) : u = 2 ^ n - 1 ↔ ∀ x, x < n → u.testBit x = true := by
  constructor
  · rintro rfl x hx
    rw [Nat.testBit_two_pow_sub_one]
    exact decide_eq_true hx
  · intro h
    apply Nat.eq_of_testBit_eq
    intro i
    rw [Nat.testBit_two_pow_sub_one]
    by_cases c : i < n
    · rw [h i c, decide_eq_true c]
    · rw [decide_eq_false c]
      exact Nat.testBit_lt_two_pow (Nat.lt_of_lt_of_le hu (Nat.pow_le_pow_right (by decide) (by omega)))
theorem nn_ge {w : Int32} (h : -1 ≤ w) (h3 : ¬ w = -1) : ¬ w < 0 := by
  have e3 : w.toInt ≠ -1 := fun e => h3 (Int32.toInt_inj.mp (e.trans (by decide)))
  rw [Int32.le_iff_toInt_le, show (-1 : Int32).toInt = -1 by decide] at h
  rw [Int32.lt_iff_toInt_lt, Int32.toInt_zero]
  omega
