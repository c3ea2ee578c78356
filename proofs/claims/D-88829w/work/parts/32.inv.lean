/-! ===== PLAIN: the reference's invariant goes on ===== -/
theorem bnf {b : Bool} (h : ¬ b = false) : b = true := by cases b; exact absurd rfl h; rfl
theorem bnt {b : Bool} (h : ¬ b = true) : b = false := by cases b; rfl; exact absurd rfl h
theorem nN {X : nMem} {k n : Nat} (h : X k 0 = nI n) (hn : n < 2 ^ 31) : X k 0 = nI (mN X k) := by rw [mN_of h hn]; exact h
theorem nA9 {X : nMem} {k i n : Nat} (h : X k i = nI n) (hn : n < 2 ^ 31) : X k i = nI (mA X k i) := by rw [mA_of h hn]; exact h
theorem mInv_eq {M M2 : nMem} (e : mEq M M2) (hI : mInv M) : mInv M2 := by
  have eN : ∀ k, k ∉ mScr → mN M2 k = mN M k := fun k hk => by unfold mN; rw [e.2.1 k hk]
  have eA : ∀ k i, k ∉ mScr → k ≠ 28 → k ≠ 29 → mIsA k = true → mA M2 k i = mA M k i := fun k i a b c d => by unfold mA; rw [e.1 k a b c d]
  have e28 : ∀ i, i < 10 → mA M2 28 i = mA M 28 i := fun i hi => by unfold mA; rw [e.2.2.1 i hi]
  have e29 : ∀ i, i < 3000 → mA M2 29 i = mA M 29 i := fun i hi => by unfold mA; rw [e.2.2.2 i hi]
  obtain ⟨⟨h0, b0⟩, ⟨h1, b1a, b1⟩, ⟨h11, b11⟩, ⟨h14, b14⟩, ⟨h15, b15, b15n⟩, ⟨h20, b20⟩, ⟨h26, b26⟩, ⟨h27, b27⟩, ⟨h55, b55⟩, iP, iH, iHi, iHd, iC, iT, iF, iG, iS, iZ⟩ := hI
  have eB : mB M2 11 = mB M 11 := by unfold mB; rw [e.2.1 11 (by decide)]
  refine ⟨⟨?_, ?_⟩, ⟨?_, ?_, ?_⟩, ⟨?_, ?_⟩, ⟨?_, ?_⟩, ⟨?_, ?_, ?_⟩, ⟨?_, ?_⟩, ⟨?_, ?_⟩, ⟨?_, ?_⟩, ⟨?_, ?_⟩, fun i hi => ?_, fun p hp => ?_, fun p q hp hq => ?_, fun hb p hp => ?_, fun r p hr hp => ?_, fun k hk => ?_, fun f hf => ?_, fun f k hf hk => ?_, fun i hi => ?_, fun t ht => ?_⟩
  all_goals try rw [eN 0 (by decide)] at *
  all_goals try rw [eN 1 (by decide)] at *
  all_goals try rw [eN 14 (by decide)] at *
  all_goals try rw [eN 15 (by decide)] at *
  all_goals try rw [eN 20 (by decide)] at *
  all_goals try rw [eN 26 (by decide)] at *
  all_goals try rw [eN 27 (by decide)] at *
  all_goals try rw [eN 55 (by decide)] at *
  all_goals try rw [eB] at *
  · rw [← e.2.1 0 (by decide)]; exact h0
  · exact b0
  · rw [← e.2.1 1 (by decide)]; exact h1
  · exact b1a
  · exact b1
  · rw [← e.2.1 11 (by decide)]; exact h11
  · exact b11
  · rw [← e.2.1 14 (by decide)]; exact h14
  · exact b14
  · rw [← e.2.1 15 (by decide)]; exact h15
  · exact b15
  · exact b15n
  · rw [← e.2.1 20 (by decide)]; exact h20
  · exact b20
  · rw [← e.2.1 26 (by decide)]; exact h26
  · exact b26
  · rw [← e.2.1 27 (by decide)]; exact h27
  · exact b27
  · rw [← e.2.1 55 (by decide)]; exact h55
  · exact b55
  · rw [eA 2 i (by decide) (by decide) (by decide) rfl, eA 3 i (by decide) (by decide) (by decide) rfl, eA 4 i (by decide) (by decide) (by decide) rfl, ← e.1 2 (by decide) (by decide) (by decide) rfl, ← e.1 3 (by decide) (by decide) (by decide) rfl, ← e.1 4 (by decide) (by decide) (by decide) rfl]
    exact iP i hi
  · rw [eA 6 p (by decide) (by decide) (by decide) rfl, ← e.1 6 (by decide) (by decide) (by decide) rfl]; exact iH p hp
  · rw [eA 6 p (by decide) (by decide) (by decide) rfl, eA 6 q (by decide) (by decide) (by decide) rfl]; exact iHi p q hp hq
  · rw [eA 6 p (by decide) (by decide) (by decide) rfl]; exact iHd hb p hp
  · rw [eA 18 _ (by decide) (by decide) (by decide) rfl, ← e.1 18 (by decide) (by decide) (by decide) rfl]; exact iC r p hr hp
  · rw [eA 21 _ (by decide) (by decide) (by decide) rfl, eA 22 _ (by decide) (by decide) (by decide) rfl, ← e.1 21 (by decide) (by decide) (by decide) rfl, ← e.1 22 (by decide) (by decide) (by decide) rfl]; exact iT k hk
  · rw [e28 f (by omega), ← e.2.2.1 f (by omega)]; exact iF f hf
  · rw [e28 f (by omega)] at hk
    have := (iF f hf).2
    rw [e29 _ (by omega), ← e.2.2.2 _ (by omega)]; exact iG f k hf hk
  · rw [eA 16 _ (by decide) (by decide) (by decide) rfl, ← e.1 16 (by decide) (by decide) (by decide) rfl]; exact iS i hi
  · rw [eA 58 _ (by decide) (by decide) (by decide) rfl, ← e.1 58 (by decide) (by decide) (by decide) rfl, ← e.1 57 (by decide) (by decide) (by decide) rfl]; exact iZ t ht
/-- a transposition of two places -/
def tsp (p q x : Nat) : Nat := if x = q then p else if x = p then q else x
theorem swp_tsp (f : Nat → Int32) (p q x : Nat) : swp f p q x = f (tsp p q x) := by
  unfold swp tsp upd
  split
  · rfl
  · split <;> rfl
theorem tsp_lt {p q x n : Nat} (hp : p < n) (hq : q < n) (hx : x < n) : tsp p q x < n := by unfold tsp; split; exact hp; split; exact hq; exact hx
theorem tsp_inj {p q x y : Nat} (h : tsp p q x = tsp p q y) : x = y := by unfold tsp at h; split at h <;> split at h <;> (try split at h) <;> (try split at h) <;> omega
/-- a walk's turning of places -/
def trn (how n x : Nat) : Nat := if how = 0 then (x + (n - 1)) % n else (x + 1) % n
theorem tur_trn {how n : Nat} {f : Nat → Int32} {x : Nat} (hx : x < n) : tur how n f x = f (trn how n x) := by
  unfold tur trn
  rw [if_pos hx]
  split <;> rfl
theorem trn_lt {how n x : Nat} (hx : x < n) : trn how n x < n := by unfold trn; split <;> exact Nat.mod_lt _ (by omega)
theorem mod_w {x n : Nat} (hx : x < n) : (x + 1) % n = if x + 1 = n then 0 else x + 1 := by
  split
  · rename_i e; rw [e, Nat.mod_self]
  · exact Nat.mod_eq_of_lt (by omega)
theorem mod_v {x n : Nat} (hx : x < n) : (x + (n - 1)) % n = if x = 0 then n - 1 else x - 1 := by
  split
  · rename_i e; rw [e, Nat.zero_add]; exact Nat.mod_eq_of_lt (by omega)
  · rw [show x + (n - 1) = (x - 1) + n by omega, Nat.add_mod_right]; exact Nat.mod_eq_of_lt (by omega)
theorem trn_inj {how n x y : Nat} (hx : x < n) (hy : y < n) (h : trn how n x = trn how n y) : x = y := by
  unfold trn at h
  split at h
  · rw [mod_v hx, mod_v hy] at h
    split at h <;> split at h <;> omega
  · rw [mod_w hx, mod_w hy] at h
    split at h <;> split at h <;> omega
theorem inv_person {M : nMem} (hI : mInv M) (k r a : Int32) : mInv (o_person k r a M).2 := by
  unfold o_person
  split; exact hI
  split; exact hI
  split; exact hI
  split; exact hI
  rename_i h1 h2 h3 h4
  obtain ⟨zk, zk1, zk2, rfl⟩ := (nrg_nn (by decide) (by decide)).mp (bnf h1)
  obtain ⟨zr, zr1, zr2, rfl⟩ := (nrg_nn (by decide) (by decide)).mp (bnf h2)
  obtain ⟨za, za1, za2, rfl⟩ := (nrg_nn (by decide) (by decide)).mp (bnf h3)
  obtain ⟨⟨h0, b0⟩, H1, H11, H14, H15, H20, H26, H27, H55, iP, iR⟩ := hI
  have e0 := mN_of (M := mset (mset (mset (mset M 2 (upd (M 2) (mN M 0) (nI zk))) 3 (upd (M 3) (mN M 0) (nI zr))) 4 (upd (M 4) (mN M 0) (nI za))) 0 (fun _ => nI (mN M 0 + 1))) (k := 0) (n := mN M 0 + 1) rfl (by omega)
  refine ⟨⟨nN (n := mN M 0 + 1) rfl (by omega), by rw [e0]; omega⟩, H1, H11, H14, H15, H20, H26, H27, H55, fun i hi => ?_, iR⟩
  rw [e0] at hi
  dsimp only
  by_cases e : i = mN M 0
  · subst e
    have q2 : (mset (mset (mset (mset M 2 (upd (M 2) (mN M 0) (nI zk))) 3 (upd (M 3) (mN M 0) (nI zr))) 4 (upd (M 4) (mN M 0) (nI za))) 0 (fun _ => nI (mN M 0 + 1))) 2 (mN M 0) = nI zk := if_pos rfl
    have q3 : (mset (mset (mset (mset M 2 (upd (M 2) (mN M 0) (nI zk))) 3 (upd (M 3) (mN M 0) (nI zr))) 4 (upd (M 4) (mN M 0) (nI za))) 0 (fun _ => nI (mN M 0 + 1))) 3 (mN M 0) = nI zr := if_pos rfl
    have q4 : (mset (mset (mset (mset M 2 (upd (M 2) (mN M 0) (nI zk))) 3 (upd (M 3) (mN M 0) (nI zr))) 4 (upd (M 4) (mN M 0) (nI za))) 0 (fun _ => nI (mN M 0 + 1))) 4 (mN M 0) = nI za := if_pos rfl
    exact ⟨⟨nA9 q2 (by omega), by rw [mA_of q2 (by omega)]; omega⟩, ⟨nA9 q3 (by omega), by rw [mA_of q3 (by omega)]; omega⟩, ⟨nA9 q4 (by omega), by rw [mA_of q4 (by omega)]; omega⟩⟩
  · have q2 : (mset (mset (mset (mset M 2 (upd (M 2) (mN M 0) (nI zk))) 3 (upd (M 3) (mN M 0) (nI zr))) 4 (upd (M 4) (mN M 0) (nI za))) 0 (fun _ => nI (mN M 0 + 1))) 2 i = M 2 i := if_neg e
    have q3 : (mset (mset (mset (mset M 2 (upd (M 2) (mN M 0) (nI zk))) 3 (upd (M 3) (mN M 0) (nI zr))) 4 (upd (M 4) (mN M 0) (nI za))) 0 (fun _ => nI (mN M 0 + 1))) 3 i = M 3 i := if_neg e
    have q4 : (mset (mset (mset (mset M 2 (upd (M 2) (mN M 0) (nI zk))) 3 (upd (M 3) (mN M 0) (nI zr))) 4 (upd (M 4) (mN M 0) (nI za))) 0 (fun _ => nI (mN M 0 + 1))) 4 i = M 4 i := if_neg e
    unfold mA
    rw [q2, q3, q4]
    exact iP i (by omega)
theorem bF {M : nMem} (h : mB M 11 = false) {P : Prop} : mB M 11 = true → P := fun e => by rw [h] at e; cases e
theorem bT {M : nMem} (h : mB M 11 = true) {P : Prop} : mB M 11 = false → P := fun e => by rw [h] at e; cases e
theorem inv_ring {M : nMem} (hI : mInv M) (m : Int32) : mInv (o_ring m M).2 := by
  unfold o_ring
  split; exact hI
  split; exact hI
  rename_i h1 h2
  obtain ⟨z, z1, z2, rfl⟩ := (nrg_nn (by decide) (by decide)).mp (bnf h1)
  have h2 : mB M 11 = false := bnt h2
  obtain ⟨H0, H1, ⟨h11, b11⟩, H14, H15, H20, H26, H27, H55, iP, iH, iHi, iHd, iC, iT, iF, iG, iS, iZ⟩ := hI
  dsimp only
  obtain ⟨X, hX⟩ : ∃ X, X = mset (mset (mset (mset (mset (mset (mset (mset M 1 (fun _ => nI z)) 14 (fun _ => nI 0)) 15 (fun _ => nI 0)) 5 (fil (fun _ => -5) (M 5) 9)) 6 (fil nI (M 6) 9)) 7 (fil (fun _ => nI 0) (M 7) 9)) 8 (fil (fun _ => nI 0) (M 8) 9)) 17 (fil (fun _ => nI 0) (M 17) 9) := ⟨_, rfl⟩
  rw [← hX]
  have x1 : X 1 0 = nI z := by rw [hX]; rfl
  have x14 : X 14 0 = nI 0 := by rw [hX]; rfl
  have x15 : X 15 0 = nI 0 := by rw [hX]; rfl
  have e1 := mN_of x1 (by omega)
  have e14 := mN_of x14 (by omega)
  have e15 := mN_of x15 (by omega)
  have e6 : ∀ p, p < 9 → X 6 p = nI p := fun p hp => by rw [hX]; exact if_pos hp
  have f6 : ∀ p, p < 9 → mA X 6 p = p := fun p hp => mA_of (e6 p hp) (by omega)
  have eB : mB X 11 = false := by rw [← h2, hX]; rfl
  refine ⟨by rw [hX]; exact H0, ⟨nN x1 (by omega), ?_⟩, ⟨by rw [hX]; exact h11, bF eB⟩, ⟨nN x14 (by omega), by omega⟩, ⟨nN x15 (by omega), by omega, by omega⟩, by rw [hX]; exact H20, by rw [hX]; exact H26, by rw [hX]; exact H27, by rw [hX]; exact H55, by rw [hX]; exact iP,
    fun p hp => ?_, fun p q hp hq h => ?_, fun _ p hp => ?_, fun r p hr hp => by omega, by rw [hX]; exact iT, by rw [hX]; exact iF, by rw [hX]; exact iG, fun i hi => by omega, by rw [hX]; exact iZ⟩
  · rw [e1]; omega
  · rw [f6 p (by omega)]; exact ⟨e6 p (by omega), hp⟩
  · rw [f6 p (by omega), f6 q (by omega)] at h; exact h
  · exact f6 p (by omega)
theorem inv_stand {M : nMem} (hI : mInv M) (p x : Int32) : mInv (o_stand p x M).2 := by
  unfold o_stand
  split; exact hI
  split; exact hI
  split; exact hI
  split; exact hI
  split; exact hI
  exact hI
theorem inv_ribbon {M : nMem} (hI : mInv M) (p c l : Int32) : mInv (o_ribbon p c l M).2 := by
  unfold o_ribbon
  split; exact hI
  split; exact hI
  split; exact hI
  split; exact hI
  exact hI
theorem inv_begin {M : nMem} (hI : mInv M) : mInv (o_begin M).2 := by
  unfold o_begin
  split; exact hI
  split; exact hI
  split; exact hI
  rename_i h1 h2 h3
  obtain ⟨H0, ⟨h1', b1a, b1⟩, ⟨h11, b11⟩, H14, H15, H20, H26, H27, H55, iP, iH, iHi, iHd, iC, iT, iF, iG, iS, iZ⟩ := hI
  dsimp only
  obtain ⟨X, hX⟩ : ∃ X, X = mset (mset (mset (mset (mset (mset M 11 (fun _ => nI 1)) 14 (fun _ => nI 0)) 15 (fun _ => nI 0)) 9 (fil (M 8) (M 9) (mN M 1))) 10 (fil (M 7) (M 10) (mN M 1))) 17 (fil (fun _ => nI 0) (M 17) (mN M 1)) := ⟨_, rfl⟩
  rw [← hX]
  have x11 : X 11 0 = nbo true := by rw [hX]; rfl
  have x14 : X 14 0 = nI 0 := by rw [hX]; rfl
  have x15 : X 15 0 = nI 0 := by rw [hX]; rfl
  have e14 := mN_of x14 (by omega)
  have e15 := mN_of x15 (by omega)
  have e1 : mN X 1 = mN M 1 := by rw [hX]; rfl
  have eB : mB X 11 = true := mB_of x11
  refine ⟨by rw [hX]; exact H0, by rw [hX]; exact ⟨h1', b1a, b1⟩, ⟨by rw [eB]; exact x11, fun _ => by omega⟩, ⟨nN x14 (by omega), by omega⟩, ⟨nN x15 (by omega), by omega, by omega⟩, by rw [hX]; exact H20, by rw [hX]; exact H26, by rw [hX]; exact H27, by rw [hX]; exact H55, by rw [hX]; exact iP,
    by rw [hX]; exact iH, by rw [hX]; exact iHi, fun e => bT eB e, fun r p hr hp => by omega, by rw [hX]; exact iT, by rw [hX]; exact iF, by rw [hX]; exact iG, fun i hi => by omega, by rw [hX]; exact iZ⟩
theorem inv_end {M : nMem} (hI : mInv M) : mInv (o_end M).2 := by
  unfold o_end
  split; exact hI
  rename_i h1
  obtain ⟨H0, ⟨h1', b1a, b1⟩, ⟨h11, b11⟩, H14, H15, H20, H26, H27, H55, iP, iH, iHi, iHd, iC, iT, iF, iG, iS, iZ⟩ := hI
  dsimp only
  obtain ⟨X, hX⟩ : ∃ X, X = mset (mset (mset (mset M 11 (fun _ => nI 0)) 7 (fil (fun p => M 7 (mA M 6 p)) (M 7) (mN M 1))) 8 (fil (fun p => M 8 (mA M 6 p)) (M 8) (mN M 1))) 6 (fil nI (M 6) (mN M 1)) := ⟨_, rfl⟩
  rw [← hX]
  have x11 : X 11 0 = nbo false := by rw [hX]; rfl
  have e1 : mN X 1 = mN M 1 := by rw [hX]; rfl
  have e6 : ∀ p, p < mN M 1 → X 6 p = nI p := fun p hp => by rw [hX]; exact if_pos hp
  have f6 : ∀ p, p < mN M 1 → mA X 6 p = p := fun p hp => mA_of (e6 p hp) (by omega)
  have eB : mB X 11 = false := mB_of x11
  refine ⟨by rw [hX]; exact H0, by rw [hX]; exact ⟨h1', b1a, b1⟩, ⟨by rw [eB]; exact x11, bF eB⟩, by rw [hX]; exact H14, by rw [hX]; exact H15, by rw [hX]; exact H20, by rw [hX]; exact H26, by rw [hX]; exact H27, by rw [hX]; exact H55, by rw [hX]; exact iP,
    fun p hp => ?_, fun p q hp hq h => ?_, fun _ p hp => f6 p (by omega), by rw [hX]; exact iC, by rw [hX]; exact iT, by rw [hX]; exact iF, by rw [hX]; exact iG, by rw [hX]; exact iS, by rw [hX]; exact iZ⟩
  · rw [e1] at hp ⊢; rw [f6 p hp]; exact ⟨e6 p hp, hp⟩
  · rw [e1] at hp hq; rw [f6 p hp, f6 q hq] at h; exact h
theorem inv_passN {M : nMem} (hI : mInv M) {p how : Nat} (hp : p < mN M 1) (hh : how ≤ 1) (hB : mB M 11 = true) : mInv (o_passN p how M).2 := by
  unfold o_passN
  dsimp only
  generalize (if how = 0 then mA M 6 p else mA M 6 ((p + 1) % mN M 1)) = inn
  generalize (if how = 0 then mA M 6 ((p + 1) % mN M 1) else mA M 6 p) = out
  split; exact hI
  split; exact hI
  rename_i h2 h1
  obtain ⟨H0, ⟨h1', b1a, b1⟩, ⟨h11, b11⟩, ⟨h14, b14⟩, ⟨h15, b15, b15n⟩, H20, H26, H27, H55, iP, iH, iHi, iHd, iC, iT, iF, iG, iS, iZ⟩ := hI
  have hq : (p + 1) % mN M 1 < mN M 1 := Nat.mod_lt _ (by omega)
  dsimp only
  generalize hf8 : upd (upd (M 8) _ _) _ _ = f8
  obtain ⟨X, hX⟩ : ∃ X, X = mset (mset (mset (mset (mset (mset M 8 f8) 6 (swp (M 6) p ((p + 1) % mN M 1))) 5 (swp (M 5) p ((p + 1) % mN M 1))) 17 (upd (M 17) p (nI (how + 1)))) 16 (upd (M 16) (mN M 14) (nI (10 * p + how)))) 14 (fun _ => nI (mN M 14 + 1)) := ⟨_, rfl⟩
  rw [← hX]
  have x14 : X 14 0 = nI (mN M 14 + 1) := by rw [hX]; rfl
  have e14 := mN_of x14 (by omega)
  have e1 : mN X 1 = mN M 1 := by rw [hX]; rfl
  have e6 : ∀ x, X 6 x = M 6 (tsp p ((p + 1) % mN M 1) x) := fun x => by rw [hX]; exact swp_tsp _ _ _ _
  have f6 : ∀ x, mA X 6 x = mA M 6 (tsp p ((p + 1) % mN M 1) x) := fun x => by unfold mA; rw [e6]
  have eB : mB X 11 = true := by rw [← hB, hX]; rfl
  refine ⟨by rw [hX]; exact H0, by rw [hX]; exact ⟨h1', b1a, b1⟩, by rw [hX]; exact ⟨h11, b11⟩, ⟨nN x14 (by omega), by omega⟩, by rw [hX]; exact ⟨h15, b15, b15n⟩, by rw [hX]; exact H20, by rw [hX]; exact H26, by rw [hX]; exact H27, by rw [hX]; exact H55, by rw [hX]; exact iP,
    fun x hx => ?_, fun x y hx hy h => ?_, fun e => bT eB e, by rw [hX]; exact iC, by rw [hX]; exact iT, by rw [hX]; exact iF, by rw [hX]; exact iG, fun i hi => ?_, by rw [hX]; exact iZ⟩
  · rw [e1] at hx ⊢; rw [f6, e6]; exact iH _ (tsp_lt hp hq hx)
  · rw [e1] at hx hy; rw [f6, f6] at h; exact tsp_inj (iHi _ _ (tsp_lt hp hq hx) (tsp_lt hp hq hy) h)
  · rw [e1]
    by_cases e : i = mN M 14
    · subst e
      have x16 : X 16 (mN M 14) = nI (10 * p + how) := by rw [hX]; exact if_pos rfl
      rw [mA_of x16 (by omega)]
      refine ⟨x16, ?_, fun _ => by omega⟩
      unfold stp
      omega
    · have x16 : X 16 i = M 16 i := by rw [hX]; exact if_neg e
      unfold mA
      rw [x16]
      exact iS i (by omega)
theorem inv_pass {M : nMem} (hI : mInv M) (p how : Int32) : mInv (o_pass p how M).2 := by
  unfold o_pass
  split; exact hI
  split; exact hI
  split; exact hI
  rename_i h1 h2 h3
  have b1 := hI.2.1.2.2
  obtain ⟨j, hj, rfl⟩ := (nin_t (by omega)).mp (bnf h1)
  obtain ⟨z, -, hz, rfl⟩ := (nrg_nn (by decide) (by decide)).mp (bnf h2)
  rw [nI_clamp (by omega), nI_clamp (by omega)]
  exact inv_passN hI hj hz (bnf h3)
theorem inv_walkN {M : nMem} (hI : mInv M) {how : Nat} (hh : how ≤ 1) (hB : mB M 11 = true) : mInv (o_walkN how M).2 := by
  unfold o_walkN
  dsimp only
  split; exact hI
  split; exact hI
  split; exact hI
  rename_i h3 h2 h1
  obtain ⟨H0, ⟨h1', b1a, b1⟩, ⟨h11, b11⟩, ⟨h14, b14⟩, ⟨h15, b15, b15n⟩, H20, H26, H27, H55, iP, iH, iHi, iHd, iC, iT, iF, iG, iS, iZ⟩ := hI
  have hn3 := b11 hB
  dsimp only
  generalize hf8 : fil (fun p => M 8 p - nI (10 + mN M 15 / 3)) (M 8) (mN M 1) = f8
  obtain ⟨X, hX⟩ : ∃ X, X = mset (mset (mset (mset (mset (mset (mset (mset (mset M 8 f8) 6 (tur how (mN M 1) (M 6))) 5 (tur how (mN M 1) (M 5))) 18 (blk (M 18) (9 * mN M 15) (mN M 1) (tur how (mN M 1) (M 6)))) 19 (blk (M 19) (9 * mN M 15) (mN M 1) (M 17))) 17 (fil (fun _ => nI 0) (M 17) (mN M 1))) 15 (fun _ => nI (mN M 15 + 1))) 16 (upd (M 16) (mN M 14) (nI (100 + how)))) 14 (fun _ => nI (mN M 14 + 1)) := ⟨_, rfl⟩
  rw [← hX]
  have x14 : X 14 0 = nI (mN M 14 + 1) := by rw [hX]; rfl
  have x15 : X 15 0 = nI (mN M 15 + 1) := by rw [hX]; rfl
  have e14 := mN_of x14 (by omega)
  have e15 := mN_of x15 (by omega)
  have e1 : mN X 1 = mN M 1 := by rw [hX]; rfl
  have e6 : ∀ x, x < mN M 1 → X 6 x = M 6 (trn how (mN M 1) x) := fun x hx => by rw [hX]; exact tur_trn hx
  have f6 : ∀ x, x < mN M 1 → mA X 6 x = mA M 6 (trn how (mN M 1) x) := fun x hx => by unfold mA; rw [e6 x hx]
  have eB : mB X 11 = true := by rw [← hB, hX]; rfl
  refine ⟨by rw [hX]; exact H0, by rw [hX]; exact ⟨h1', b1a, b1⟩, by rw [hX]; exact ⟨h11, b11⟩, ⟨nN x14 (by omega), by omega⟩, ⟨nN x15 (by omega), by omega, by omega⟩, by rw [hX]; exact H20, by rw [hX]; exact H26, by rw [hX]; exact H27, by rw [hX]; exact H55, by rw [hX]; exact iP,
    fun x hx => ?_, fun x y hx hy h => ?_, fun e => bT eB e, fun r p hr hp => ?_, by rw [hX]; exact iT, by rw [hX]; exact iF, by rw [hX]; exact iG, fun i hi => ?_, by rw [hX]; exact iZ⟩
  · rw [e1] at hx ⊢; rw [f6 x hx, e6 x hx]; exact iH _ (trn_lt hx)
  · rw [e1] at hx hy; rw [f6 x hx, f6 y hy] at h; exact trn_inj hx hy (iHi _ _ (trn_lt hx) (trn_lt hy) h)
  · rw [e1] at hp ⊢
    by_cases e : r = mN M 15
    · subst e
      have x18 : X 18 (9 * mN M 15 + p) = M 6 (trn how (mN M 1) p) := by
        rw [hX]
        show blk _ _ _ _ _ = _
        unfold blk
        rw [if_pos (by omega), Nat.add_sub_cancel_left]
        exact tur_trn hp
      unfold mA
      rw [x18]
      exact iH _ (trn_lt hp)
    · have x18 : X 18 (9 * r + p) = M 18 (9 * r + p) := by
        rw [hX]
        show blk _ _ _ _ _ = _
        unfold blk
        rw [if_neg (by omega)]
      unfold mA
      rw [x18]
      exact iC r p (by omega) hp
  · rw [e1]
    by_cases e : i = mN M 14
    · subst e
      have x16 : X 16 (mN M 14) = nI (100 + how) := by rw [hX]; exact if_pos rfl
      rw [mA_of x16 (by omega)]
      refine ⟨x16, ?_, fun _ => by omega⟩
      unfold stp
      omega
    · have x16 : X 16 i = M 16 i := by rw [hX]; exact if_neg e
      unfold mA
      rw [x16]
      exact iS i (by omega)
theorem inv_walk {M : nMem} (hI : mInv M) (how : Int32) : mInv (o_walk how M).2 := by
  unfold o_walk
  split; exact hI
  split; exact hI
  rename_i h2 h3
  obtain ⟨z, -, hz, rfl⟩ := (nrg_nn (by decide) (by decide)).mp (bnf h2)
  rw [nI_clamp (by omega)]
  exact inv_walkN hI hz (bnf h3)
theorem inv_pictureless {M : nMem} (hI : mInv M) : mInv (o_pictureless M).2 := by
  obtain ⟨H0, H1, H11, H14, H15, H20, H26, H27, H55, iP, iH, iHi, iHd, iC, iT, iF, iG, iS, iZ⟩ := hI
  unfold o_pictureless
  have e : mN (mset M 20 (fun _ => nI 0)) 20 = 0 := mN_of rfl (by omega)
  refine ⟨H0, H1, H11, H14, H15, ⟨nN (n := 0) rfl (by omega), by rw [e]; omega⟩, H26, H27, H55, iP, iH, iHi, iHd, iC, fun k hk => by rw [e] at hk; omega, iF, iG, iS, iZ⟩
theorem inv_picture {M : nMem} (hI : mInv M) (r p c : Int32) : mInv (o_picture r p c M).2 := by
  unfold o_picture
  split; exact hI
  split; exact hI
  split; exact hI
  split; exact hI
  rename_i h1 h2 h3 h4
  obtain ⟨H0, H1, H11, H14, H15, ⟨h20, b20⟩, H26, H27, H55, iP, iH, iHi, iHd, iC, iT, iR⟩ := hI
  obtain ⟨zr, -, zr2, rfl⟩ := (nrg_nn (by decide) (by decide)).mp (bnf h1)
  obtain ⟨zp, -, zp2, rfl⟩ := (nrg_nn (by decide) (by decide)).mp (bnf h2)
  dsimp only
  obtain ⟨X, hX⟩ : ∃ X, X = mset (mset (mset (mset M 21 (upd (M 21) (mN M 20) (nI zr))) 22 (upd (M 22) (mN M 20) (nI zp))) 23 (upd (M 23) (mN M 20) c)) 20 (fun _ => nI (mN M 20 + 1)) := ⟨_, rfl⟩
  rw [← hX]
  have x20 : X 20 0 = nI (mN M 20 + 1) := by rw [hX]; rfl
  have e20 := mN_of x20 (by omega)
  refine ⟨by rw [hX]; exact H0, by rw [hX]; exact H1, by rw [hX]; exact H11, by rw [hX]; exact H14, by rw [hX]; exact H15, ⟨nN x20 (by omega), by omega⟩, by rw [hX]; exact H26, by rw [hX]; exact H27, by rw [hX]; exact H55, by rw [hX]; exact iP,
    by rw [hX]; exact iH, by rw [hX]; exact iHi, by rw [hX]; exact iHd, by rw [hX]; exact iC, fun k hk => ?_, by rw [hX]; exact iR⟩
  by_cases e : k = mN M 20
  · subst e
    have y1 : X 21 (mN M 20) = nI zr := by rw [hX]; exact if_pos rfl
    have y2 : X 22 (mN M 20) = nI zp := by rw [hX]; exact if_pos rfl
    rw [mA_of y1 (by omega), mA_of y2 (by omega)]
    exact ⟨⟨y1, by omega⟩, y2, by omega⟩
  · have y1 : X 21 k = M 21 k := by rw [hX]; exact if_neg e
    have y2 : X 22 k = M 22 k := by rw [hX]; exact if_neg e
    unfold mA
    rw [y1, y2]
    exact iT k (by omega)
theorem inv_feed {M : nMem} (hI : mInv M) (b k : Int32) : mInv (o_feed b k M).2 := by
  unfold o_feed
  split; exact hI
  split; exact hI
  rename_i h1 h2
  obtain ⟨H0, H1, H11, H14, H15, H20, H26, ⟨h27, b27⟩, iR⟩ := hI
  exact ⟨H0, H1, H11, H14, H15, H20, H26, ⟨nN (n := mN M 27 + k.toNatClampNeg) rfl (by omega), by rw [mN_of (n := mN M 27 + k.toNatClampNeg) rfl (by omega)]; omega⟩, iR⟩
theorem rst_stp {tx : Nat → Int32} {fg : Nat} {fs : Nat → List Nat} {sp cur : Nat} {stk : List (Nat × Nat)} {L : List Nat} {b : Bool} {s2 : RS} (hf : ∀ f, f < fg → ∀ t ∈ fs f, stp t) (hL : ∀ t ∈ L, stp t) (h3 : L.length ≤ 300) (e : rst tx fg fs sp cur stk L b = .inr s2) :
    (∀ t ∈ s2.2.2.2.1, stp t) ∧ s2.2.2.2.1.length ≤ 300 := by
  have a3 : ∀ (x : List Nat × Bool) s, x.1.length ≤ 300 → (ladd x s).1.length ≤ 300 := fun x s hx => by unfold ladd; split; exact hx; rw [List.length_append, List.length_singleton]; omega
  have s3 : ∀ (l : List Nat) (x : List Nat × Bool), x.1.length ≤ 300 → (ladds x l).1.length ≤ 300 := fun l => by
    induction l with
    | nil => intro x hx; exact hx
    | cons s l ih => intro x hx; exact ih (ladd x s) (a3 x s hx)
  have r3 : ∀ (S : List Nat) (k : Nat) (x : List Nat × Bool), x.1.length ≤ 300 → (lrep S k x).1.length ≤ 300 := fun S k => by
    induction k with
    | zero => intro x hx; exact hx
    | succ k ih =>
      intro x hx
      unfold lrep
      split
      · exact hx
      · exact ih _ (s3 S x hx)
  unfold rst at e
  split at e
  · rename_i c1
    split at e
    · cases e
    · rename_i c2
      injection e with e
      rw [← e]
      obtain ⟨j, j1, j2, hj⟩ := (nrg_nn (by decide) (by decide)).mp c1
      refine ⟨ladd_stp ?_ hL, a3 (L, b) _ h3⟩
      rw [hj, nI_clamp (by omega)]
      unfold stp
      split <;> omega
  split at e
  · injection e with e
    rw [← e]
    refine ⟨ladd_stp ?_ hL, a3 (L, b) _ h3⟩
    unfold stp
    split <;> omega
  split at e
  · rename_i c
    injection e with e
    rw [← e]
    exact ⟨ladds_stp (hf _ c.2) hL, s3 _ (L, b) h3⟩
  split at e
  · injection e with e
    rw [← e]
    exact ⟨hL, h3⟩
  split at e
  · split at e
    · injection e with e
      rw [← e]
      exact ⟨lrep_stp (fun t ht => hL t (List.mem_of_mem_drop ht)) _ hL, r3 _ _ (L, b) h3⟩
    · split at e
      · injection e with e
        rw [← e]
        exact ⟨lund_stp hL, by show (lund L _).length ≤ 300; rw [lund_len]; exact h3⟩
      · cases e
  · cases e
theorem rrun_stp {tx : Nat → Int32} {fd fg : Nat} {fs : Nat → List Nat} (hf : ∀ f, f < fg → ∀ t ∈ fs f, stp t) : ∀ {k : Nat} {s : RS} {x : List Nat × Bool}, (∀ t ∈ s.2.2.2.1, stp t) → s.2.2.2.1.length ≤ 300 → (rrun tx fd fg fs k s).2 = some x → (∀ t ∈ x.1, stp t) ∧ x.1.length ≤ 300
  | 0, s, x, hL, h3, e => by
    unfold rrun at e
    dsimp only at e
    split at e
    · injection e with e; rw [← e]; exact ⟨hL, h3⟩
    · cases e
  | k + 1, s, x, hL, h3, e => by
    unfold rrun at e
    split at e
    · split at e
      · cases e
      · rename_i s2 e2
        obtain ⟨a, b⟩ := rst_stp hf hL h3 e2
        exact rrun_stp hf a b e
    · dsimp only at e
      split at e
      · injection e with e; rw [← e]; exact ⟨hL, h3⟩
      · cases e
theorem mRd_stp {M : nMem} (hI : mInv M) {x : List Nat × Bool} (e : (mRd M).2 = some x) : (∀ t ∈ x.1, stp t) ∧ x.1.length ≤ 300 := by
  obtain ⟨H0, H1, H11, H14, H15, H20, H26, H27, H55, iP, iH, iHi, iHd, iC, iT, iF, iG, iS, iZ⟩ := hI
  refine rrun_stp (fun f hf t ht => ?_) (s := (0, 0, [], [], false)) (fun t ht => absurd ht List.not_mem_nil) (by decide) e
  obtain ⟨k, hk, rfl⟩ := List.mem_map.mp ht
  exact (iG f k hf (List.mem_range.mp hk)).2
theorem inv_figure {M : nMem} (hI : mInv M) : mInv (o_figure M).2 := by
  unfold o_figure
  split; exact hI
  rename_i h1
  have hR := fun x => mRd_stp hI (x := x)
  obtain ⟨H0, H1, H11, H14, H15, H20, ⟨h26, b26⟩, ⟨h27, b27⟩, H55, iP, iH, iHi, iHd, iC, iT, iF, iG, iS, iZ⟩ := hI
  have g27 : ∀ {X : nMem}, X 27 0 = nI 0 → X 27 0 = nI (mN X 27) ∧ mN X 27 ≤ 80 := fun h => ⟨nN h (by omega), by rw [mN_of h (by omega)]; omega⟩
  rcases hR9 : mRd M with ⟨sp, _ | ⟨L, _ | _⟩⟩
  · exact ⟨H0, H1, H11, H14, H15, H20, ⟨h26, b26⟩, g27 rfl, H55, iP, iH, iHi, iHd, iC, iT, iF, iG, iS, iZ⟩
  · obtain ⟨hst, h300⟩ := hR (L, false) (by rw [hR9])
    dsimp only at hst h300 ⊢
    obtain ⟨X, hX⟩ : ∃ X, X = mset (mset (mset (mset M 27 (fun _ => nI 0)) 28 (upd (M 28) (mN M 26) (nI L.length))) 29 (blk (M 29) (300 * mN M 26) L.length (fun k => nI (L.getD k 0)))) 26 (fun _ => nI (mN M 26 + 1)) := ⟨_, rfl⟩
    rw [← hX]
    have x26 : X 26 0 = nI (mN M 26 + 1) := by rw [hX]; rfl
    have e26 := mN_of x26 (by omega)
    have xf : X 28 (mN M 26) = nI L.length := by rw [hX]; exact if_pos rfl
    have xo : ∀ f, f ≠ mN M 26 → X 28 f = M 28 f := fun f hf => by rw [hX]; exact if_neg hf
    refine ⟨by rw [hX]; exact H0, by rw [hX]; exact H1, by rw [hX]; exact H11, by rw [hX]; exact H14, by rw [hX]; exact H15, by rw [hX]; exact H20, ⟨nN x26 (by omega), by omega⟩, g27 (by rw [hX]; rfl), by rw [hX]; exact H55, by rw [hX]; exact iP, by rw [hX]; exact iH, by rw [hX]; exact iHi, by rw [hX]; exact iHd, by rw [hX]; exact iC, by rw [hX]; exact iT,
      fun f hf => ?_, fun f k hf hk => ?_, by rw [hX]; exact iS, by rw [hX]; exact iZ⟩
    · by_cases e : f = mN M 26
      · subst e; rw [mA_of xf (by omega)]; exact ⟨xf, h300⟩
      · unfold mA; rw [xo f e]; exact iF f (by omega)
    · by_cases e : f = mN M 26
      · subst e
        rw [mA_of xf (by omega)] at hk
        have y : X 29 (300 * mN M 26 + k) = nI (L.getD k 0) := by
          rw [hX, mset_n (by decide), mset_s]
          unfold blk
          rw [if_pos (by omega), Nat.add_sub_cancel_left]
        have hs := getD_stp hst hk
        have hl := stp_lt hs
        rw [mA_of y (by omega)]
        exact ⟨y, hs⟩
      · have hk2 : k < mA M 28 f := by unfold mA at hk ⊢; rw [xo f e] at hk; exact hk
        have h3 := (iF f (by omega)).2
        have y : X 29 (300 * f + k) = M 29 (300 * f + k) := by
          rw [hX, mset_n (by decide), mset_s]
          unfold blk
          rw [if_neg (by omega)]
        unfold mA
        rw [y]
        exact iG f k (by omega) hk2
  · exact ⟨H0, H1, H11, H14, H15, H20, ⟨h26, b26⟩, g27 rfl, H55, iP, iH, iHi, iHd, iC, iT, iF, iG, iS, iZ⟩
theorem inv_bds {M : nMem} (hI : mInv M) {l : List Nat} (hl : l.length ≤ 16) : mInv (bds l (mset M 55 (fun _ => nI 0))) := by
  obtain ⟨e1, e2⟩ := bds_n (l := l) (M := mset M 55 (fun _ => nI 0)) (nN (n := 0) rfl (by omega)) (by rw [mN_of (n := 0) rfl (by omega)]; omega)
  have z0 : mN (mset M 55 (fun _ => nI 0)) 55 = 0 := mN_of rfl (by omega)
  rw [z0] at e1 e2
  have hF := mFr.trans (T := [55, 56]) (by decide) (mFr.set (S := [55, 56]) (k := 55) (f := fun _ => nI 0) (by decide) (mFr.rf (M := M))) (bds_fr l _)
  have eN : ∀ k, k ∉ [55, 56] → mN (bds l (mset M 55 (fun _ => nI 0))) k = mN M k := fun k hk => mN_fr hF hk
  generalize bds l (mset M 55 (fun _ => nI 0)) = X at *
  obtain ⟨H0, H1, ⟨h11, b11⟩, H14, H15, H20, H26, H27, H55, iP, iH, iHi, iHd, iC, iT, iF, iG, iS, iZ⟩ := hI
  have a0 := eN 0 (by decide)
  have a1 := eN 1 (by decide)
  have a14 := eN 14 (by decide)
  have a15 := eN 15 (by decide)
  have a20 := eN 20 (by decide)
  have a26 := eN 26 (by decide)
  have a27 := eN 27 (by decide)
  have eB : mB X 11 = mB M 11 := by unfold mB; rw [hF 11 (by decide)]
  have q := fun k hk => hF k hk
  unfold mInv
  rw [a0, a1, a14, a15, a20, a26, a27, eB]
  unfold mA
  rw [q 0 (by decide), q 1 (by decide), q 11 (by decide), q 14 (by decide), q 15 (by decide), q 20 (by decide), q 26 (by decide), q 27 (by decide), q 2 (by decide), q 3 (by decide), q 4 (by decide), q 6 (by decide), q 16 (by decide), q 18 (by decide), q 21 (by decide), q 22 (by decide), q 28 (by decide), q 29 (by decide), q 57 (by decide), q 58 (by decide)]
  exact ⟨H0, H1, ⟨h11, b11⟩, H14, H15, H20, H26, H27, ⟨nN e1 (by omega), by omega⟩, iP, iH, iHi, iHd, iC, iT, iF, iG, iS, iZ⟩
theorem inv_act {M : nMem} (hI : mInv M) (i a x : Int32) : mInv (o_act i a x M).2 := by
  have h0 : mInv (mset M 55 (fun _ => nI 0)) := inv_bds hI (l := []) (by decide)
  unfold o_act
  dsimp only
  split; exact h0
  split; exact h0
  split; exact inv_bds hI (by have := tG_len (mA M 2 i.toNatClampNeg); omega)
  split; exact inv_bds hI (by have := tL_len (mA M 2 i.toNatClampNeg); omega)
  exact inv_bds hI (by have := tR_len (mA M 2 i.toNatClampNeg); omega)
theorem inv_tape {M : nMem} (hI : mInv M) (t s m : Int32) : mInv (o_tape t s m M).2 := by
  unfold o_tape
  split; exact hI
  split; exact hI
  rename_i h1 h2
  obtain ⟨z, -, hz, rfl⟩ := (nrg_nn (by decide) (by decide)).mp (bnf h1)
  rw [nI_clamp (by omega)]
  have key : ∀ (s m : Int32) (c : Nat), (s = -1 ∨ ∃ c, c ≤ 4 ∧ s = nI c) → m = nI c → c ≤ 60 → mInv (mset (mset (mset M 57 (upd (M 57) z s)) 58 (upd (M 58) z m)) 59 (blk (M 59) (60 * z) 60 (fun _ => nI 0))) := fun s m c hs hm hc => by
    obtain ⟨H0, H1, H11, H14, H15, H20, H26, H27, H55, iP, iH, iHi, iHd, iC, iT, iF, iG, iS, iZ⟩ := hI
    refine ⟨H0, H1, H11, H14, H15, H20, H26, H27, H55, iP, iH, iHi, iHd, iC, iT, iF, iG, iS, fun t ht => ?_⟩
    obtain ⟨X, hX⟩ : ∃ X, X = mset (mset (mset M 57 (upd (M 57) z s)) 58 (upd (M 58) z m)) 59 (blk (M 59) (60 * z) 60 (fun _ => nI 0)) := ⟨_, rfl⟩
    rw [← hX]
    by_cases e : t = z
    · subst e
      have y1 : X 57 t = s := by rw [hX]; exact if_pos rfl
      have y2 : X 58 t = nI c := by rw [hX, ← hm]; exact if_pos rfl
      rw [mA_of y2 (by omega), y1]
      exact ⟨hs, y2, hc⟩
    · have y1 : X 57 t = M 57 t := by rw [hX]; exact if_neg e
      have y2 : X 58 t = M 58 t := by rw [hX]; exact if_neg e
      unfold mA
      rw [y1, y2]
      exact iZ t ht
  split
  · rename_i e
    exact key (-1) (nI 0) 0 (Or.inl rfl) rfl (by omega)
  split; exact hI
  split; exact hI
  rename_i e1 e2 e3
  obtain ⟨c, hc, rfl⟩ := nI_of e3
  refine key s (nI c) c ?_ rfl ?_
  · rcases (nrg_m (by decide)).mp (bnf h2) with e | ⟨j, hj, e⟩
    · exact Or.inl e
    · exact Or.inr ⟨j, hj, e⟩
  · rw [nI_ltI (by decide) hc] at e2
    omega
theorem inv_item {M : nMem} (hI : mInv M) (t i v : Int32) : mInv (o_item t i v M).2 := by
  unfold o_item
  dsimp only
  split; exact hI
  split; exact hI
  split; exact hI
  exact hI
theorem inv_shift {M : nMem} (hI : mInv M) (t i o j m : Int32) : mInv (o_shift t i o j m M).2 := by
  unfold o_shift
  dsimp only
  split; exact hI
  split; exact hI
  split; exact hI
  split; exact hI
  split; exact hI
  split; exact hI
  split; exact hI
  exact hI
