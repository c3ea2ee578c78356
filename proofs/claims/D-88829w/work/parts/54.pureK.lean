/-! ===== PLAIN: steps of the class's round and of the reference ===== -/
set_option maxRecDepth 100000
theorem md_e {n b x : Nat} (hx : x < n) (hb : b < n) : (x + b) % n = if x + b < n then x + b else x + b - n := by
  split
  · exact Nat.mod_eq_of_lt (by assumption)
  · rw [Nat.mod_eq_sub_mod (by omega), Nat.mod_eq_of_lt (by omega)]
theorem md_inj {n b p q : Nat} (hp : p < n) (hq : q < n) (hb : b < n) (h : (q + b) % n = (p + b) % n) : q = p := by
  rw [md_e hq hb, md_e hp hb] at h
  split at h <;> split at h <;> omega
theorem md_b1 {n p : Nat} (hp : p < n) (hn : 2 ≤ n) : ((p + (n - 1)) % n + 1) % n = p := by
  rcases Nat.eq_zero_or_pos p with h0 | h0
  · rw [h0, Nat.zero_add, Nat.mod_eq_of_lt (show n - 1 < n by omega), show n - 1 + 1 = n by omega, Nat.mod_self]
  · have e : (p + (n - 1)) % n = p - 1 := by rw [md_e hp (by omega), if_neg (by omega)]; omega
    rw [e, show p - 1 + 1 = p by omega, Nat.mod_eq_of_lt hp]
theorem md_b2 {n p : Nat} (hp : p < n) (hn : 2 ≤ n) : ((p + 1) % n + (n - 1)) % n = p := by
  by_cases c : p + 1 < n
  · rw [Nat.mod_eq_of_lt c, show p + 1 + (n - 1) = p + n by omega, Nat.add_mod_right, Nat.mod_eq_of_lt hp]
  · rw [show p + 1 = n by omega, Nat.mod_self, Nat.zero_add, Nat.mod_eq_of_lt (show n - 1 < n by omega)]
    omega
/-- who stands where behind a step -/
def mvd (f : Nat → Int32) (n s : Nat) : Nat → Int32 := if s < 100 then swp f (s / 10) ((s / 10 + 1) % n) else tur (s - 100) n f
theorem swp_cg {f g : Nat → Int32} {n p q : Nat} (hp : p < n) (hq : q < n) (h : ∀ x, x < n → f x = g x) : ∀ x, x < n → swp f p q x = swp g p q x := fun x hx => by
  unfold swp
  exact upd_cg (upd_cg h (h q hq)) (h p hp) x hx
theorem tur_cg {f g : Nat → Int32} {n how : Nat} (h : ∀ x, x < n → f x = g x) : ∀ x, x < n → tur how n f x = tur how n g x := fun x hx => by
  unfold tur
  rw [if_pos hx, if_pos hx, h _ (Nat.mod_lt _ (by omega)), h _ (Nat.mod_lt _ (by omega))]
theorem mvd_cg {f g : Nat → Int32} {n s : Nat} (hs : s < 100 → s / 10 < n) (h : ∀ x, x < n → f x = g x) : ∀ x, x < n → mvd f n s x = mvd g n s x := fun x hx => by
  unfold mvd
  split
  · exact swp_cg (hs (by assumption)) (Nat.mod_lt _ (by omega)) h x hx
  · exact tur_cg h x hx
def passM (p how : Nat) (M : nMem) : nMem :=
  let n := mN M 1
  let q := (p + 1) % n
  let inn := if how = 0 then mA M 6 p else mA M 6 q
  let out := if how = 0 then mA M 6 q else mA M 6 p
  let l1 := upd (M 8) inn (M 8 inn - nI 1)
  mset (mset (mset (mset (mset (mset M 8 (upd l1 out (l1 out - nI 2))) 6 (swp (M 6) p q)) 5 (swp (M 5) p q)) 17 (upd (M 17) p (nI (how + 1)))) 16 (upd (M 16) (mN M 14) (nI (10 * p + how)))) 14 (fun _ => nI (mN M 14 + 1))
def walkM (how : Nat) (M : nMem) : nMem :=
  let n := mN M 1
  let g := 10 + mN M 15 / 3
  let h2 := tur how n (M 6)
  mset (mset (mset (mset (mset (mset (mset (mset (mset M 8 (fil (fun p => M 8 p - nI g) (M 8) n)) 6 h2) 5 (tur how n (M 5))) 18 (blk (M 18) (9 * mN M 15) n h2)) 19 (blk (M 19) (9 * mN M 15) n (M 17))) 17 (fil (fun _ => nI 0) (M 17) n)) 15 (fun _ => nI (mN M 15 + 1))) 16 (upd (M 16) (mN M 14) (nI (100 + how)))) 14 (fun _ => nI (mN M 14 + 1))
def stM (s : Nat) (M : nMem) : nMem := if s < 100 then passM (s / 10) (s % 10) M else walkM (s - 100) M
/-- a step, of the dance at hand -/
def st_o (s : Nat) (M : nMem) : Int32 × nMem := if mB M 11 = false then (-3, M) else if s < 100 then o_passN (s / 10) (s % 10) M else o_walkN (s - 100) M
section STEPS
variable {R M : nMem} {s : Nat}
theorem rd_mA (hR : rdRel R M) (hd : mB M 11 = true) {p : Nat} (hp : p < mN M 1) : mA R 1 p = mA M 6 p := by unfold mA; rw [((hR.2.2.2 hd).2 p hp).1]
theorem rd_7 (hR : rdRel R M) (hd : mB M 11 = true) (b14 : mN M 14 ≤ 300) : mN R 7 = mN M 14 := mN_of (hR.2.2.2 hd).1 (by omega)
theorem rd_6 (hR : rdRel R M) (b15 : mN M 15 ≤ 100) : mN R 6 = mN M 15 := mN_of hR.2.1 (by omega)
theorem rd_A (hR : rdRel R M) (hd : mB M 11 = true) (iH : ∀ p, p < mN M 1 → M 6 p = nI (mA M 6 p) ∧ mA M 6 p < mN M 1) : rdA R (mN M 1) := fun p hp => by
  rw [rd_mA hR hd hp, ((hR.2.2.2 hd).2 p hp).1]
  exact iH p hp
/-- what the round answers -/
theorem rf_st (hR : rdRel R M) (hd : mB M 11 = true) (b14 : mN M 14 ≤ 300) (b15 : mN M 15 ≤ 100) (hn3 : 3 ≤ mN M 1) (iH : ∀ p, p < mN M 1 → M 6 p = nI (mA M 6 p) ∧ mA M 6 p < mN M 1) (hs2 : s < 100 → s / 10 < mN M 1 ∧ s % 10 ≤ 1) :
    (rfS R (mN M 1) s ≠ 0 → st_o s M = (rfS R (mN M 1) s, M)) ∧ (rfS R (mN M 1) s = 0 → st_o s M = (nI (mN M 14 + 1), stM s M) ∧ mN M 14 < 300 ∧ (100 ≤ s → mN M 15 < 100)) := by
  have e7 := rd_7 hR hd b14
  have e6 := rd_6 hR b15
  have hst : st_o s M = if s < 100 then o_passN (s / 10) (s % 10) M else o_walkN (s - 100) M := by unfold st_o; rw [hd, if_neg (by decide)]
  rw [hst]
  unfold rfS stM
  by_cases hs : s < 100
  · obtain ⟨hp, hh⟩ := hs2 hs
    have hq : (s / 10 + 1) % mN M 1 < mN M 1 := Nat.mod_lt _ (by omega)
    rw [if_pos hs, if_pos hs, if_pos hs]
    have ein : R 2 (mA R 1 (if s % 10 = 0 then s / 10 else (s / 10 + 1) % mN M 1)) = M 8 (if s % 10 = 0 then mA M 6 (s / 10) else mA M 6 ((s / 10 + 1) % mN M 1)) := by
      by_cases h0 : s % 10 = 0
      · rw [if_pos h0, if_pos h0, rd_mA hR hd hp, ((hR.2.2.2 hd).2 _ (iH _ hp).2).2.1]
      · rw [if_neg h0, if_neg h0, rd_mA hR hd hq, ((hR.2.2.2 hd).2 _ (iH _ hq).2).2.1]
    have eout : R 2 (mA R 1 (if s % 10 = 0 then (s / 10 + 1) % mN M 1 else s / 10)) = M 8 (if s % 10 = 0 then mA M 6 ((s / 10 + 1) % mN M 1) else mA M 6 (s / 10)) := by
      by_cases h0 : s % 10 = 0
      · rw [if_pos h0, if_pos h0, rd_mA hR hd hq, ((hR.2.2.2 hd).2 _ (iH _ hq).2).2.1]
      · rw [if_neg h0, if_neg h0, rd_mA hR hd hp, ((hR.2.2.2 hd).2 _ (iH _ hp).2).2.1]
    unfold rfP
    rw [ein, eout, e7]
    unfold o_passN
    dsimp only
    by_cases c1 : M 8 (if s % 10 = 0 then mA M 6 (s / 10) else mA M 6 ((s / 10 + 1) % mN M 1)) < nI 1 ∨ M 8 (if s % 10 = 0 then mA M 6 ((s / 10 + 1) % mN M 1) else mA M 6 (s / 10)) < nI 2
    · rw [if_pos c1, if_pos c1]
      exact ⟨fun _ => rfl, fun z => absurd z (by decide)⟩
    · rw [if_neg c1, if_neg c1]
      by_cases c2 : mN M 14 = 300
      · rw [if_pos c2, if_pos c2]
        exact ⟨fun _ => rfl, fun z => absurd z (by decide)⟩
      · rw [if_neg c2, if_neg c2]
        exact ⟨fun z => absurd rfl z, fun _ => ⟨rfl, by omega, fun z => by omega⟩⟩
  · rw [if_neg hs, if_neg hs, if_neg hs]
    have ean : anyb (mN M 1) (fun p => decide (R 2 p < nI (10 + mN R 6 / 3))) = anyb (mN M 1) (fun p => decide (M 8 p < nI (10 + mN M 15 / 3))) := anyb_cong fun p hp => by
      rw [e6, ((hR.2.2.2 hd).2 p hp).2.1]
    unfold rfW
    rw [ean, e6, e7]
    unfold o_walkN
    dsimp only
    by_cases c1 : anyb (mN M 1) (fun p => decide (M 8 p < nI (10 + mN M 15 / 3))) = true
    · rw [if_pos c1, if_pos c1]
      exact ⟨fun _ => rfl, fun z => absurd z (by decide)⟩
    · rw [if_neg c1, if_neg c1]
      by_cases c2 : mN M 14 = 300
      · rw [if_pos (Or.inl c2), if_pos c2]
        exact ⟨fun _ => rfl, fun z => absurd z (by decide)⟩
      · by_cases c3 : mN M 15 = 100
        · rw [if_pos (Or.inr c3), if_neg c2, if_pos c3]
          exact ⟨fun _ => rfl, fun z => absurd z (by decide)⟩
        · rw [if_neg (fun z => z.elim c2 c3), if_neg c2, if_neg c3]
          exact ⟨fun z => absurd rfl z, fun _ => ⟨rfl, by omega, fun _ => by omega⟩⟩
theorem upd_swap {f : Nat → Int32} {a b : Nat} (h : a ≠ b) (u v : Int32) : upd (upd f a u) b v = upd (upd f b v) a u := by
  funext x
  unfold upd
  by_cases e1 : x = a
  · by_cases e2 : x = b
    · omega
    · rw [if_neg e2, if_pos e1, if_pos e1]
  · by_cases e2 : x = b
    · rw [if_pos e2, if_neg e1, if_pos e2]
    · rw [if_neg e2, if_neg e1, if_neg e1, if_neg e2]
theorem rdPass_rel (hR : rdRel R M) (hd : mB M 11 = true) (hn3 : 3 ≤ mN M 1) (b14 : mN M 14 < 300) (iH : ∀ p, p < mN M 1 → M 6 p = nI (mA M 6 p) ∧ mA M 6 p < mN M 1) (iHi : ∀ p q, p < mN M 1 → q < mN M 1 → mA M 6 p = mA M 6 q → p = q) {p how : Nat} (hp : p < mN M 1) (hh : how ≤ 1) : rdRel (rdPass (rdDone R) (mN M 1) p how) (passM p how M) := by
  have hq : (p + 1) % mN M 1 < mN M 1 := Nat.mod_lt _ (by omega)
  have hne : mA M 6 p ≠ mA M 6 ((p + 1) % mN M 1) := fun z => by
    have e := iHi _ _ hp hq z
    have := md_e hp (show 1 < mN M 1 by omega)
    split at this <;> omega
  have e7 := rd_7 hR hd (by omega)
  obtain ⟨g0, g6, gr, gd⟩ := hR
  obtain ⟨g7, gp⟩ := gd hd
  have eA : ∀ x, x < mN M 1 → mA (rdDone R) 1 x = mA M 6 x := fun x hx => by
    rw [mA_done R (by decide)]
    unfold mA
    rw [(gp x hx).1]
  have e2 : ∀ x, (rdDone R) 2 x = R 2 x := fun _ => rfl
  have e82 : ∀ x, x < mN M 1 → R 2 x = M 8 x := fun x hx => (gp x hx).2.1
  refine ⟨g0, g6, fun r x hr hx => ?_, fun _ => ⟨?_, fun x hx => ⟨?_, ?_, ?_⟩⟩⟩
  · have := gr r x hr hx
    unfold rdPass
    rw [mset_n (by omega), mset_n (by omega), mset_n (by omega), mset_n (by omega), mset_n (by omega), mset_n (by omega)]
    unfold rdDone
    rw [mset_n (by omega), mset_n (by omega)]
    exact this
  · show nI (mN R 7 + 1) = _
    rw [mN_of (M := passM p how M) (k := 14) (n := mN M 14 + 1) rfl (by omega), e7]
  · exact swp_cg hp hq (fun y hy => (gp y hy).1) x hx
  · show upd (upd (R 2) (mA (rdDone R) 1 p) (R 2 (mA (rdDone R) 1 p) - (if how = 0 then nI 1 else nI 2))) (mA (rdDone R) 1 ((p + 1) % mN M 1)) _ x = _
    rw [eA _ hp, eA _ hq]
    rcases (show how = 0 ∨ how = 1 by omega) with rfl | rfl
    · have h1 : ∀ y, y < mN M 1 → upd (R 2) (mA M 6 p) (R 2 (mA M 6 p) - nI 1) y = upd (M 8) (mA M 6 p) (M 8 (mA M 6 p) - nI 1) y := upd_cg e82 (by rw [e82 _ (iH _ hp).2])
      exact upd_cg h1 (by show upd (R 2) (mA M 6 p) (R 2 (mA M 6 p) - nI 1) (mA M 6 ((p + 1) % mN M 1)) - nI 2 = upd (M 8) (mA M 6 p) (M 8 (mA M 6 p) - nI 1) (mA M 6 ((p + 1) % mN M 1)) - nI 2; rw [h1 _ (iH _ hq).2]) x hx
    · have h1 : ∀ y, y < mN M 1 → upd (R 2) (mA M 6 p) (R 2 (mA M 6 p) - nI 2) y = upd (M 8) (mA M 6 p) (M 8 (mA M 6 p) - nI 2) y := upd_cg e82 (by rw [e82 _ (iH _ hp).2])
      have e1 : upd (R 2) (mA M 6 p) (R 2 (mA M 6 p) - nI 2) (mA M 6 ((p + 1) % mN M 1)) = M 8 (mA M 6 ((p + 1) % mN M 1)) := by rw [upd_n (Ne.symm hne), e82 _ (iH _ hq).2]
      have e3 : upd (M 8) (mA M 6 ((p + 1) % mN M 1)) (M 8 (mA M 6 ((p + 1) % mN M 1)) - nI 1) (mA M 6 p) = M 8 (mA M 6 p) := upd_n hne
      show upd (upd (R 2) (mA M 6 p) (R 2 (mA M 6 p) - nI 2)) (mA M 6 ((p + 1) % mN M 1)) (upd (R 2) (mA M 6 p) (R 2 (mA M 6 p) - nI 2) (mA M 6 ((p + 1) % mN M 1)) - nI 1) x = upd (upd (M 8) (mA M 6 ((p + 1) % mN M 1)) (M 8 (mA M 6 ((p + 1) % mN M 1)) - nI 1)) (mA M 6 p) (upd (M 8) (mA M 6 ((p + 1) % mN M 1)) (M 8 (mA M 6 ((p + 1) % mN M 1)) - nI 1) (mA M 6 p) - nI 2) x
      rw [e1, e3, upd_swap (f := M 8) (Ne.symm hne)]
      exact upd_cg h1 rfl x hx
  · show upd (R 3) p (nI (1 + how)) x = upd (M 17) p (nI (how + 1)) x
    exact upd_cg (fun y hy => (gp y hy).2.2) (by rw [Nat.add_comm]) x hx
theorem rdWalk_rel (hR : rdRel R M) (hd : mB M 11 = true) (hn3 : 3 ≤ mN M 1) (hn9 : mN M 1 ≤ 9) (b14 : mN M 14 < 300) (b15 : mN M 15 < 100) {how : Nat} {R2 : nMem} (h : rdWalk (rdDone R) (mN M 1) how R2) : rdRel R2 (walkM how M) := by
  have e7 := rd_7 hR hd (by omega)
  have e6 := rd_6 hR (by omega)
  have e6d : mN (rdDone R) 6 = mN M 15 := e6
  obtain ⟨g0, g6, gr, gd⟩ := hR
  obtain ⟨g7, gp⟩ := gd hd
  unfold rdWalk at h
  rw [e6d] at h
  obtain ⟨k1, k2, k3, k4, k5, k6, k7⟩ := h
  have e15 : mN (walkM how M) 15 = mN M 15 + 1 := mN_of rfl (by omega)
  refine ⟨?_, ?_, fun r x hr hx => ?_, fun _ => ⟨?_, fun x hx => ⟨?_, ?_, ?_⟩⟩⟩
  · rw [k1 0 (by simp; omega)]; exact g0
  · rw [e15]; exact k5
  · rw [e15] at hr
    have hx : x < mN M 1 := hx
    by_cases e : r = mN M 15
    · subst e
      rw [k6 x hx, k7 x hx]
      refine ⟨?_, ?_⟩
      · show _ = blk (M 18) (9 * mN M 15) (mN M 1) (tur how (mN M 1) (M 6)) (9 * mN M 15 + x)
        rw [blk_in hx]
        exact tur_cg (fun y hy => (gp y hy).1) x hx
      · show _ = blk (M 19) (9 * mN M 15) (mN M 1) (M 17) (9 * mN M 15 + x)
        rw [blk_in hx]
        exact (gp x hx).2.2
    · rw [k1 (20 + r) (by simp; omega), k1 (120 + r) (by simp; omega)]
      have := gr r x (by omega) hx
      unfold rdDone
      rw [mset_n (by omega), mset_n (by omega)]
      refine ⟨?_, ?_⟩
      · show _ = blk (M 18) (9 * mN M 15) (mN M 1) (tur how (mN M 1) (M 6)) (9 * r + x)
        rw [blk_out (by omega)]
        exact this.1
      · show _ = blk (M 19) (9 * mN M 15) (mN M 1) (M 17) (9 * r + x)
        rw [blk_out (by omega)]
        exact this.2
  · rw [k1 7 (by simp; omega)]
    show nI (mN R 7 + 1) = _
    rw [mN_of (M := walkM how M) (k := 14) (n := mN M 14 + 1) rfl (by omega), e7]
  · have hx : x < mN M 1 := hx
    rw [k2 x hx]
    exact tur_cg (fun y hy => (gp y hy).1) x hx
  · have hx : x < mN M 1 := hx
    rw [k3 x hx]
    show R 2 x - nI (10 + mN M 15 / 3) = fil (fun p => M 8 p - nI (10 + mN M 15 / 3)) (M 8) (mN M 1) x
    rw [fil_lt hx, (gp x hx).2.1]
  · have hx : x < mN M 1 := hx
    rw [k4 x hx]
    show nI 0 = fil (fun _ => nI 0) (M 17) (mN M 1) x
    rw [fil_lt hx]
theorem rdDoes_rel (hR : rdRel R M) (hd : mB M 11 = true) (hn3 : 3 ≤ mN M 1) (hn9 : mN M 1 ≤ 9) (b14 : mN M 14 < 300) (b15 : 100 ≤ s → mN M 15 < 100) (iH : ∀ p, p < mN M 1 → M 6 p = nI (mA M 6 p) ∧ mA M 6 p < mN M 1) (iHi : ∀ p q, p < mN M 1 → q < mN M 1 → mA M 6 p = mA M 6 q → p = q) (hs2 : s < 100 → s / 10 < mN M 1 ∧ s % 10 ≤ 1) {R2 : nMem} (h : rdDoes R (mN M 1) s R2) : rdRel R2 (stM s M) := by
  unfold rdDoes at h
  unfold stM
  by_cases hs : s < 100
  · rw [if_pos hs] at h ⊢
    subst h
    exact rdPass_rel hR hd hn3 b14 iH iHi (hs2 hs).1 (hs2 hs).2
  · rw [if_neg hs] at h ⊢
    exact rdWalk_rel hR hd hn3 hn9 b14 (b15 (by omega)) h
end STEPS
/-- what a step changes of the reference -/
theorem stM_fr (s : Nat) (M : nMem) : mFr [5, 6, 8, 14, 15, 16, 17, 18, 19] M (stM s M) := by
  unfold stM
  split
  · unfold passM
    exact mFr.set (by decide) (mFr.set (by decide) (mFr.set (by decide) (mFr.set (by decide) (mFr.set (by decide) (mFr.set (by decide) mFr.rf)))))
  · unfold walkM
    exact mFr.set (by decide) (mFr.set (by decide) (mFr.set (by decide) (mFr.set (by decide) (mFr.set (by decide) (mFr.set (by decide) (mFr.set (by decide) (mFr.set (by decide) (mFr.set (by decide) mFr.rf))))))))
theorem stM_14 {s : Nat} {M : nMem} (b : mN M 14 < 300) : stM s M 14 0 = nI (mN M 14 + 1) ∧ mN (stM s M) 14 = mN M 14 + 1 := by
  have e : stM s M 14 0 = nI (mN M 14 + 1) := by unfold stM; split <;> rfl
  exact ⟨e, mN_of e (by omega)⟩
theorem stM_16 {s : Nat} {M : nMem} (hs : s < 102) : stM s M 16 = upd (M 16) (mN M 14) (nI s) := by
  unfold stM
  split
  · show upd (M 16) (mN M 14) (nI (10 * (s / 10) + s % 10)) = _
    rw [show 10 * (s / 10) + s % 10 = s by omega]
  · show upd (M 16) (mN M 14) (nI (100 + (s - 100))) = _
    rw [show 100 + (s - 100) = s by omega]
theorem stM_5 {s : Nat} {M : nMem} : stM s M 5 = mvd (M 5) (mN M 1) s := by
  unfold stM mvd
  split <;> rfl
/-- the whole state behind a step -/
theorem xRel.step {C C2 : nMem} {B : Nat → nMem} {P : Nat → Nat × Nat} {I : Nat → Nat} {M R2 : nMem} {s : Nat} (hR : xRel (C, B, P, I) M) (hd : mB M 11 = true) (hn3 : 3 ≤ mN M 1) (hn9 : mN M 1 ≤ 9) (h14 : M 14 0 = nI (mN M 14)) (b14 : mN M 14 < 300) (b15 : 100 ≤ s → mN M 15 < 100) (iH : ∀ p, p < mN M 1 → M 6 p = nI (mA M 6 p) ∧ mA M 6 p < mN M 1) (iHi : ∀ p q, p < mN M 1 → q < mN M 1 → mA M 6 p = mA M 6 q → p = q) (hs : s < 102) (hs2 : s < 100 → s / 10 < mN M 1 ∧ s % 10 ≤ 1)
    (hD : rdDoes (B (I 7)) (mN M 1) s R2) (hF : mFr [3, 11, 12, 19] C C2) (h3 : ∀ p, p < mN M 1 → C2 3 p = mvd (C 3) (mN M 1) s p) (h12 : C2 12 0 = nI (mN M 14 + 1)) (h11 : C2 11 = upd (C 11) (mN M 14) (nI s)) : xRel (C2, bset B (I 7) R2, P, I) (stM s M) := by
  obtain ⟨hw, gPe, gRi, gCl, gSt, gTh, gFi, gTx, gTr, gTp, gRd, gOr⟩ := hR
  dsimp only at hw gPe gRi gCl gSt gTh gFi gTx gTr gTp gRd gOr
  obtain ⟨r1, r2, r3, r4, r5, r6, r7⟩ := gRd.2 (show mN M 1 ≠ 0 by omega)
  have hrd := rdDoes_rel r6 hd hn3 hn9 b14 b15 iH iHi hs2 hD
  have fr := stM_fr s M
  have f : ∀ k, k ∉ [5, 6, 8, 14, 15, 16, 17, 18, 19] → stM s M k = M k := fun k hk => fr k hk
  have n : ∀ k, k ∉ [5, 6, 8, 14, 15, 16, 17, 18, 19] → mN (stM s M) k = mN M k := fun k hk => mN_fr fr hk
  have b11 : mB (stM s M) 11 = mB M 11 := by unfold mB; rw [f 11 (by decide)]
  have A : ∀ k i, k ∉ [5, 6, 8, 14, 15, 16, 17, 18, 19] → mA (stM s M) k i = mA M k i := fun k i hk => mA_fr fr hk
  have qPe : xgPe C2 (stM s M) := by
    refine xgPe.c (C := C) ?_ hF (by decide)
    unfold xgPe
    rw [n 0 (by decide), f 0 (by decide), f 3 (by decide), f 4 (by decide)]
    refine ⟨gPe.1, fun p hp => ?_, gPe.2.2⟩
    rw [A 2 p (by decide)]
    exact gPe.2.1 p hp
  have qFi : xgFi C2 B P I (stM s M) := by
    refine xgFi.c (C := C) ?_ hF (by decide)
    unfold xgFi
    rw [n 26 (by decide), f 26 (by decide)]
    refine ⟨gFi.1, fun x hx => ?_⟩
    rw [show mFs (stM s M) x = mFs M x by unfold mFs mA; rw [f 28 (by decide), f 29 (by decide)]]
    exact gFi.2 x hx
  have qTr : xgTr B P (stM s M) := by
    unfold xgTr
    rw [n 55 (by decide), f 55 (by decide), f 56 (by decide)]
    exact gTr
  have qTp : xgTp B P I (stM s M) := by
    unfold xgTp
    rw [f 57 (by decide), f 59 (by decide)]
    intro t ht
    rw [A 58 t (by decide)]
    exact gTp t ht
  have qCl : xgCl C2 (stM s M) := by
    refine xgCl.c (C := C) ?_ hF (by decide)
    unfold xgCl
    rw [n 1 (by decide), b11, f 10 (by decide), f 9 (by decide), f 7 (by decide)]
    exact ⟨fun _ => gCl.1 (Or.inl hd), gCl.2⟩
  have qTh : xgTh C2 (stM s M) := by
    refine xgTh.c (C := C) ?_ hF (by decide)
    unfold xgTh
    rw [n 20 (by decide), f 20 (by decide), f 21 (by decide), f 22 (by decide), f 23 (by decide)]
    exact gTh
  have qTx : xgTx C2 (stM s M) := by
    refine xgTx.c (C := C) ?_ hF (by decide)
    unfold xgTx
    rw [n 27 (by decide), f 27 (by decide), f 30 (by decide)]
    exact gTx
  have qRi : xgRi C2 (stM s M) := by
    unfold xgRi
    rw [n 1 (by decide), f 1 (by decide), f 11 (by decide), b11, hF 2 (by decide), hF 6 (by decide), hF 4 (by decide), hF 5 (by decide), stM_5]
    refine ⟨gRi.1, fun p hp => ?_, gRi.2.2.1, fun z => absurd (hd.symm.trans z) (by decide)⟩
    rw [h3 p hp]
    exact mvd_cg (fun z => (hs2 z).1) gRi.2.1 p hp
  have qSt : xgSt C2 (stM s M) := by
    obtain ⟨e1, e2⟩ := stM_14 (s := s) b14
    unfold xgSt
    rw [e1, e2, stM_16 hs, h12, h11]
    exact ⟨rfl, fun i hi => upd_in gSt.2 hi⟩
  refine ⟨hw, qPe, qRi, qCl, qSt, qTh, qFi.bs (by rw [r4]; decide), qTx, qTr.bs (by rw [r4]; decide), qTp.bs (by rw [r4]; decide), ⟨fun z => absurd ((n 1 (by decide)).symm.trans z) (by omega), fun _ => ⟨r1, r2, r3, r4, r5, ?_, ?_⟩⟩, gOr.bs (by rw [r4]; decide)⟩
  · dsimp only
    rw [bset_s]; exact hrd
  · dsimp only
    rw [bset_n (Ne.symm r3), n 1 (by decide)]; exact r7
