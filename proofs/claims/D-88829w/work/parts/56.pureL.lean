/-! ===== PLAIN: a dance tried by the class, and by the reference ===== -/
set_option maxRecDepth 100000
theorem ds_st {M : nMem} {s : Nat} (hn : mN M 1 ≤ 9) (hs : stp s) (h : 100 ≤ s ∨ s / 10 < mN M 1) : dstep s M = st_o s M := by
  unfold dstep
  by_cases c : 100 ≤ s
  · rw [if_pos c, o_walk_st (z := s - 100) (by unfold stp at hs; omega), show 100 + (s - 100) = s by omega]
  · rw [if_neg c, o_pass_st hn (by omega) (by unfold stp at hs; omega), show 10 * (s / 10) + s % 10 = s by omega]
theorem ds_out {M : nMem} {s : Nat} (hs : s < 100) (h : mN M 1 ≤ s / 10) : dstep s M = (-1, M) := by
  unfold dstep
  rw [if_neg (by omega)]
  unfold o_pass
  rw [nin_nI (by omega), decide_eq_false (by omega), if_pos rfl]
theorem dstep_fr (s : Nat) (M : nMem) : mFr [5, 6, 8, 14, 15, 16, 17, 18, 19] M (dstep s M).2 := by
  unfold dstep
  split
  · exact walk_fr _ _
  · exact pass_fr _ _ _
/-- a round as its methods need it -/
def rdV (R : nMem) (n : Nat) : Prop := R 0 0 = nI n ∧ R 6 0 = nI (mN R 6) ∧ mN R 6 ≤ 100 ∧ R 7 0 = nI (mN R 7) ∧ mN R 7 ≤ 300 ∧ rdA R n
/-- a round tried, where it is still like the cloth -/
def tRl (M R : nMem) (n : Nat) (T : TT) : Prop := (∀ p, p < n → R 1 p = nI (T.1 p) ∧ T.1 p < n) ∧ (∀ p, p < n → R 2 p = T.2.1 p) ∧ (∀ p, p < n → R 3 p = nI (T.2.2.1 p)) ∧ mN R 6 = T.2.2.2.1 ∧ mN R 7 = T.2.2.2.2 ∧ (∀ a b, a < n → b < n → T.1 a = T.1 b → a = b) ∧ T.2.2.2.1 ≤ mN M 15 ∧
  ∀ r, r < T.2.2.2.1 → ∀ p, p < n → R (20 + r) p = M 18 (9 * r + p) ∧ R (120 + r) p = M 19 (9 * r + p)
/-- .. and where it can't be like it any more -/
def tBad (M R : nMem) (n : Nat) : Prop := ∃ r, r < mN R 6 ∧ (mN M 15 ≤ r ∨ ∃ p, p < n ∧ ¬ (R (20 + r) p = M 18 (9 * r + p) ∧ R (120 + r) p = M 19 (9 * r + p)))
def tSt (M R : nMem) (n : Nat) : Option TT → Prop
  | none => tBad M R n
  | some T => tRl M R n T
section TRY
variable {M R R2 : nMem} {n s : Nat}
theorem rdV_A (hV : rdV R n) {p : Nat} (hp : p < n) : R 1 p = nI (mA R 1 p) ∧ mA R 1 p < n := hV.2.2.2.2.2 p hp
theorem rfP_z {p how : Nat} (h : rfP R n p how = 0) : ¬ (R 2 (mA R 1 (if how = 0 then p else (p + 1) % n)) < nI 1 ∨ R 2 (mA R 1 (if how = 0 then (p + 1) % n else p)) < nI 2) ∧ mN R 7 ≠ 300 := by
  unfold rfP at h
  by_cases c : R 2 (mA R 1 (if how = 0 then p else (p + 1) % n)) < nI 1 ∨ R 2 (mA R 1 (if how = 0 then (p + 1) % n else p)) < nI 2
  · rw [if_pos c] at h; exact absurd h (by decide)
  · rw [if_neg c] at h
    by_cases d : mN R 7 = 300
    · rw [if_pos d] at h; exact absurd h (by decide)
    · exact ⟨c, d⟩
theorem rfP_nz {p how : Nat} (h : ¬ rfP R n p how = 0) (d : mN R 7 ≠ 300) : R 2 (mA R 1 (if how = 0 then p else (p + 1) % n)) < nI 1 ∨ R 2 (mA R 1 (if how = 0 then (p + 1) % n else p)) < nI 2 := by
  unfold rfP at h
  by_cases c : R 2 (mA R 1 (if how = 0 then p else (p + 1) % n)) < nI 1 ∨ R 2 (mA R 1 (if how = 0 then (p + 1) % n else p)) < nI 2
  · exact c
  · rw [if_neg c, if_neg d] at h
    exact absurd rfl h
theorem rf_0 (hr : rfS R n s = 0) : mN R 7 ≠ 300 ∧ (100 ≤ s → mN R 6 ≠ 100) := by
  unfold rfS at hr
  by_cases hs : s < 100
  · rw [if_pos hs] at hr
    exact ⟨(rfP_z hr).2, fun z => absurd hs (by omega)⟩
  · rw [if_neg hs] at hr
    unfold rfW at hr
    split at hr
    · exact absurd hr (by decide)
    · split at hr
      · exact absurd hr (by decide)
      · rename_i h
        exact ⟨fun z => h (Or.inl z), fun _ z => h (Or.inr z)⟩
theorem rdV_step (hV : rdV R n) (hn3 : 3 ≤ n) (hs2 : s < 100 → s / 10 < n ∧ s % 10 ≤ 1) (hr : rfS R n s = 0) (hD : rdDoes R n s R2) : rdV R2 n ∧ mN R2 6 = (if s < 100 then mN R 6 else mN R 6 + 1) ∧ mN R2 7 = mN R 7 + 1 := by
  obtain ⟨v0, v6, v6b, v7, v7b, vA⟩ := hV
  obtain ⟨r7, r6⟩ := rf_0 hr
  unfold rdDoes at hD
  by_cases hs : s < 100
  · rw [if_pos hs] at hD
    obtain ⟨hp, hh⟩ := hs2 hs
    have hq : (s / 10 + 1) % n < n := Nat.mod_lt _ (by omega)
    subst hD
    have e7 : mN (rdPass (rdDone R) n (s / 10) (s % 10)) 7 = mN R 7 + 1 := mN_of rfl (by omega)
    have e6 : mN (rdPass (rdDone R) n (s / 10) (s % 10)) 6 = mN R 6 := rfl
    refine ⟨⟨v0, by rw [e6]; exact v6, by rw [e6]; exact v6b, by rw [e7]; rfl, by rw [e7]; omega, fun p hp2 => ?_⟩, by rw [if_pos hs, e6], e7⟩
    have ev : rdPass (rdDone R) n (s / 10) (s % 10) 1 p = R 1 (tsp (s / 10) ((s / 10 + 1) % n) p) := swp_tsp (R 1) _ _ p
    unfold mA
    rw [ev]
    exact vA _ (tsp_lt hp hq hp2)
  · rw [if_neg hs] at hD
    have hc := r6 (by omega)
    obtain ⟨k1, k2, k3, k4, k5, k6, k7⟩ := hD
    rw [show mN (rdDone R) 6 = mN R 6 from rfl] at k1 k3 k5 k6 k7
    have e6 : mN R2 6 = mN R 6 + 1 := mN_of k5 (by omega)
    have f7 : R2 7 0 = nI (mN R 7 + 1) := by rw [k1 7 (by simp; omega)]; rfl
    have e7 : mN R2 7 = mN R 7 + 1 := mN_of f7 (by omega)
    refine ⟨⟨by rw [k1 0 (by simp; omega)]; exact v0, by rw [e6]; exact k5, by rw [e6]; omega, by rw [e7]; exact f7, by rw [e7]; omega, fun p hp => ?_⟩, by rw [if_neg hs, e6], e7⟩
    have ev : R2 1 p = R 1 (if s - 100 = 0 then (p + (n - 1)) % n else (p + 1) % n) := by
      rw [k2 p hp]
      unfold tur
      rw [if_pos hp]
      split <;> rfl
    unfold mA
    rw [ev]
    exact vA _ (by split <;> exact Nat.mod_lt _ (by omega))
theorem tBad_step (hV : rdV R n) (hn3 : 3 ≤ n) (hs2 : s < 100 → s / 10 < n ∧ s % 10 ≤ 1) (hr : rfS R n s = 0) (hD : rdDoes R n s R2) (hB : tBad M R n) : tBad M R2 n := by
  have e6 := (rdV_step hV hn3 hs2 hr hD).2.1
  obtain ⟨r, h1, h2⟩ := hB
  have hk : R2 (20 + r) = R (20 + r) ∧ R2 (120 + r) = R (120 + r) := by
    have v6b := hV.2.2.1
    unfold rdDoes at hD
    by_cases hs : s < 100
    · rw [if_pos hs] at hD
      subst hD
      unfold rdPass
      rw [mset_n (by omega), mset_n (by omega), mset_n (by omega), mset_n (by omega), mset_n (by omega), mset_n (by omega)]
      unfold rdDone
      rw [mset_n (by omega), mset_n (by omega)]
      exact ⟨rfl, rfl⟩
    · rw [if_neg hs] at hD
      have hc := (rf_0 hr).2 (by omega)
      have k1 := hD.1
      rw [show mN (rdDone R) 6 = mN R 6 from rfl] at k1
      rw [k1 (20 + r) (by simp; omega), k1 (120 + r) (by simp; omega)]
      unfold rdDone
      rw [mset_n (by omega), mset_n (by omega)]
      exact ⟨rfl, rfl⟩
  refine ⟨r, ?_, ?_⟩
  · rw [e6]; split <;> omega
  · rw [hk.1, hk.2]; exact h2
/-- the round refuses: so does the reference -/
theorem t_ref (hV : rdV R n) (hn3 : 3 ≤ n) (hn9 : n ≤ 9) (b15 : mN M 15 ≤ 100) (hs2 : s < 100 → s / 10 < n ∧ s % 10 ≤ 1) {T : TT} (hT : tRl M R n T) (hr : ¬ rfS R n s = 0) : tstep M n s T = none := by
  obtain ⟨t1, t2, t3, t6, t7, ti, tb, tc⟩ := hT
  have eA : ∀ x, x < n → mA R 1 x = T.1 x := fun x hx => mA_of (t1 x hx).1 (by have := (t1 x hx).2; omega)
  unfold tstep
  by_cases c7 : T.2.2.2.2 = 300
  · rw [if_pos c7]
  · rw [if_neg c7]
    unfold rfS at hr
    by_cases hs : s < 100
    · rw [if_pos hs] at hr
      rw [if_neg (by omega)]
      obtain ⟨hp, hh⟩ := hs2 hs
      have hq : (s / 10 + 1) % n < n := Nat.mod_lt _ (by omega)
      unfold tpass
      rw [if_neg (by omega)]
      dsimp only
      rw [if_pos]
      have h := rfP_nz hr (by omega)
      skip
      · skip
        have ein : R 2 (mA R 1 (if s % 10 = 0 then s / 10 else (s / 10 + 1) % n)) = T.2.1 (if s % 10 = 0 then T.1 (s / 10) else T.1 ((s / 10 + 1) % n)) := by
          by_cases h0 : s % 10 = 0
          · rw [if_pos h0, if_pos h0, eA _ hp, t2 _ (t1 _ hp).2]
          · rw [if_neg h0, if_neg h0, eA _ hq, t2 _ (t1 _ hq).2]
        have eout : R 2 (mA R 1 (if s % 10 = 0 then (s / 10 + 1) % n else s / 10)) = T.2.1 (if s % 10 = 0 then T.1 ((s / 10 + 1) % n) else T.1 (s / 10)) := by
          by_cases h0 : s % 10 = 0
          · rw [if_pos h0, if_pos h0, eA _ hq, t2 _ (t1 _ hq).2]
          · rw [if_neg h0, if_neg h0, eA _ hp, t2 _ (t1 _ hp).2]
        rw [ein, eout] at h
        exact h
    · rw [if_neg hs] at hr
      rw [if_pos (by omega)]
      unfold twalk
      rw [if_pos]
      dsimp only
      unfold rfW at hr
      rw [t6, t7] at hr
      split at hr
      · rename_i h
        obtain ⟨p, hp, h9⟩ := anyb_iff.mp h
        rw [t2 p hp] at h9
        rw [allb_f hp (by rw [decide_eq_false (fun z => z (of_decide_eq_true h9))]), Bool.and_false]
      · split at hr
        · rename_i h
          rcases h with z | z
          · exact absurd z c7
          · rw [decide_eq_false (by omega), Bool.false_and]
        · exact absurd rfl hr
/-- the round does it: the reference goes along, or is out for good -/
theorem t_step (hV : rdV R n) (hn3 : 3 ≤ n) (hn9 : n ≤ 9) (b15 : mN M 15 ≤ 100) (hs2 : s < 100 → s / 10 < n ∧ s % 10 ≤ 1) (hr : rfS R n s = 0) (hD : rdDoes R n s R2) {T : TT} (hT : tRl M R n T) : tSt M R2 n (tstep M n s T) := by
  obtain ⟨hV2, e6, e7⟩ := rdV_step hV hn3 hs2 hr hD
  obtain ⟨r7, r6⟩ := rf_0 hr
  obtain ⟨t1, t2, t3, t6, t7, ti, tb, tc⟩ := hT
  have eA : ∀ x, x < n → mA R 1 x = T.1 x := fun x hx => mA_of (t1 x hx).1 (by have := (t1 x hx).2; omega)
  unfold tstep
  rw [if_neg (by omega)]
  unfold rdDoes at hD
  unfold rfS at hr
  by_cases hs : s < 100
  · rw [if_pos hs] at hr hD e6
    rw [if_neg (by omega)]
    obtain ⟨hp, hh⟩ := hs2 hs
    have hq : (s / 10 + 1) % n < n := Nat.mod_lt _ (by omega)
    have hne : T.1 (s / 10) ≠ T.1 ((s / 10 + 1) % n) := fun z => by
      have e := ti _ _ hp hq z
      have := md_e hp (show 1 < n by omega)
      split at this <;> omega
    have ein : R 2 (mA R 1 (if s % 10 = 0 then s / 10 else (s / 10 + 1) % n)) = T.2.1 (if s % 10 = 0 then T.1 (s / 10) else T.1 ((s / 10 + 1) % n)) := by
      by_cases h0 : s % 10 = 0
      · rw [if_pos h0, if_pos h0, eA _ hp, t2 _ (t1 _ hp).2]
      · rw [if_neg h0, if_neg h0, eA _ hq, t2 _ (t1 _ hq).2]
    have eout : R 2 (mA R 1 (if s % 10 = 0 then (s / 10 + 1) % n else s / 10)) = T.2.1 (if s % 10 = 0 then T.1 ((s / 10 + 1) % n) else T.1 (s / 10)) := by
      by_cases h0 : s % 10 = 0
      · rw [if_pos h0, if_pos h0, eA _ hq, t2 _ (t1 _ hq).2]
      · rw [if_neg h0, if_neg h0, eA _ hp, t2 _ (t1 _ hp).2]
    unfold tpass
    rw [if_neg (by omega)]
    dsimp only
    have hcond : ¬ (T.2.1 (if s % 10 = 0 then T.1 (s / 10) else T.1 ((s / 10 + 1) % n)) < nI 1 ∨ T.2.1 (if s % 10 = 0 then T.1 ((s / 10 + 1) % n) else T.1 (s / 10)) < nI 2) := by
      have h := (rfP_z hr).1
      rw [ein, eout] at h
      exact h
    rw [if_neg hcond]
    have eD : ∀ x, x < n → mA (rdDone R) 1 x = T.1 x := fun x hx => by rw [mA_done R (by decide)]; exact eA x hx
    subst hD
    refine ⟨fun x hx => ⟨?_, (t1 _ (tsp_lt hp hq hx)).2⟩, fun x hx => ?_, fun x hx => ?_, ?_, ?_, fun a b ha hb z => tsp_inj (ti _ _ (tsp_lt hp hq ha) (tsp_lt hp hq hb) z), tb, fun r hr9 x hx => ?_⟩
    · exact (swp_tsp (R 1) _ _ x).trans (t1 _ (tsp_lt hp hq hx)).1
    · show upd (upd (R 2) (mA (rdDone R) 1 (s / 10)) (R 2 (mA (rdDone R) 1 (s / 10)) - (if s % 10 = 0 then nI 1 else nI 2))) (mA (rdDone R) 1 ((s / 10 + 1) % n)) (upd (R 2) (mA (rdDone R) 1 (s / 10)) (R 2 (mA (rdDone R) 1 (s / 10)) - (if s % 10 = 0 then nI 1 else nI 2)) (mA (rdDone R) 1 ((s / 10 + 1) % n)) - (if s % 10 = 0 then nI 2 else nI 1)) x = _
      rw [eD _ hp, eD _ hq]
      by_cases h0 : s % 10 = 0
      · rw [if_pos h0, if_pos h0, if_pos h0, if_pos h0]
        have g1 : ∀ y, y < n → upd (R 2) (T.1 (s / 10)) (R 2 (T.1 (s / 10)) - nI 1) y = upd T.2.1 (T.1 (s / 10)) (T.2.1 (T.1 (s / 10)) - nI 1) y := upd_cg t2 (by rw [t2 _ (t1 _ hp).2])
        exact upd_cg g1 (by rw [g1 _ (t1 _ hq).2]) x hx
      · rw [if_neg h0, if_neg h0, if_neg h0, if_neg h0]
        have g1 : ∀ y, y < n → upd (R 2) (T.1 (s / 10)) (R 2 (T.1 (s / 10)) - nI 2) y = upd T.2.1 (T.1 (s / 10)) (T.2.1 (T.1 (s / 10)) - nI 2) y := upd_cg t2 (by rw [t2 _ (t1 _ hp).2])
        have e1 : upd (R 2) (T.1 (s / 10)) (R 2 (T.1 (s / 10)) - nI 2) (T.1 ((s / 10 + 1) % n)) = T.2.1 (T.1 ((s / 10 + 1) % n)) := by rw [upd_n (Ne.symm hne), t2 _ (t1 _ hq).2]
        have e3 : upd T.2.1 (T.1 ((s / 10 + 1) % n)) (T.2.1 (T.1 ((s / 10 + 1) % n)) - nI 1) (T.1 (s / 10)) = T.2.1 (T.1 (s / 10)) := upd_n hne
        rw [e1, e3, upd_swap (f := T.2.1) (Ne.symm hne)]
        exact upd_cg g1 rfl x hx
    · show upd (R 3) (s / 10) (nI (1 + s % 10)) x = nI (updN T.2.2.1 (s / 10) (s % 10 + 1) x)
      unfold upd updN
      by_cases e : x = s / 10
      · rw [if_pos e, if_pos e, Nat.add_comm]
      · rw [if_neg e, if_neg e]; exact t3 x hx
    · rw [e6]; exact t6
    · rw [e7, t7]
    · have := tc r hr9 x hx
      have hrb : r < 100 := by have := hV.2.2.1; dsimp only at hr9; omega
      unfold rdPass
      rw [mset_n (by omega), mset_n (by omega), mset_n (by omega), mset_n (by omega), mset_n (by omega), mset_n (by omega)]
      unfold rdDone
      rw [mset_n (by omega), mset_n (by omega)]
      exact this
  · rw [if_neg hs] at hr hD e6
    rw [if_pos (by omega)]
    have hrow : mN R 6 < 100 := by have := hV.2.2.1; have := r6 (by omega); omega
    obtain ⟨k1, k2, k3, k4, k5, k6, k7⟩ := hD
    rw [show mN (rdDone R) 6 = mN R 6 from rfl] at k1 k3 k5 k6 k7
    have etr : ∀ x, x < n → R2 (20 + mN R 6) x = nI (T.1 (trn (s - 100) n x)) ∧ R2 1 x = nI (T.1 (trn (s - 100) n x)) := fun x hx => by
      rw [k6 x hx, k2 x hx]
      show tur (s - 100) n (R 1) x = _ ∧ tur (s - 100) n (R 1) x = _
      rw [tur_trn hx]
      exact ⟨(t1 _ (trn_lt hx)).1, (t1 _ (trn_lt hx)).1⟩
    have hold : ∀ r, r < mN R 6 → R2 (20 + r) = R (20 + r) ∧ R2 (120 + r) = R (120 + r) := fun r hr => by
      rw [k1 (20 + r) (by simp; omega), k1 (120 + r) (by simp; omega)]
      unfold rdDone
      rw [mset_n (by omega), mset_n (by omega)]
      exact ⟨rfl, rfl⟩
    unfold twalk
    dsimp only
    by_cases c1 : T.2.2.2.1 < mN M 15
    · have hl : allb n (fun p => decide (¬ T.2.1 p < nI (10 + T.2.2.2.1 / 3))) = true := by
        unfold rfW at hr
        split at hr
        · exact absurd hr (by decide)
        · rename_i h
          refine allb_iff.mpr fun p hp => decide_eq_true fun z => h (anyb_t hp (decide_eq_true ?_))
          rw [t2 p hp, t6]
          exact z
      rw [if_neg (by rw [hl, decide_eq_true c1]; decide)]
      by_cases c2 : tcl M n (fun x => T.1 (trn (s - 100) n x)) T.2.2.1 T.2.2.2.1 = true
      · rw [if_pos c2]
        have c3 := allb_iff.mp c2
        refine ⟨fun x hx => ⟨(etr x hx).2, (t1 _ (trn_lt hx)).2⟩, fun x hx => ?_, fun x hx => ?_, ?_, ?_, fun a b ha hb z => trn_inj ha hb (ti _ _ (trn_lt ha) (trn_lt hb) z), ?_, fun r hr9 x hx => ?_⟩
        · rw [k3 x hx]
          show R 2 x - _ = T.2.1 x - _
          rw [t2 x hx, t6]
        · exact k4 x hx
        · rw [e6, t6]
        · rw [e7, t7]
        · exact c1
        · by_cases e : r = mN R 6
          · subst e
            have := c3 x hx
            rw [Bool.and_eq_true, decide_eq_true_iff, decide_eq_true_iff] at this
            rw [(etr x hx).1, k7 x hx, t6]
            refine ⟨this.1, ?_⟩
            show R 3 x = _
            rw [t3 x hx]
            exact this.2
          · have hr8 : r < T.2.2.2.1 := by have : r < T.2.2.2.1 + 1 := hr9; omega
            rw [(hold r (by omega)).1, (hold r (by omega)).2]
            exact tc r hr8 x hx
      · rw [if_neg c2]
        refine ⟨mN R 6, by omega, Or.inr ?_⟩
        apply Classical.byContradiction
        intro z
        refine c2 (allb_iff.mpr fun p hp => ?_)
        have w : R2 (20 + mN R 6) p = M 18 (9 * mN R 6 + p) ∧ R2 (120 + mN R 6) p = M 19 (9 * mN R 6 + p) := by
          apply Classical.byContradiction
          intro y
          exact z ⟨p, hp, y⟩
        rw [(etr p hp).1, k7 p hp, t6] at w
        rw [decide_eq_true w.1, Bool.true_and]
        refine decide_eq_true ?_
        rw [← t3 p hp]
        exact w.2
    · rw [if_pos (by rw [decide_eq_false c1]; rfl)]
      exact ⟨mN R 6, by omega, Or.inl (by omega)⟩
/-- at its end: the cloths are like -/
theorem t_end {S : nMem} (hS : rdRel S M) (b15 : mN M 15 ≤ 100) (hn : n = mN M 1) {o : Option TT} (hT : tSt M R n o) : rdLike R S n = (match o with | none => false | some T => decide (T.2.2.2.1 = mN M 15)) := by
  have s6 : mN S 6 = mN M 15 := rd_6 hS b15
  unfold rdLike
  rw [s6]
  cases o with
  | none =>
    obtain ⟨r, h1, h2⟩ := hT
    dsimp only
    by_cases c : mN R 6 = mN M 15
    · rw [decide_eq_true c, Bool.true_and]
      refine allb_f h1 ?_
      rcases h2 with z | ⟨p, hp, z⟩
      · omega
      · unfold rdRow
        refine allb_f hp ?_
        obtain ⟨q1, q2⟩ := hS.2.2.1 r p (by omega) (by omega)
        rw [q1, q2]
        cases e : decide (R (20 + r) p = M 18 (9 * r + p)) && decide (R (120 + r) p = M 19 (9 * r + p)) with
        | false => rfl
        | true =>
          rw [Bool.and_eq_true, decide_eq_true_iff, decide_eq_true_iff] at e
          exact absurd e z
    · rw [decide_eq_false c, Bool.false_and]
  | some T =>
    obtain ⟨t1, t2, t3, t6, t7, ti, tb, tc⟩ := hT
    dsimp only
    rw [t6]
    by_cases c : T.2.2.2.1 = mN M 15
    · rw [decide_eq_true c, Bool.true_and]
      refine allb_iff.mpr fun r hr => ?_
      unfold rdRow
      refine allb_iff.mpr fun p hp => ?_
      obtain ⟨q1, q2⟩ := hS.2.2.1 r p (by omega) (by omega)
      rw [q1, q2, decide_eq_true (tc r hr p hp).1, decide_eq_true (tc r hr p hp).2]
      rfl
    · rw [decide_eq_false c, Bool.false_and]
end TRY
