/-! ===== THE CLASS: figures, traces ===== -/
set_option maxRecDepth 100000
def shX12 : gS := (12, 3, fun j => [1, 0, 0].getD j 0, fun _ => 300, false)
theorem gL_X12 (i : Nat) : gL shX12 i ≤ 5040 := by unfold gL; split; exact (by decide : 300 ≤ 5040); decide
theorem gW_X12 : gW shX12 RX12 TX12 tyX12 := ⟨rfl, in_X12, by decide, tyX12_ok, nmX12, by decide, gL_X12⟩
theorem gI_X12_0 : gI shX12 0 := ⟨by decide, by decide, Or.inl rfl⟩
def shX1 : gS := (1, 2, fun j => [1, 0].getD j 0, fun _ => 20, false)
theorem gL_X1 (i : Nat) : gL shX1 i ≤ 5040 := by unfold gL; split; exact (by decide : 20 ≤ 5040); decide
theorem gW_X1 : gW shX1 RX1 TX1 tyX1 := ⟨rfl, in_X1, by decide, tyX1_ok, nmX1, by decide, gL_X1⟩
theorem gI_X1_0 : gI shX1 0 := ⟨by decide, by decide, Or.inl rfl⟩
/-- a figure's steps -/
def fgR (R : nMem) (L : List Nat) (t : Bool) : Prop := R 1 0 = nI L.length ∧ L.length ≤ 300 ∧ R 2 0 = nbo t ∧ ∀ k, k < L.length → R 0 k = nI (L.getD k 0)
theorem fgR.add_t {R : nMem} {L : List Nat} {t : Bool} {s : Nat} (h : fgR R L t) (hl : L.length = 300) : fgR (mset R 2 (fun _ => nI 1)) (ladd (L, t) s).1 (ladd (L, t) s).2 := by
  unfold ladd
  rw [if_pos hl]
  exact ⟨h.1, h.2.1, rfl, h.2.2.2⟩
theorem fgR.add_f {R : nMem} {L : List Nat} {t : Bool} {s : Nat} (h : fgR R L t) (hl : ¬ L.length = 300) : fgR (mset (mset R 1 (fun _ => nI (L.length + 1))) 0 (upd (R 0) L.length (nI s))) (ladd (L, t) s).1 (ladd (L, t) s).2 := by
  unfold ladd
  rw [if_neg hl]
  have h3 := h.2.1
  refine ⟨by simp; rfl, by simp; omega, h.2.2.1, fun k hk => ?_⟩
  dsimp only at hk ⊢
  rw [snoc_get hk, mset_s]
  unfold upd
  rw [List.length_append, List.length_singleton] at hk
  split
  · rfl
  · exact h.2.2.2 k (by omega)
set_option maxHeartbeats 4000000 in
set_option maxRecDepth 100000 in
theorem ct_X12_adds (b : Nat) (na : nA) (h : nH) (R : nMem) {L : List Nat} {t : Bool} (hF : fgR R L t) (s : Nat) : nM yX12_adds cX12_adds 2 (none) (nRm 0 0 0) [.ref (na (b + 9)), .int (nI s)] na (gPut shX12 b na h R) (nQv (gRelV shX12 b na h (fun R2 => fgR R2 (ladd (L, t) s).1 (ladd (L, t) s).2))) 0 0 := by
  refine nM.ofN RX12 rfl (by decide) (by intro v hv; simp only [List.mem_cons, List.not_mem_nil, or_false] at hv; rcases hv with rfl | rfl <;> rfl) (Nat.le_of_ble_eq_true rfl) (fun K hC hnm => ?_)
  show WN K na (gPut shX12 b na h R) 0 0 (nE K (nQv (gRelV shX12 b na h (fun R2 => fgR R2 (ladd (L, t) s).1 (ladd (L, t) s).2))) 0 0) 0 [some (.ref (na (b + 9))), some (.int (nI s))] []
  let Q9 : State → Prop := nE K (nQv (gRelV shX12 b na h (fun R2 => fgR R2 (ladd (L, t) s).1 (ladd (L, t) s).2))) 0 0
  show WN K na (gPut shX12 b na h R) 0 0 Q9 0 [some (.ref (na (b + 9))), some (.int (nI s))] []
  have hl3 := hF.2.1
  refine n_aload_n hC dX12_adds_0 rfl ?_
  refine g_getI hC gW_X12 1 (v := nI L.length) q599 dX12_adds_1 rfl (by decide) (by decide) hF.1 ?_
  refine n_sipush hC (v := nI 300) dX12_adds_4 (by decide) ?_
  refine n_icmp_neN hC (tgt := 16) dX12_adds_7 (by decide) (by omega) (by omega) (fun c_7 => ?_) (fun c_7 => ?_)
  · skip
    refine n_aload_n hC dX12_adds_16 rfl ?_
    refine g_getA hC gW_X12 0 q597 dX12_adds_17 rfl (by decide) (by decide) ?_
    refine n_aload_n hC dX12_adds_20 rfl ?_
    refine n_dup hC dX12_adds_21 rfl ?_
    refine g_getI hC gW_X12 1 (v := nI L.length) q599 dX12_adds_22 rfl (by decide) (by decide) hF.1 ?_
    refine n_dup_x1 hC dX12_adds_25 rfl rfl ?_
    refine n_iconst hC (v := nI 1) dX12_adds_26 (by decide) ?_
    refine n_iaddN hC dX12_adds_27 rfl ?_
    refine g_putI hC gW_X12 1 (R2 := mset R 1 (fun _ => nI (L.length + 1))) q599 dX12_adds_28 rfl (by decide) (by decide) rfl rfl rfl rfl rfl ?_
    refine n_iload_n hC dX12_adds_31 rfl ?_
    refine g_astN hC gW_X12 0 (R2 := mset (mset R 1 (fun _ => nI (L.length + 1))) 0 (upd (R 0) L.length (nI s))) dX12_adds_32 rfl gI_X12_0 (by have h9 : gL shX12 0 = 300 := rfl; omega) rfl ?_
    exact n_vret hC dX12_adds_33 (by decide) (by decide) (⟨rfl, _, rfl, hF.add_f c_7⟩)
  · skip
    refine n_aload_n hC dX12_adds_10 rfl ?_
    refine n_iconst hC (v := nI 1) dX12_adds_11 (by decide) ?_
    refine g_putI hC gW_X12 2 (R2 := mset R 2 (fun _ => nI 1)) q601 dX12_adds_12 rfl (by decide) (by decide) rfl rfl rfl rfl rfl ?_
    exact n_vret hC dX12_adds_15 (by decide) (by decide) (⟨rfl, _, rfl, hF.add_t c_7⟩)

set_option maxHeartbeats 4000000 in
set_option maxRecDepth 100000 in
theorem ct_X12_isOf (b : Nat) (na : nA) (h : nH) (R : nMem) {L : List Nat} {t : Bool} (hF : fgR R L t) (hL : ∀ x ∈ L, stp x) {n : Nat} (hn : n ≤ 9) : nM yX12_isOf cX12_isOf 3 (some .boolean) (nRm 0 0 0) [.ref (na (b + 9)), .int (nI n)] na (gPut shX12 b na h R) (nQi (gPure shX12 b na h R (nbo (allb L.length (fun k => decide (100 ≤ L.getD k 0) || decide (L.getD k 0 / 10 < n)))))) 0 0 := by
  refine nM.ofN RX12 rfl (by decide) (by intro v hv; simp only [List.mem_cons, List.not_mem_nil, or_false] at hv; rcases hv with rfl | rfl <;> rfl) (Nat.le_of_ble_eq_true rfl) (fun K hC hnm => ?_)
  show WN K na (gPut shX12 b na h R) 0 0 (nE K (nQi (gPure shX12 b na h R (nbo (allb L.length (fun k => decide (100 ≤ L.getD k 0) || decide (L.getD k 0 / 10 < n)))))) 0 0) 0 [some (.ref (na (b + 9))), some (.int (nI n)), none] []
  let Q9 : State → Prop := nE K (nQi (gPure shX12 b na h R (nbo (allb L.length (fun k => decide (100 ≤ L.getD k 0) || decide (L.getD k 0 / 10 < n)))))) 0 0
  show WN K na (gPut shX12 b na h R) 0 0 Q9 0 [some (.ref (na (b + 9))), some (.int (nI n)), none] []
  have hl3 := hF.2.1
  refine n_iconst hC (v := nI 0) dX12_isOf_0 (by decide) ?_
  refine n_istore_n hC dX12_isOf_1 (Nat.le_of_ble_eq_true rfl) ?_
  have lp2 : ∀ d9 : Nat, ∀ (k : Nat), L.length - k = d9 → (k ≤ L.length) → (∀ p, p < k → (decide (100 ≤ L.getD p 0) || decide (L.getD p 0 / 10 < n)) = true) → WN K na (gPut shX12 b na h R) 0 0 Q9 2 [some (.ref (na (b + 9))), some (.int (nI n)), some (.int (nI k))] [] := by
    intro d9
    induction d9 using Nat.strongRecOn with
    | _ d9 ih2 =>
      intro k hd2 hk hok
      refine n_iload_n hC dX12_isOf_2 rfl ?_
      refine n_aload_n hC dX12_isOf_3 rfl ?_
      refine g_getI hC gW_X12 1 (v := nI L.length) q599 dX12_isOf_4 rfl (by decide) (by decide) hF.1 ?_
      refine n_icmp_geN hC (tgt := 42) dX12_isOf_7 (by decide) (by omega) (by omega) (fun c_7 => ?_) (fun c_7 => ?_)
      · skip
        refine n_iconst hC (v := nI 1) dX12_isOf_42 (by decide) ?_
        exact n_zret hC dX12_isOf_43 rfl (by decide) (by decide) (⟨by rw [allb_iff.mpr (fun p hp => hok p (by omega))]; rfl, rfl, rfl⟩)
      · skip
        have hs9 := stp_lt (getD_stp hL c_7)
        refine n_aload_n hC dX12_isOf_10 rfl ?_
        refine g_getA hC gW_X12 0 q597 dX12_isOf_11 rfl (by decide) (by decide) ?_
        refine n_iload_n hC dX12_isOf_14 rfl ?_
        refine g_aldN hC gW_X12 0 (v := nI (L.getD k 0)) dX12_isOf_15 rfl gI_X12_0 (by have h9 : gL shX12 0 = 300 := rfl; omega) (hF.2.2.2 k c_7) ?_
        refine n_bipush hC (v := nI 100) dX12_isOf_16 (by decide) ?_
        refine n_icmp_geN hC (tgt := 36) dX12_isOf_18 (by decide) (by omega) (by omega) (fun c_18 => ?_) (fun c_18 => ?_)
        · skip
          refine n_iincN hC dX12_isOf_36 (j := 1) (c := k + 1) rfl (by decide) rfl ?_
          refine n_goto hC (tgt := 2) dX12_isOf_39 (by decide) ?_
          exact WN.forget (L' := [some (.ref (na (b + 9))), some (.int (nI n)), some (.int (nI (k + 1)))]) (⟨Or.inr rfl, Or.inr rfl, Or.inr rfl, trivial⟩) (ih2 _ (by omega) (k + 1) rfl (by omega) (lt_s hok (by rw [decide_eq_true c_18]; rfl)))
        · skip
          refine n_aload_n hC dX12_isOf_21 rfl ?_
          refine g_getA hC gW_X12 0 q597 dX12_isOf_22 rfl (by decide) (by decide) ?_
          refine n_iload_n hC dX12_isOf_25 rfl ?_
          refine g_aldN hC gW_X12 0 (v := nI (L.getD k 0)) dX12_isOf_26 rfl gI_X12_0 (by have h9 : gL shX12 0 = 300 := rfl; omega) (hF.2.2.2 k c_7) ?_
          refine n_bipush hC (v := nI 10) dX12_isOf_27 (by decide) ?_
          refine n_idivN hC dX12_isOf_29 (by omega) (by omega) (by omega) rfl ?_
          refine n_iload_n hC dX12_isOf_30 rfl ?_
          refine n_icmp_ltN hC (tgt := 36) dX12_isOf_31 (by decide) (by omega) (by omega) (fun c_31 => ?_) (fun c_31 => ?_)
          · skip
            refine n_iincN hC dX12_isOf_36 (j := 1) (c := k + 1) rfl (by decide) rfl ?_
            refine n_goto hC (tgt := 2) dX12_isOf_39 (by decide) ?_
            exact WN.forget (L' := [some (.ref (na (b + 9))), some (.int (nI n)), some (.int (nI (k + 1)))]) (⟨Or.inr rfl, Or.inr rfl, Or.inr rfl, trivial⟩) (ih2 _ (by omega) (k + 1) rfl (by omega) (lt_s hok (by rw [decide_eq_true c_31, Bool.or_true])))
          · skip
            refine n_iconst hC (v := nI 0) dX12_isOf_34 (by decide) ?_
            exact n_zret hC dX12_isOf_35 rfl (by decide) (by decide) (⟨by rw [allb_f (k := k) c_7 (by rw [decide_eq_false (by omega), decide_eq_false (by omega)]; rfl)]; rfl, rfl, rfl⟩)
  exact WN.forget (L' := [some (.ref (na (b + 9))), some (.int (nI n)), some (.int (nI 0))]) (⟨Or.inr rfl, Or.inr rfl, Or.inr rfl, trivial⟩) (lp2 _ 0 rfl (by omega) lt_0)

set_option maxHeartbeats 4000000 in
set_option maxRecDepth 100000 in
theorem ct_X1_ran (b : Nat) (na : nA) (h : nH) (R : nMem) {c : Nat} (hc : R 1 0 = nI c) (hc9 : c ≤ 1000) (x : Nat) : nM yX1_ran cX1_ran 2 (none) (nRm 0 0 0) [.ref (na (b + 9)), .int (nI x)] na (gPut shX1 b na h R) (nQv (gRelV shX1 b na h (fun R2 => R2 = mset (mset R 0 (if c < 20 then upd (R 0) c (nI x) else R 0)) 1 (fun _ => nI (c + 1))))) 0 0 := by
  refine nM.ofN RX1 rfl (by decide) (by intro v hv; simp only [List.mem_cons, List.not_mem_nil, or_false] at hv; rcases hv with rfl | rfl <;> rfl) (Nat.le_of_ble_eq_true rfl) (fun K hC hnm => ?_)
  show WN K na (gPut shX1 b na h R) 0 0 (nE K (nQv (gRelV shX1 b na h (fun R2 => R2 = mset (mset R 0 (if c < 20 then upd (R 0) c (nI x) else R 0)) 1 (fun _ => nI (c + 1))))) 0 0) 0 [some (.ref (na (b + 9))), some (.int (nI x))] []
  let Q9 : State → Prop := nE K (nQv (gRelV shX1 b na h (fun R2 => R2 = mset (mset R 0 (if c < 20 then upd (R 0) c (nI x) else R 0)) 1 (fun _ => nI (c + 1))))) 0 0
  show WN K na (gPut shX1 b na h R) 0 0 Q9 0 [some (.ref (na (b + 9))), some (.int (nI x))] []
  refine n_aload_n hC dX1_ran_0 rfl ?_
  refine g_getI hC gW_X1 1 (v := nI c) q127 dX1_ran_1 rfl (by decide) (by decide) hc ?_
  refine n_bipush hC (v := nI 20) dX1_ran_4 (by decide) ?_
  refine n_icmp_geN hC (tgt := 19) dX1_ran_6 (by decide) (by omega) (by omega) (fun c_6 => ?_) (fun c_6 => ?_)
  · skip
    refine n_aload_n hC dX1_ran_19 rfl ?_
    refine n_dup hC dX1_ran_20 rfl ?_
    refine g_getI hC gW_X1 1 (v := nI c) q127 dX1_ran_21 rfl (by decide) (by decide) hc ?_
    refine n_iconst hC (v := nI 1) dX1_ran_24 (by decide) ?_
    refine n_iaddN hC dX1_ran_25 rfl ?_
    refine g_putI hC gW_X1 1 (R2 := mset R 1 (fun _ => nI (c + 1))) q127 dX1_ran_26 rfl (by decide) (by decide) rfl rfl rfl rfl rfl ?_
    exact n_vret hC dX1_ran_29 (by decide) (by decide) (⟨rfl, _, rfl, (by rw [if_neg (show ¬ c < 20 by omega), mset_id])⟩)
  · skip
    refine n_aload_n hC dX1_ran_9 rfl ?_
    refine g_getA hC gW_X1 0 q125 dX1_ran_10 rfl (by decide) (by decide) ?_
    refine n_aload_n hC dX1_ran_13 rfl ?_
    refine g_getI hC gW_X1 1 (v := nI c) q127 dX1_ran_14 rfl (by decide) (by decide) hc ?_
    refine n_iload_n hC dX1_ran_17 rfl ?_
    refine g_astN hC gW_X1 0 (R2 := mset R 0 (upd (R 0) c (nI x))) dX1_ran_18 rfl gI_X1_0 (by have h9 : gL shX1 0 = 20 := rfl; omega) rfl ?_
    refine n_aload_n hC dX1_ran_19 rfl ?_
    refine n_dup hC dX1_ran_20 rfl ?_
    refine g_getI hC gW_X1 1 (v := nI c) q127 dX1_ran_21 rfl (by decide) (by decide) hc ?_
    refine n_iconst hC (v := nI 1) dX1_ran_24 (by decide) ?_
    refine n_iaddN hC dX1_ran_25 rfl ?_
    refine g_putI hC gW_X1 1 (R2 := mset (mset R 0 (upd (R 0) c (nI x))) 1 (fun _ => nI (c + 1))) q127 dX1_ran_26 rfl (by decide) (by decide) rfl rfl rfl rfl rfl ?_
    exact n_vret hC dX1_ran_29 (by decide) (by decide) (⟨rfl, _, rfl, (by rw [if_pos c_6])⟩)

def hPure (na : nA) (h : nH) (v : Int32) : Int32 → nA → nH → Prop := fun r na' h' => v = r ∧ na = na' ∧ h = h'
set_option maxHeartbeats 4000000 in
set_option maxRecDepth 100000 in
theorem ct_X0_in (na : nA) (h : nH) (v lo hi : Int32) : nM yX0_in cX0_in 3 (some .boolean) (nRm 0 0 0) [.int v, .int lo, .int hi] na h (nQi (hPure na h (nbo (nrg v lo hi)))) 0 0 := by
  refine nM.ofN RX0 rfl (by decide) (by intro v hv; simp only [List.mem_cons, List.not_mem_nil, or_false] at hv; rcases hv with rfl | rfl | rfl <;> rfl) (Nat.le_of_ble_eq_true rfl) (fun K hC hnm => ?_)
  show WN K na h 0 0 (nE K (nQi (hPure na h (nbo (nrg v lo hi)))) 0 0) 0 [some (.int v), some (.int lo), some (.int hi)] []
  let Q9 : State → Prop := nE K (nQi (hPure na h (nbo (nrg v lo hi)))) 0 0
  show WN K na h 0 0 Q9 0 [some (.int v), some (.int lo), some (.int hi)] []
  refine n_iload_n hC dX0_in_0 rfl ?_
  refine n_iload_n hC dX0_in_1 rfl ?_
  refine n_icmp_lt hC (tgt := 14) dX0_in_2 (by decide) (fun c_2 => ?_) (fun c_2 => ?_)
  · skip
    refine n_iconst hC (v := nI 0) dX0_in_14 (by decide) ?_
    exact n_zret hC dX0_in_15 rfl (by decide) (by decide) (⟨(nrg_f1 c_2), rfl, rfl⟩)
  · skip
    refine n_iload_n hC dX0_in_5 rfl ?_
    refine n_iload_n hC dX0_in_6 rfl ?_
    refine n_icmp_gt hC (tgt := 14) dX0_in_7 (by decide) (fun c_7 => ?_) (fun c_7 => ?_)
    · skip
      refine n_iconst hC (v := nI 0) dX0_in_14 (by decide) ?_
      exact n_zret hC dX0_in_15 rfl (by decide) (by decide) (⟨(nrg_f2 c_7), rfl, rfl⟩)
    · skip
      refine n_iconst hC (v := nI 1) dX0_in_10 (by decide) ?_
      refine n_goto hC (tgt := 15) dX0_in_11 (by decide) ?_
      exact n_zret hC dX0_in_15 rfl (by decide) (by decide) (⟨(nrg_t c_2 c_7), rfl, rfl⟩)

set_option maxHeartbeats 4000000 in
set_option maxRecDepth 100000 in
theorem ct_X0_undoing (na : nA) (h : nH) {s : Nat} (hs : s < 102) : nM yX0_undoing cX0_undoing 1 (some .int) (nRm 0 0 0) [.int (nI s)] na h (nQi (hPure na h (nI (und s)))) 0 0 := by
  refine nM.ofN RX0 rfl (by decide) (by intro v hv; simp only [List.mem_cons, List.not_mem_nil, or_false] at hv; subst hv; rfl) (Nat.le_of_ble_eq_true rfl) (fun K hC hnm => ?_)
  show WN K na h 0 0 (nE K (nQi (hPure na h (nI (und s)))) 0 0) 0 [some (.int (nI s))] []
  let Q9 : State → Prop := nE K (nQi (hPure na h (nI (und s)))) 0 0
  show WN K na h 0 0 Q9 0 [some (.int (nI s))] []
  refine n_iload_n hC dX0_undoing_0 rfl ?_
  refine n_bipush hC (v := nI 100) dX0_undoing_1 (by decide) ?_
  refine n_icmp_geN hC (tgt := 12) dX0_undoing_3 (by decide) (by omega) (by omega) (fun c_3 => ?_) (fun c_3 => ?_)
  · skip
    refine n_sipush hC (v := nI 201) dX0_undoing_12 (by decide) ?_
    refine n_iload_n hC dX0_undoing_15 rfl ?_
    refine n_isubN hC dX0_undoing_16 (by omega) rfl ?_
    exact n_iret hC dX0_undoing_17 (by decide) (by decide) (⟨by unfold und; rw [if_pos (by omega)], rfl, rfl⟩)
  · skip
    refine n_iload_n hC dX0_undoing_6 rfl ?_
    refine n_iconst hC (v := nI 1) dX0_undoing_7 (by decide) ?_
    refine n_ixor hC dX0_undoing_8 ?_
    rw [show (nI s) ^^^ (nI 1) = nI (flp s) from flp_x (by omega)]
    refine n_goto hC (tgt := 17) dX0_undoing_9 (by decide) ?_
    exact n_iret hC dX0_undoing_17 (by decide) (by decide) (⟨by unfold und; rw [if_neg (by omega)], rfl, rfl⟩)

set_option maxHeartbeats 4000000 in
set_option maxRecDepth 100000 in
theorem ct_X12_adds_2 (b : Nat) (na : nA) (h : nH) (R : nMem) {L : List Nat} {t : Bool} (hF : fgR R L t) (b2 : Nat) (S : nMem) {L2 : List Nat} {t2 : Bool} (hS : fgR S L2 t2) (hdis : b2 + 220 ≤ b ∨ b + 220 ≤ b2) (hO : ∀ i, i < 220 → h (b2 + i) = gCell shX12 b2 na S i) : nM yX12_adds_2 cX12_adds_2 3 (none) (nRm 1 0 0) [.ref (na (b + 9)), .ref (na (b2 + 9))] na (gPut shX12 b na h R) (nQv (gRelV shX12 b na h (fun R2 => fgR R2 (ladds (L, t || t2) L2).1 (ladds (L, t || t2) L2).2))) 0 0 := by
  refine nM.ofN RX12 rfl (by decide) (by intro v hv; simp only [List.mem_cons, List.not_mem_nil, or_false] at hv; rcases hv with rfl | rfl <;> rfl) (Nat.le_of_ble_eq_true rfl) (fun K hC hnm => ?_)
  show WN K na (gPut shX12 b na h R) 0 0 (nE K (nQv (gRelV shX12 b na h (fun R2 => fgR R2 (ladds (L, t || t2) L2).1 (ladds (L, t || t2) L2).2))) 0 0) 0 [some (.ref (na (b + 9))), some (.ref (na (b2 + 9))), none] []
  let Q9 : State → Prop := nE K (nQv (gRelV shX12 b na h (fun R2 => fgR R2 (ladds (L, t || t2) L2).1 (ladds (L, t || t2) L2).2))) 0 0
  show WN K na (gPut shX12 b na h R) 0 0 Q9 0 [some (.ref (na (b + 9))), some (.ref (na (b2 + 9))), none] []
  have hO9 : ∀ i, i < 220 → gPut shX12 b na h R (b2 + i) = gCell shX12 b2 na S i := fun i hi => (gPut_out (by omega)).trans (hO i hi)
  have hl3 := hS.2.1
  refine n_aload_n hC dX12_adds_2_0 rfl ?_
  refine n_dup hC dX12_adds_2_1 rfl ?_
  refine g_getI hC gW_X12 2 (v := nbo t) q601 dX12_adds_2_2 rfl (by decide) (by decide) hF.2.2.1 ?_
  refine n_aload_n hC dX12_adds_2_5 rfl ?_
  refine o_getI hC gW_X12 hO9 2 q601 dX12_adds_2_6 rfl (by decide) (by decide) hS.2.2.1 ?_
  refine n_ior hC dX12_adds_2_9 ?_
  rw [show (nbo t) ||| (nbo t2) = nbo (t || t2) from (by cases t <;> cases t2 <;> decide)]
  refine g_putI hC gW_X12 2 (R2 := mset R 2 (fun _ => nbo (t || t2))) q601 dX12_adds_2_10 rfl (by decide) (by decide) rfl rfl (nbo_nar _) (nbo_fit _) rfl ?_
  refine n_iconst hC (v := nI 0) dX12_adds_2_13 (by decide) ?_
  refine n_istore_n hC dX12_adds_2_14 (Nat.le_of_ble_eq_true rfl) ?_
  have lp15 : ∀ d9 : Nat, ∀ (k : Nat) (L3 : List Nat) (t3 : Bool) (R3 : nMem), L2.length - k = d9 → (k ≤ L2.length) → (fgR R3 L3 t3) → ((L3, t3) = ladds (L, t || t2) (L2.take k)) → WN K na (gPut shX12 b na h R3) 0 0 Q9 15 [some (.ref (na (b + 9))), some (.ref (na (b2 + 9))), some (.int (nI k))] [] := by
    intro d9
    induction d9 using Nat.strongRecOn with
    | _ d9 ih15 =>
      intro k L3 t3 R3 hd15 hk hF3 hr3
      have hO9 : ∀ i, i < 220 → gPut shX12 b na h R3 (b2 + i) = gCell shX12 b2 na S i := fun i hi => (gPut_out (by omega)).trans (hO i hi)
      refine n_iload_n hC dX12_adds_2_15 rfl ?_
      refine n_aload_n hC dX12_adds_2_16 rfl ?_
      refine o_getI hC gW_X12 hO9 1 q599 dX12_adds_2_17 rfl (by decide) (by decide) hS.1 ?_
      refine n_icmp_geN hC (tgt := 39) dX12_adds_2_20 (by decide) (by omega) (by omega) (fun c_20 => ?_) (fun c_20 => ?_)
      · skip
        rw [show k = L2.length by omega, List.take_length] at hr3
        exact n_vret hC dX12_adds_2_39 (by decide) (by decide) (⟨rfl, R3, rfl, by rw [← hr3]; exact hF3⟩)
      · skip
        refine n_aload_n hC dX12_adds_2_23 rfl ?_
        refine n_aload_n hC dX12_adds_2_24 rfl ?_
        refine o_getA hC gW_X12 hO9 0 q597 dX12_adds_2_25 rfl (by decide) (by decide) ?_
        refine n_iload_n hC dX12_adds_2_28 rfl ?_
        refine o_aldN hC gW_X12 hO9 0 (v := nI (L2.getD k 0)) dX12_adds_2_29 rfl gI_X12_0 (by show k < 300; omega) (hS.2.2.2 k c_20) ?_
        refine n_callV1v hC (ct_X12_adds b na h R3 (L := L3) (t := t3) hF3 (L2.getD k 0)) md_X12_adds q730 dX12_adds_2_30 rfl gPut_o rfl rfl ⟨rfl, rfl, by decide, by decide⟩ rfl (Nat.le_of_ble_eq_true rfl) (by decide) (by decide) (fun na0 h0 hp0 => ?_)
        obtain ⟨rfl, R4, rfl, hF4⟩ := hp0
        refine n_iincN hC dX12_adds_2_33 (j := 1) (c := k + 1) rfl (by decide) rfl ?_
        refine n_goto hC (tgt := 15) dX12_adds_2_36 (by decide) ?_
        exact WN.forget (L' := [some (.ref (na (b + 9))), some (.ref (na (b2 + 9))), some (.int (nI (k + 1)))]) (⟨Or.inr rfl, Or.inr rfl, Or.inr rfl, trivial⟩) (ih15 _ (by omega) (k + 1) _ _ R4 rfl (by omega) hF4 (by rw [take_snoc c_20, ladds_snoc, ← hr3]))
  exact WN.forget (L' := [some (.ref (na (b + 9))), some (.ref (na (b2 + 9))), some (.int (nI 0))]) (⟨Or.inr rfl, Or.inr rfl, Or.inr rfl, trivial⟩) (lp15 _ 0 L (t || t2) (mset R 2 (fun _ => nbo (t || t2))) rfl (by omega) (⟨hF.1, hF.2.1, rfl, hF.2.2.2⟩) rfl)

