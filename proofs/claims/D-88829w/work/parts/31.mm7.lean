/-! ===== THE REFERENCE's methods: figures ===== -/
set_option maxRecDepth 100000
set_option maxHeartbeats 4000000 in
set_option maxRecDepth 100000 in
theorem mt_X3_told (na : nA) (h : nH) (M : nMem) (hI : mInv M) (f i : Int32) : nM yX3_told cX3_told 3 (some .int) (nRm 9 0 0) [.ref (na 61), .int f, .int i] na (mPut na h M) (nQi (mOp na h (o_told f i M))) 0 0 := by
  refine nM.ofN RX3 rfl (by decide) (by intro v hv; simp only [List.mem_cons, List.not_mem_nil, or_false] at hv; rcases hv with rfl | rfl | rfl <;> rfl) (Nat.le_of_ble_eq_true rfl) (fun K hC hnm => ?_)
  show WN K na (mPut na h M) 0 0 (nE K (nQi (mOp na h (o_told f i M))) 0 0) 0 [some (.ref (na 61)), some (.int f), some (.int i)] []
  let Q9 : State → Prop := nE K (nQi (mOp na h (o_told f i M))) 0 0
  show WN K na (mPut na h M) 0 0 Q9 0 [some (.ref (na 61)), some (.int f), some (.int i)] []
  obtain ⟨⟨h0, b0⟩, ⟨h1, b1a, b1⟩, ⟨h11, b11⟩, ⟨h14, b14⟩, ⟨h15, b15, b15n⟩, ⟨h20, b20⟩, ⟨h26, b26⟩, ⟨h27, b27⟩, ⟨h55, b55⟩, iP, iH, iHi, iHd, iC, iT, iF, iG, iS, iZ⟩ := hI
  refine n_aload_n hC dX3_told_0 rfl ?_
  refine n_iload_n hC dX3_told_1 rfl ?_
  refine n_callV1z hC (mt_X3_isFigure na h (M) (f) (n := mN M 26) h26 (by omega)) md_X3_isFigure q1419 dX3_told_2 rfl (mPut_o _ _ _) rfl rfl ⟨rfl, rfl, by decide, by decide⟩ rfl (Nat.le_of_ble_eq_true rfl) (by decide) (by decide) (fun r0 na0 h0 hp0 => ?_)
  obtain ⟨rfl, rfl, rfl⟩ := hp0
  refine n_if_neB hC (tgt := 12) dX3_told_5 (by decide) (fun c_5 => ?_) (fun c_5 => ?_)
  · skip
    obtain ⟨z, hz, ez⟩ := (nin_t (by omega)).mp c_5
    subst ez
    have hzc : (nI z).toNatClampNeg = z := nI_clamp (by omega)
    have hmz := (iF z hz).2
    refine n_iload_n hC dX3_told_12 rfl ?_
    refine n_iconst hC (v := (-1)) dX3_told_13 (by decide) ?_
    refine n_icmp_ne hC (tgt := 26) dX3_told_14 (by decide) (fun c_14 => ?_) (fun c_14 => ?_)
    · skip
      refine n_aload_n hC dX3_told_26 rfl ?_
      refine n_iload_n hC dX3_told_27 rfl ?_
      refine n_iconst hC (v := nI 0) dX3_told_28 (by decide) ?_
      refine n_aload_n hC dX3_told_29 rfl ?_
      refine m_getA hC 28 dX3_told_30 rfl rfl ?_
      refine n_iload_n hC dX3_told_33 rfl ?_
      refine m_aldN hC 28 (v := nI (mA M 28 z)) dX3_told_34 rfl rfl (by have h9 : mLen 28 = 11 := rfl; omega) ((iF z hz).1) ?_
      refine n_iconst hC (v := nI 1) dX3_told_35 (by decide) ?_
      refine n_isub hC dX3_told_36 ?_
      refine n_callV3z hC (mt_X3_in na h (M) (i) (nI 0) ((nI (mA M 28 z)) - (nI 1))) md_X3_in q1293 dX3_told_37 rfl (mPut_o _ _ _) rfl rfl ⟨rfl, rfl, by decide, by decide⟩ rfl (Nat.le_of_ble_eq_true rfl) (by decide) (by decide) (fun r1 na1 h1 hp1 => ?_)
      obtain ⟨rfl, rfl, rfl⟩ := hp1
      rw [show nrg i (nI 0) (nI (mA M 28 z) - nI 1) = nin i (mA M 28 z) from nrg_in (by omega)]
      refine n_if_eqB hC (tgt := 58) dX3_told_40 (by decide) (fun c_40 => ?_) (fun c_40 => ?_)
      · skip
        refine n_iconst hC (v := (-1)) dX3_told_58 (by decide) ?_
        exact n_iret hC dX3_told_59 (by decide) (by decide) (⟨rfl, by simp [o_told, c_5, hzc, c_14, c_40], M, rfl, mEq.of (by simp [o_told, c_5, hzc, c_14, c_40])⟩)
      · skip
        obtain ⟨j, hj, ej⟩ := (nin_t (by omega)).mp c_40
        subst ej
        refine n_aload_n hC dX3_told_43 rfl ?_
        refine m_getA hC 29 dX3_told_44 rfl rfl ?_
        refine n_sipush hC (v := nI 300) dX3_told_47 (by decide) ?_
        refine n_iload_n hC dX3_told_50 rfl ?_
        refine n_imulN hC dX3_told_51 rfl ?_
        refine n_iload_n hC dX3_told_52 rfl ?_
        refine n_iaddN hC dX3_told_53 rfl ?_
        refine m_aldN hC 29 (v := M 29 (300 * z + j)) dX3_told_54 rfl rfl (by have h9 : mLen 29 = 3300 := rfl; omega) rfl ?_
        refine n_goto hC (tgt := 59) dX3_told_55 (by decide) ?_
        exact n_iret hC dX3_told_59 (by decide) (by decide) (⟨rfl, by simp [o_told, c_5, hzc, c_14, c_40, nI_clamp (show j < 2 ^ 31 by omega)], M, rfl, mEq.of (by simp [o_told, c_5, hzc, c_14, c_40, nI_clamp (show j < 2 ^ 31 by omega)])⟩)
    · skip
      have c_14 : i = -1 := c_14
      refine n_aload_n hC dX3_told_17 rfl ?_
      refine m_getA hC 28 dX3_told_18 rfl rfl ?_
      refine n_iload_n hC dX3_told_21 rfl ?_
      refine m_aldN hC 28 (v := M 28 z) dX3_told_22 rfl rfl (by have h9 : mLen 28 = 11 := rfl; omega) rfl ?_
      refine n_goto hC (tgt := 59) dX3_told_23 (by decide) ?_
      exact n_iret hC dX3_told_59 (by decide) (by decide) (⟨rfl, by simp [o_told, c_5, hzc, c_14], M, rfl, mEq.of (by simp [o_told, c_5, hzc, c_14])⟩)
  · skip
    refine n_iconst hC (v := (-1)) dX3_told_8 (by decide) ?_
    refine n_goto hC (tgt := 59) dX3_told_9 (by decide) ?_
    exact n_iret hC dX3_told_59 (by decide) (by decide) (⟨rfl, by simp [o_told, c_5], M, rfl, mEq.of (by simp [o_told, c_5])⟩)

set_option maxHeartbeats 4000000 in
set_option maxRecDepth 100000 in
theorem mt_X3_add (na : nA) (h : nH) (M : nMem) {L : List Nat} {b : Bool} (hB : bufR M L b) (s : Nat) : nM yX3_add cX3_add 2 (none) (nRm 1 0 0) [.ref (na 61), .int (nI s)] na (mPut na h M) (nQv (mRelV na h (fun M2 => bufF [28, 29, 32] M M2 ∧ bufR M2 (ladd (L, b) s).1 (ladd (L, b) s).2))) 0 0 := by
  refine nM.ofN RX3 rfl (by decide) (by intro v hv; simp only [List.mem_cons, List.not_mem_nil, or_false] at hv; rcases hv with rfl | rfl <;> rfl) (Nat.le_of_ble_eq_true rfl) (fun K hC hnm => ?_)
  show WN K na (mPut na h M) 0 0 (nE K (nQv (mRelV na h (fun M2 => bufF [28, 29, 32] M M2 ∧ bufR M2 (ladd (L, b) s).1 (ladd (L, b) s).2))) 0 0) 0 [some (.ref (na 61)), some (.int (nI s))] []
  let Q9 : State → Prop := nE K (nQv (mRelV na h (fun M2 => bufF [28, 29, 32] M M2 ∧ bufR M2 (ladd (L, b) s).1 (ladd (L, b) s).2))) 0 0
  show WN K na (mPut na h M) 0 0 Q9 0 [some (.ref (na 61)), some (.int (nI s))] []
  have hl3 := hB.2.1
  refine n_aload_n hC dX3_add_0 rfl ?_
  refine m_getA hC 28 dX3_add_1 rfl rfl ?_
  refine n_bipush hC (v := nI 10) dX3_add_4 (by decide) ?_
  refine m_aldN hC 28 (v := nI L.length) dX3_add_6 rfl rfl (by have h9 : mLen 28 = 11 := rfl; omega) hB.1 ?_
  refine n_sipush hC (v := nI 300) dX3_add_7 (by decide) ?_
  refine n_icmp_neN hC (tgt := 19) dX3_add_10 (by decide) (by omega) (by omega) (fun c_10 => ?_) (fun c_10 => ?_)
  · skip
    refine n_aload_n hC dX3_add_19 rfl ?_
    refine m_getA hC 29 dX3_add_20 rfl rfl ?_
    refine n_sipush hC (v := nI 3000) dX3_add_23 (by decide) ?_
    refine n_aload_n hC dX3_add_26 rfl ?_
    refine m_getA hC 28 dX3_add_27 rfl rfl ?_
    refine n_bipush hC (v := nI 10) dX3_add_30 (by decide) ?_
    refine m_aldN hC 28 (v := nI L.length) dX3_add_32 rfl rfl (by have h9 : mLen 28 = 11 := rfl; omega) hB.1 ?_
    refine n_iaddN hC dX3_add_33 rfl ?_
    refine n_iload_n hC dX3_add_34 rfl ?_
    refine m_astN hC 29 (M2 := mset M 29 (upd (M 29) (3000 + L.length) (nI s))) dX3_add_35 rfl rfl (by have h9 : mLen 29 = 3300 := rfl; omega) rfl ?_
    refine n_aload_n hC dX3_add_36 rfl ?_
    refine m_getA hC 28 dX3_add_37 rfl rfl ?_
    refine n_bipush hC (v := nI 10) dX3_add_40 (by decide) ?_
    refine n_dup2 hC dX3_add_42 rfl rfl ?_
    refine m_aldN hC 28 (v := nI L.length) dX3_add_43 rfl rfl (by have h9 : mLen 28 = 11 := rfl; omega) hB.1 ?_
    refine n_iconst hC (v := nI 1) dX3_add_44 (by decide) ?_
    refine n_iaddN hC dX3_add_45 rfl ?_
    refine m_astN hC 28 (M2 := mset (mset M 29 (upd (M 29) (3000 + L.length) (nI s))) 28 (upd (M 28) 10 (nI (L.length + 1)))) dX3_add_46 rfl rfl (by have h9 : mLen 28 = 11 := rfl; omega) rfl ?_
    exact n_vret hC dX3_add_47 (by decide) (by decide) (⟨rfl, _, rfl, bufF.a28 (by decide) (bufF.a29 (by decide) bufF.rf), bufR.add_f hB c_10⟩)
  · skip
    refine n_aload_n hC dX3_add_13 rfl ?_
    refine n_iconst hC (v := nI 1) dX3_add_14 (by decide) ?_
    refine m_putI hC 32 (M2 := mset M 32 (fun _ => nI 1)) dX3_add_15 rfl rfl (by decide) rfl rfl rfl rfl rfl ?_
    exact n_vret hC dX3_add_18 (by decide) (by decide) (⟨rfl, _, rfl, bufF.set (by decide) bufF.rf, bufR.add_t hB c_10⟩)

set_option maxHeartbeats 4000000 in
set_option maxRecDepth 100000 in
theorem mt_X3_undoing (na : nA) (h : nH) (M : nMem) {s : Nat} (hs : s < 102) : nM yX3_undoing cX3_undoing 2 (some .int) (nRm 0 0 0) [.ref (na 61), .int (nI s)] na (mPut na h M) (nQi (mPure na h M (nI (und s)))) 0 0 := by
  refine nM.ofN RX3 rfl (by decide) (by intro v hv; simp only [List.mem_cons, List.not_mem_nil, or_false] at hv; rcases hv with rfl | rfl <;> rfl) (Nat.le_of_ble_eq_true rfl) (fun K hC hnm => ?_)
  show WN K na (mPut na h M) 0 0 (nE K (nQi (mPure na h M (nI (und s)))) 0 0) 0 [some (.ref (na 61)), some (.int (nI s))] []
  let Q9 : State → Prop := nE K (nQi (mPure na h M (nI (und s)))) 0 0
  show WN K na (mPut na h M) 0 0 Q9 0 [some (.ref (na 61)), some (.int (nI s))] []
  refine n_iload_n hC dX3_undoing_0 rfl ?_
  refine n_bipush hC (v := nI 100) dX3_undoing_1 (by decide) ?_
  refine n_icmp_ltN hC (tgt := 14) dX3_undoing_3 (by decide) (by omega) (by omega) (fun c_3 => ?_) (fun c_3 => ?_)
  · skip
    refine n_iload_n hC dX3_undoing_14 rfl ?_
    refine n_iconst hC (v := nI 1) dX3_undoing_15 (by decide) ?_
    refine n_ixor hC dX3_undoing_16 ?_
    rw [show (nI s) ^^^ (nI 1) = nI (flp s) from flp_x (by omega)]
    exact n_iret hC dX3_undoing_17 (by decide) (by decide) (⟨by unfold und; rw [if_neg (by omega)], rfl, rfl⟩)
  · skip
    refine n_sipush hC (v := nI 201) dX3_undoing_6 (by decide) ?_
    refine n_iload_n hC dX3_undoing_9 rfl ?_
    refine n_isubN hC dX3_undoing_10 (by omega) rfl ?_
    refine n_goto hC (tgt := 17) dX3_undoing_11 (by decide) ?_
    exact n_iret hC dX3_undoing_17 (by decide) (by decide) (⟨by unfold und; rw [if_pos (by omega)], rfl, rfl⟩)

def uMx (L : List Nat) (p j k : Nat) : Nat := if p ≤ k ∧ (k < p + j ∨ L.length - j ≤ k) then (lund L p).getD k 0 else L.getD k 0
theorem uMx_0 {L : List Nat} {p k : Nat} (hk : k < L.length) : uMx L p 0 k = L.getD k 0 := if_neg (by omega)
theorem uMx_lo {L : List Nat} {p j : Nat} (h : p + 2 * j + 1 < L.length) : uMx L p j (p + j) = L.getD (p + j) 0 := if_neg (by omega)
theorem uMx_hi {L : List Nat} {p j : Nat} (h : p + 2 * j + 1 < L.length) : uMx L p j (L.length - 1 - j) = L.getD (L.length - 1 - j) 0 := if_neg (by omega)
theorem uMx_s {L : List Nat} {p j k : Nat} (h : p + 2 * j + 1 < L.length) (hk : k < L.length) :
    uMx L p (j + 1) k = if k = L.length - 1 - j then und (L.getD (p + j) 0) else if k = p + j then und (L.getD (L.length - 1 - j) 0) else uMx L p j k := by
  by_cases e : k = L.length - 1 - j
  · rw [if_pos e, e]
    unfold uMx
    rw [if_pos (by omega), lund_get (by omega) (by omega), if_neg (by omega), show L.length - 1 + p - (L.length - 1 - j) = p + j by omega]
  · rw [if_neg e]
    by_cases e2 : k = p + j
    · rw [if_pos e2, e2]
      unfold uMx
      rw [if_pos (by omega), lund_get (by omega) (by omega), if_neg (by omega), show L.length - 1 + p - (p + j) = L.length - 1 - j by omega]
    · rw [if_neg e2]
      unfold uMx
      by_cases c : p ≤ k ∧ (k < p + j ∨ L.length - j ≤ k)
      · rw [if_pos c, if_pos (by omega)]
      · rw [if_neg c, if_neg (by omega)]
theorem uMx_e {L : List Nat} {p j k : Nat} (hp : p ≤ L.length) (h : p + 2 * j = L.length) (hk : k < L.length) : uMx L p j k = (lund L p).getD k 0 := by
  unfold uMx
  by_cases c : p ≤ k
  · rw [if_pos (by omega)]
  · rw [if_neg (by omega), lund_get hp hk, if_pos (by omega)]
theorem uMx_m {L : List Nat} {p j : Nat} (h : p + 2 * j + 1 = L.length) : uMx L p j (p + j) = L.getD (p + j) 0 := if_neg (by omega)
theorem uMx_em {L : List Nat} {p j k : Nat} (h : p + 2 * j + 1 = L.length) (hk : k < L.length) : (if k = p + j then und (L.getD (p + j) 0) else uMx L p j k) = (lund L p).getD k 0 := by
  by_cases e : k = p + j
  · rw [if_pos e, e, lund_get (by omega) (by omega), if_neg (by omega), show L.length - 1 + p - (p + j) = p + j by omega]
  · rw [if_neg e]
    unfold uMx
    by_cases c : p ≤ k
    · rw [if_pos (by omega)]
    · rw [if_neg (by omega), lund_get (by omega) hk, if_pos (by omega)]
set_option maxHeartbeats 4000000 in
set_option maxRecDepth 100000 in
theorem mt_X3_undo (na : nA) (h : nH) (M : nMem) {L : List Nat} {b : Bool} (hB : bufR M L b) {p : Nat} (hp : p ≤ L.length) (hL : ∀ t ∈ L, stp t) : nM yX3_undo cX3_undo 5 (none) (nRm 1 0 0) [.ref (na 61), .int (nI p)] na (mPut na h M) (nQv (mRelV na h (fun M2 => bufF [28, 29, 32] M M2 ∧ bufR M2 (lund L p) b))) 0 0 := by
  refine nM.ofN RX3 rfl (by decide) (by intro v hv; simp only [List.mem_cons, List.not_mem_nil, or_false] at hv; rcases hv with rfl | rfl <;> rfl) (Nat.le_of_ble_eq_true rfl) (fun K hC hnm => ?_)
  show WN K na (mPut na h M) 0 0 (nE K (nQv (mRelV na h (fun M2 => bufF [28, 29, 32] M M2 ∧ bufR M2 (lund L p) b))) 0 0) 0 [some (.ref (na 61)), some (.int (nI p)), none, none, none] []
  let Q9 : State → Prop := nE K (nQv (mRelV na h (fun M2 => bufF [28, 29, 32] M M2 ∧ bufR M2 (lund L p) b))) 0 0
  show WN K na (mPut na h M) 0 0 Q9 0 [some (.ref (na 61)), some (.int (nI p)), none, none, none] []
  have hl3 := hB.2.1
  refine n_sipush hC (v := nI 3000) dX3_undo_0 (by decide) ?_
  refine n_iload_n hC dX3_undo_3 rfl ?_
  refine n_iaddN hC dX3_undo_4 rfl ?_
  refine n_istore_n hC dX3_undo_5 (Nat.le_of_ble_eq_true rfl) ?_
  refine n_sipush hC (v := nI 2999) dX3_undo_6 (by decide) ?_
  refine n_aload_n hC dX3_undo_9 rfl ?_
  refine m_getA hC 28 dX3_undo_10 rfl rfl ?_
  refine n_bipush hC (v := nI 10) dX3_undo_13 (by decide) ?_
  refine m_aldN hC 28 (v := nI L.length) dX3_undo_15 rfl rfl (by have h9 : mLen 28 = 11 := rfl; omega) hB.1 ?_
  refine n_iaddN hC dX3_undo_16 rfl ?_
  refine n_istore_n hC dX3_undo_17 (Nat.le_of_ble_eq_true rfl) ?_
  have lp18 : ∀ d9 : Nat, ∀ (j : Nat) (M2 : nMem), L.length - j = d9 → (p + 2 * j ≤ L.length) → (bufF [28, 29, 32] M M2) → (M2 28 = M 28) → (M2 32 = M 32) → (∀ k, k < L.length → M2 29 (3000 + k) = nI (uMx L p j k)) → WN K na (mPut na h M2) 0 0 Q9 18 [some (.ref (na 61)), some (.int (nI p)), some (.int (nI (3000 + (p + j)))), some (.int (nI (2999 + (L.length - j)))), none] [] := by
    intro d9
    induction d9 using Nat.strongRecOn with
    | _ d9 ih18 =>
      intro j M2 hd18 hj hF h28 h32 hC2
      refine n_iload_n hC dX3_undo_18 rfl ?_
      refine n_iload_n hC dX3_undo_19 rfl ?_
      refine n_icmp_geN hC (tgt := 68) dX3_undo_20 (by decide) (by omega) (by omega) (fun c_20 => ?_) (fun c_20 => ?_)
      · skip
        refine n_iload_n hC dX3_undo_68 rfl ?_
        refine n_iload_n hC dX3_undo_69 rfl ?_
        refine n_icmp_neN hC (tgt := 89) dX3_undo_70 (by decide) (by omega) (by omega) (fun c_70 => ?_) (fun c_70 => ?_)
        · skip
          exact n_vret hC dX3_undo_89 (by decide) (by decide) (⟨rfl, _, rfl, hF, by rw [lund_len, h28]; exact hB.1, by rw [lund_len]; exact hl3, by rw [h32]; exact hB.2.2.1, fun k hk => by rw [lund_len] at hk; rw [hC2 k hk, uMx_e hp (by omega) hk]⟩)
        · skip
          have hN : p + 2 * j + 1 = L.length := by omega
          have eM : M2 29 (3000 + (p + j)) = nI (L.getD (p + j) 0) := by rw [hC2 _ (by omega), uMx_m hN]
          have hlo := stp_lt (getD_stp hL (show p + j < L.length by omega))
          refine n_aload_n hC dX3_undo_73 rfl ?_
          refine m_getA hC 29 dX3_undo_74 rfl rfl ?_
          refine n_iload_n hC dX3_undo_77 rfl ?_
          refine n_aload_n hC dX3_undo_78 rfl ?_
          refine n_aload_n hC dX3_undo_79 rfl ?_
          refine m_getA hC 29 dX3_undo_80 rfl rfl ?_
          refine n_iload_n hC dX3_undo_83 rfl ?_
          refine m_aldN hC 29 (v := nI (L.getD (p + j) 0)) dX3_undo_84 rfl rfl (by have h9 : mLen 29 = 3300 := rfl; omega) eM ?_
          refine n_callV1i hC (mt_X3_undoing na h (M2) (s := L.getD (p + j) 0) (by omega)) md_X3_undoing q1431 dX3_undo_85 rfl (mPut_o _ _ _) rfl rfl ⟨rfl, rfl, by decide, by decide⟩ rfl (Nat.le_of_ble_eq_true rfl) (by decide) (by decide) (fun r0 na0 h0 hp0 => ?_)
          obtain ⟨rfl, rfl, rfl⟩ := hp0
          refine m_astN hC 29 (M2 := mset M2 29 (upd (M2 29) (3000 + (p + j)) (nI (und (L.getD (p + j) 0))))) dX3_undo_88 rfl rfl (by have h9 : mLen 29 = 3300 := rfl; omega) rfl ?_
          exact n_vret hC dX3_undo_89 (by decide) (by decide) (⟨rfl, _, rfl, bufF.a29 (by decide) hF, by rw [lund_len, mset_n (by decide), h28]; exact hB.1, by rw [lund_len]; exact hl3, by rw [mset_n (by decide), h32]; exact hB.2.2.1, fun k hk => by rw [lund_len] at hk; rw [← uMx_em hN hk]; show upd (M2 29) (3000 + (p + j)) _ (3000 + k) = _; unfold upd; by_cases e : k = p + j; rw [if_pos (by omega), if_pos e]; rw [if_neg (by omega), if_neg e]; exact hC2 k hk⟩)
      · skip
        have hN : p + 2 * j + 1 < L.length := by omega
        have hlo := stp_lt (getD_stp hL (show p + j < L.length by omega))
        have hhi := stp_lt (getD_stp hL (show L.length - 1 - j < L.length by omega))
        have eLo : M2 29 (3000 + (p + j)) = nI (L.getD (p + j) 0) := by rw [hC2 _ (by omega), uMx_lo hN]
        have eHi : M2 29 (2999 + (L.length - j)) = nI (L.getD (L.length - 1 - j) 0) := by rw [show 2999 + (L.length - j) = 3000 + (L.length - 1 - j) by omega, hC2 _ (by omega), uMx_hi hN]
        refine n_aload_n hC dX3_undo_23 rfl ?_
        refine m_getA hC 29 dX3_undo_24 rfl rfl ?_
        refine n_iload_n hC dX3_undo_27 rfl ?_
        refine m_aldN hC 29 (v := nI (L.getD (p + j) 0)) dX3_undo_28 rfl rfl (by have h9 : mLen 29 = 3300 := rfl; omega) eLo ?_
        refine n_istore hC dX3_undo_29 (Nat.le_of_ble_eq_true rfl) ?_
        refine n_aload_n hC dX3_undo_31 rfl ?_
        refine m_getA hC 29 dX3_undo_32 rfl rfl ?_
        refine n_iload_n hC dX3_undo_35 rfl ?_
        refine n_aload_n hC dX3_undo_36 rfl ?_
        refine n_aload_n hC dX3_undo_37 rfl ?_
        refine m_getA hC 29 dX3_undo_38 rfl rfl ?_
        refine n_iload_n hC dX3_undo_41 rfl ?_
        refine m_aldN hC 29 (v := nI (L.getD (L.length - 1 - j) 0)) dX3_undo_42 rfl rfl (by have h9 : mLen 29 = 3300 := rfl; omega) eHi ?_
        refine n_callV1i hC (mt_X3_undoing na h (M2) (s := L.getD (L.length - 1 - j) 0) (by omega)) md_X3_undoing q1431 dX3_undo_43 rfl (mPut_o _ _ _) rfl rfl ⟨rfl, rfl, by decide, by decide⟩ rfl (Nat.le_of_ble_eq_true rfl) (by decide) (by decide) (fun r1 na1 h1 hp1 => ?_)
        obtain ⟨rfl, rfl, rfl⟩ := hp1
        refine m_astN hC 29 (M2 := mset M2 29 (upd (M2 29) (3000 + (p + j)) (nI (und (L.getD (L.length - 1 - j) 0))))) dX3_undo_46 rfl rfl (by have h9 : mLen 29 = 3300 := rfl; omega) rfl ?_
        refine n_aload_n hC dX3_undo_47 rfl ?_
        refine m_getA hC 29 dX3_undo_48 rfl rfl ?_
        refine n_iload_n hC dX3_undo_51 rfl ?_
        refine n_aload_n hC dX3_undo_52 rfl ?_
        refine n_iload hC dX3_undo_53 rfl ?_
        refine n_callV1i hC (mt_X3_undoing na h (mset M2 29 (upd (M2 29) (3000 + (p + j)) (nI (und (L.getD (L.length - 1 - j) 0))))) (s := L.getD (p + j) 0) (by omega)) md_X3_undoing q1431 dX3_undo_55 rfl (mPut_o _ _ _) rfl rfl ⟨rfl, rfl, by decide, by decide⟩ rfl (Nat.le_of_ble_eq_true rfl) (by decide) (by decide) (fun r2 na2 h2 hp2 => ?_)
        obtain ⟨rfl, rfl, rfl⟩ := hp2
        refine m_astN hC 29 (M2 := mset M2 29 (upd (upd (M2 29) (3000 + (p + j)) (nI (und (L.getD (L.length - 1 - j) 0)))) (3000 + (L.length - 1 - j)) (nI (und (L.getD (p + j) 0))))) dX3_undo_58 rfl rfl (by have h9 : mLen 29 = 3300 := rfl; omega) (by rw [mset_ss, mset_s, show 2999 + (L.length - j) = 3000 + (L.length - 1 - j) by omega]) ?_
        refine n_iincN hC dX3_undo_59 (j := 1) (c := 3000 + (p + j) + 1) rfl (by decide) rfl ?_
        refine n_iinc hC dX3_undo_62 (v := nI (2999 + (L.length - (j + 1)))) rfl (by rw [show 2999 + (L.length - j) = 2999 + (L.length - (j + 1)) + 1 by omega]; exact pk_m1 _) ?_
        refine n_goto hC (tgt := 18) dX3_undo_65 (by decide) ?_
        exact WN.forget (L' := [some (.ref (na 61)), some (.int (nI p)), some (.int (nI (3000 + (p + j) + 1))), some (.int (nI (2999 + (L.length - (j + 1))))), none]) (⟨Or.inr rfl, Or.inr rfl, Or.inr rfl, Or.inr rfl, Or.inl rfl, trivial⟩) (ih18 _ (by omega) (j + 1) (mset M2 29 (upd (upd (M2 29) (3000 + (p + j)) (nI (und (L.getD (L.length - 1 - j) 0)))) (3000 + (L.length - 1 - j)) (nI (und (L.getD (p + j) 0))))) rfl (by omega) (bufF.b29 (by decide) hF) h28 h32 (fun k hk => by show upd (upd (M2 29) (3000 + (p + j)) _) (3000 + (L.length - 1 - j)) _ (3000 + k) = _; rw [uMx_s (by omega) hk]; unfold upd; by_cases e : k = L.length - 1 - j; rw [if_pos (by omega), if_pos e]; rw [if_neg (by omega), if_neg e]; by_cases e2 : k = p + j; rw [if_pos (by omega), if_pos e2]; rw [if_neg (by omega), if_neg e2]; exact hC2 k hk))
  exact WN.forget (L' := [some (.ref (na 61)), some (.int (nI p)), some (.int (nI (3000 + p))), some (.int (nI (2999 + L.length))), none]) (⟨Or.inr rfl, Or.inr rfl, Or.inr rfl, Or.inr rfl, Or.inl rfl, trivial⟩) (lp18 _ 0 M rfl (by omega) bufF.rf rfl rfl (fun k hk => by rw [uMx_0 hk]; exact hB.2.2.2 k hk))

set_option maxHeartbeats 4000000 in
set_option maxRecDepth 100000 in
theorem mt_X3_repeat (na : nA) (h : nH) (M : nMem) {L : List Nat} {b : Bool} (hB : bufR M L b) {p m : Nat} (hp : p ≤ L.length) (hm : 1 ≤ m) (hm9 : m ≤ 9) : nM yX3_repeat cX3_repeat 6 (none) (nRm 2 0 0) [.ref (na 61), .int (nI p), .int (nI m)] na (mPut na h M) (nQv (mRelV na h (fun M2 => bufF [28, 29, 32] M M2 ∧ bufR M2 (lrep (L.drop p) (m - 1) (L, b)).1 (lrep (L.drop p) (m - 1) (L, b)).2))) 0 0 := by
  refine nM.ofN RX3 rfl (by decide) (by intro v hv; simp only [List.mem_cons, List.not_mem_nil, or_false] at hv; rcases hv with rfl | rfl | rfl <;> rfl) (Nat.le_of_ble_eq_true rfl) (fun K hC hnm => ?_)
  show WN K na (mPut na h M) 0 0 (nE K (nQv (mRelV na h (fun M2 => bufF [28, 29, 32] M M2 ∧ bufR M2 (lrep (L.drop p) (m - 1) (L, b)).1 (lrep (L.drop p) (m - 1) (L, b)).2))) 0 0) 0 [some (.ref (na 61)), some (.int (nI p)), some (.int (nI m)), none, none, none] []
  let Q9 : State → Prop := nE K (nQv (mRelV na h (fun M2 => bufF [28, 29, 32] M M2 ∧ bufR M2 (lrep (L.drop p) (m - 1) (L, b)).1 (lrep (L.drop p) (m - 1) (L, b)).2))) 0 0
  show WN K na (mPut na h M) 0 0 Q9 0 [some (.ref (na 61)), some (.int (nI p)), some (.int (nI m)), none, none, none] []
  have hl3 := hB.2.1
  refine n_aload_n hC dX3_repeat_0 rfl ?_
  refine m_getA hC 28 dX3_repeat_1 rfl rfl ?_
  refine n_bipush hC (v := nI 10) dX3_repeat_4 (by decide) ?_
  refine m_aldN hC 28 (v := nI L.length) dX3_repeat_6 rfl rfl (by have h9 : mLen 28 = 11 := rfl; omega) hB.1 ?_
  refine n_istore_n hC dX3_repeat_7 (Nat.le_of_ble_eq_true rfl) ?_
  refine n_iconst hC (v := nI 1) dX3_repeat_8 (by decide) ?_
  refine n_istore hC dX3_repeat_9 (Nat.le_of_ble_eq_true rfl) ?_
  have lp11 : ∀ d9 : Nat, ∀ (t : Nat) (L2 : List Nat) (b2 : Bool) (M2 : nMem), m - t = d9 → (1 ≤ t) → (t ≤ m) → (bufF [28, 29, 32] M M2) → (bufR M2 L2 b2) → (lrep (L.drop p) (m - t) (L2, b2) = lrep (L.drop p) (m - 1) (L, b)) → (L.length ≤ L2.length) → (∀ k, k < L.length → L2.getD k 0 = L.getD k 0) → WN K na (mPut na h M2) 0 0 Q9 11 [some (.ref (na 61)), some (.int (nI p)), some (.int (nI m)), some (.int (nI L.length)), some (.int (nI t)), none] [] := by
    intro d9
    induction d9 using Nat.strongRecOn with
    | _ d9 ih11 =>
      intro t L2 b2 M2 hd11 ht htm hF2 hB2 hr2 hl2 hg2
      refine n_iload hC dX3_repeat_11 rfl ?_
      refine n_iload_n hC dX3_repeat_13 rfl ?_
      refine n_icmp_geN hC (tgt := 60) dX3_repeat_14 (by decide) (by omega) (by omega) (fun c_14 => ?_) (fun c_14 => ?_)
      · skip
        exact n_vret hC dX3_repeat_60 (by decide) (by decide) (⟨rfl, M2, rfl, hF2, (by rw [← hr2, show m - t = 0 by omega]; exact hB2)⟩)
      · skip
        refine n_aload_n hC dX3_repeat_17 rfl ?_
        refine m_getI hC 32 (v := nbo b2) dX3_repeat_18 rfl rfl (by decide) hB2.2.2.1 ?_
        refine n_if_neB hC (tgt := 60) dX3_repeat_21 (by decide) (fun c_21 => ?_) (fun c_21 => ?_)
        · skip
          exact n_vret hC dX3_repeat_60 (by decide) (by decide) (⟨rfl, M2, rfl, hF2, (by rw [← hr2, lrep_b (by exact c_21)]; exact hB2)⟩)
        · skip
          have hp9 := hp
          refine n_iload_n hC dX3_repeat_24 rfl ?_
          refine n_istore hC dX3_repeat_25 (Nat.le_of_ble_eq_true rfl) ?_
          have lp27 : ∀ d9 : Nat, ∀ (k : Nat) (L3 : List Nat) (b3 : Bool) (M3 : nMem), L.length - k = d9 → (p ≤ k ∧ k ≤ L.length) → (bufF [28, 29, 32] M M3) → (bufR M3 L3 b3) → ((L3, b3) = ladds (L2, b2) ((L.drop p).take (k - p))) → (L.length ≤ L3.length) → (∀ q, q < L.length → L3.getD q 0 = L.getD q 0) → WN K na (mPut na h M3) 0 0 Q9 27 [some (.ref (na 61)), some (.int (nI p)), some (.int (nI m)), some (.int (nI L.length)), some (.int (nI t)), some (.int (nI k))] [] := by
            intro d9
            induction d9 using Nat.strongRecOn with
            | _ d9 ih27 =>
              intro k L3 b3 M3 hd27 hk hF3 hB3 hr3 hl3b hg3
              refine n_iload hC dX3_repeat_27 rfl ?_
              refine n_iload_n hC dX3_repeat_29 rfl ?_
              refine n_icmp_geN hC (tgt := 54) dX3_repeat_30 (by decide) (by omega) (by omega) (fun c_30 => ?_) (fun c_30 => ?_)
              · skip
                rw [show k - p = (L.drop p).length by rw [List.length_drop]; omega, List.take_length] at hr3
                refine n_iincN hC dX3_repeat_54 (j := 1) (c := t + 1) rfl (by decide) rfl ?_
                refine n_goto hC (tgt := 11) dX3_repeat_57 (by decide) ?_
                exact WN.forget (L' := [some (.ref (na 61)), some (.int (nI p)), some (.int (nI m)), some (.int (nI L.length)), some (.int (nI (t + 1))), none]) (⟨Or.inr rfl, Or.inr rfl, Or.inr rfl, Or.inr rfl, Or.inr rfl, Or.inl rfl, trivial⟩) (ih11 _ (by omega) (t + 1) _ _ M3 rfl (by omega) (by omega) hF3 hB3 (by rw [← hr2, show m - t = (m - (t + 1)) + 1 by omega, lrep_s (by exact c_21), hr3]) hl3b hg3)
              · skip
                refine n_aload_n hC dX3_repeat_33 rfl ?_
                refine n_aload_n hC dX3_repeat_34 rfl ?_
                refine m_getA hC 29 dX3_repeat_35 rfl rfl ?_
                refine n_sipush hC (v := nI 3000) dX3_repeat_38 (by decide) ?_
                refine n_iload hC dX3_repeat_41 rfl ?_
                refine n_iaddN hC dX3_repeat_43 rfl ?_
                refine m_aldN hC 29 (v := nI (L.getD k 0)) dX3_repeat_44 rfl rfl (by have h9 : mLen 29 = 3300 := rfl; omega) ((hB3.2.2.2 k (by omega)).trans (by rw [hg3 k (by omega)])) ?_
                refine n_callV1v hC (mt_X3_add na h (M3) (L := L3) (b := b3) hB3 (L.getD k 0)) md_X3_add q1415 dX3_repeat_45 rfl (mPut_o _ _ _) rfl rfl ⟨rfl, rfl, by decide, by decide⟩ rfl (Nat.le_of_ble_eq_true rfl) (by decide) (by decide) (fun na0 h0 hp0 => ?_)
                obtain ⟨rfl, M4, rfl, hF4, hB4⟩ := hp0
                refine n_iincN hC dX3_repeat_48 (j := 1) (c := k + 1) rfl (by decide) rfl ?_
                refine n_goto hC (tgt := 27) dX3_repeat_51 (by decide) ?_
                exact WN.forget (L' := [some (.ref (na 61)), some (.int (nI p)), some (.int (nI m)), some (.int (nI L.length)), some (.int (nI t)), some (.int (nI (k + 1)))]) (⟨Or.inr rfl, Or.inr rfl, Or.inr rfl, Or.inr rfl, Or.inr rfl, Or.inr rfl, trivial⟩) (ih27 _ (by omega) (k + 1) _ _ M4 rfl (by omega) (bufF.trans hF3 hF4) hB4 (by rw [show k + 1 - p = (k - p) + 1 by omega, take_snoc (by rw [List.length_drop]; omega), ladds_snoc, ← hr3, drop_getD, show p + (k - p) = k by omega]) (Nat.le_trans hl3b (ladd_len (L3, b3) _)) (fun q hq => (ladd_get (x := (L3, b3)) (by show q < L3.length; omega)).trans (hg3 q hq)))
          exact WN.forget (L' := [some (.ref (na 61)), some (.int (nI p)), some (.int (nI m)), some (.int (nI L.length)), some (.int (nI t)), some (.int (nI p))]) (⟨Or.inr rfl, Or.inr rfl, Or.inr rfl, Or.inr rfl, Or.inr rfl, Or.inr rfl, trivial⟩) (lp27 _ p L2 b2 M2 rfl (by omega) hF2 hB2 (by rw [Nat.sub_self]; rfl) hl2 hg2)
  exact WN.forget (L' := [some (.ref (na 61)), some (.int (nI p)), some (.int (nI m)), some (.int (nI L.length)), some (.int (nI 1)), none]) (⟨Or.inr rfl, Or.inr rfl, Or.inr rfl, Or.inr rfl, Or.inr rfl, Or.inl rfl, trivial⟩) (lp11 _ 1 L b M rfl (by omega) (by omega) bufF.rf hB rfl (Nat.le_refl _) (fun _ _ => rfl))

set_option maxHeartbeats 4000000 in
set_option maxRecDepth 100000 in
theorem mt_X3_next (na : nA) (h : nH) (M : nMem) {sp fd : Nat} {v : Int32} (h31 : M 31 0 = nI sp) (h27 : M 27 0 = nI fd) (hs : sp < 1000) (hf : fd ≤ 80) (hv : (if sp < fd then M 30 sp else -1) = v) : nM yX3_next cX3_next 1 (some .int) (nRm 0 0 0) [.ref (na 61)] na (mPut na h M) (nQi (mPure na h M v)) 0 0 := by
  refine nM.ofN RX3 rfl (by decide) (by intro v hv; simp only [List.mem_cons, List.not_mem_nil, or_false] at hv; subst hv; rfl) (Nat.le_of_ble_eq_true rfl) (fun K hC hnm => ?_)
  show WN K na (mPut na h M) 0 0 (nE K (nQi (mPure na h M v)) 0 0) 0 [some (.ref (na 61))] []
  let Q9 : State → Prop := nE K (nQi (mPure na h M v)) 0 0
  show WN K na (mPut na h M) 0 0 Q9 0 [some (.ref (na 61))] []
  refine n_aload_n hC dX3_next_0 rfl ?_
  refine m_getI hC 31 (v := nI sp) dX3_next_1 rfl rfl (by decide) h31 ?_
  refine n_aload_n hC dX3_next_4 rfl ?_
  refine m_getI hC 27 (v := nI fd) dX3_next_5 rfl rfl (by decide) h27 ?_
  refine n_icmp_geN hC (tgt := 23) dX3_next_8 (by decide) (by omega) (by omega) (fun c_8 => ?_) (fun c_8 => ?_)
  · skip
    refine n_iconst hC (v := (-1)) dX3_next_23 (by decide) ?_
    exact n_iret hC dX3_next_24 (by decide) (by decide) (⟨by rw [← hv, if_neg (by omega)], rfl, rfl⟩)
  · skip
    refine n_aload_n hC dX3_next_11 rfl ?_
    refine m_getA hC 30 dX3_next_12 rfl rfl ?_
    refine n_aload_n hC dX3_next_15 rfl ?_
    refine m_getI hC 31 (v := nI sp) dX3_next_16 rfl rfl (by decide) h31 ?_
    refine m_aldN hC 30 (v := M 30 sp) dX3_next_19 rfl rfl (by have h9 : mLen 30 = 80 := rfl; omega) rfl ?_
    refine n_goto hC (tgt := 24) dX3_next_20 (by decide) ?_
    exact n_iret hC dX3_next_24 (by decide) (by decide) (⟨by rw [← hv, if_pos (by omega)], rfl, rfl⟩)

set_option maxHeartbeats 4000000 in
set_option maxRecDepth 100000 in
theorem mt_X3_reads (na : nA) (h : nH) (M : nMem) (hI : mInv M) : nM yX3_reads cX3_reads 4 (some .boolean) (nRm 4 0 0) [.ref (na 61)] na (mPut na h M) (nQi (mRel na h (rdP M (mRd M)))) 0 0 := by
  refine nM.ofN RX3 rfl (by decide) (by intro v hv; simp only [List.mem_cons, List.not_mem_nil, or_false] at hv; subst hv; rfl) (Nat.le_of_ble_eq_true rfl) (fun K hC hnm => ?_)
  show WN K na (mPut na h M) 0 0 (nE K (nQi (mRel na h (rdP M (mRd M)))) 0 0) 0 [some (.ref (na 61)), none, none, none] []
  let Q9 : State → Prop := nE K (nQi (mRel na h (rdP M (mRd M)))) 0 0
  show WN K na (mPut na h M) 0 0 Q9 0 [some (.ref (na 61)), none, none, none] []
  obtain ⟨⟨h0, b0⟩, ⟨h1, b1a, b1⟩, ⟨h11, b11⟩, ⟨h14, b14⟩, ⟨h15, b15, b15n⟩, ⟨h20, b20⟩, ⟨h26, b26⟩, ⟨h27, b27⟩, ⟨h55, b55⟩, iP, iH, iHi, iHd, iC, iT, iF, iG, iS, iZ⟩ := hI
  refine n_aload_n hC dX3_reads_0 rfl ?_
  refine n_iconst hC (v := nI 0) dX3_reads_1 (by decide) ?_
  refine m_putI hC 31 (M2 := mset M 31 (fun _ => nI 0)) dX3_reads_2 rfl rfl (by decide) rfl rfl rfl rfl rfl ?_
  refine n_aload_n hC dX3_reads_5 rfl ?_
  refine m_getA hC 28 dX3_reads_6 rfl rfl ?_
  refine n_bipush hC (v := nI 10) dX3_reads_9 (by decide) ?_
  refine n_iconst hC (v := nI 0) dX3_reads_11 (by decide) ?_
  refine m_astN hC 28 (M2 := mset (mset M 31 (fun _ => nI 0)) 28 (upd (M 28) 10 (nI 0))) dX3_reads_12 rfl rfl (by have h9 : mLen 28 = 11 := rfl; omega) rfl ?_
  refine n_aload_n hC dX3_reads_13 rfl ?_
  refine n_iconst hC (v := nI 0) dX3_reads_14 (by decide) ?_
  refine m_putI hC 32 (M2 := mset (mset (mset M 31 (fun _ => nI 0)) 28 (upd (M 28) 10 (nI 0))) 32 (fun _ => nI 0)) dX3_reads_15 rfl rfl (by decide) rfl rfl rfl rfl rfl ?_
  refine n_iconst hC (v := nI 0) dX3_reads_18 (by decide) ?_
  refine n_istore_n hC dX3_reads_19 (Nat.le_of_ble_eq_true rfl) ?_
  refine n_aload_n hC dX3_reads_20 rfl ?_
  refine m_getA hC 34 dX3_reads_21 rfl rfl ?_
  refine n_iconst hC (v := nI 0) dX3_reads_24 (by decide) ?_
  refine n_iconst hC (v := nI 0) dX3_reads_25 (by decide) ?_
  refine m_astN hC 34 (M2 := mset (mset (mset (mset M 31 (fun _ => nI 0)) 28 (upd (M 28) 10 (nI 0))) 32 (fun _ => nI 0)) 34 (upd (M 34) 0 (nI 0))) dX3_reads_26 rfl rfl (by have h9 : mLen 34 = 5 := rfl; omega) rfl ?_
  have lp27 : ∀ d9 : Nat, ∀ (sp : Nat) (cur : Nat) (fu : Nat) (stk : List (Nat × Nat)) (L : List Nat) (b : Bool) (M2 : nMem), mN M 27 - sp = d9 → (sp ≤ mN M 27) → (cur ≤ sp) → (bufF [28, 29, 31, 32, 33, 34] M M2) → (M2 31 0 = nI sp) → (bufR M2 L b) → (stR M2 stk cur) → (stk.length ≤ 4) → (∀ e ∈ stk, e.1 + 1 ≤ sp ∧ e.2 ≤ L.length) → (∀ t ∈ L, stp t) → (mN M 27 - sp ≤ fu) → (rrun (txt M) (mN M 27) (mN M 26) (mFs M) fu (sp, cur, stk, L, b) = mRd M) → WN K na (mPut na h M2) 0 0 Q9 27 [some (.ref (na 61)), some (.int (nI stk.length)), none, none] [] := by
    intro d9
    induction d9 using Nat.strongRecOn with
    | _ d9 ih27 =>
      intro sp cur fu stk L b M2 hd27 hsp hcu hF h31 hB hS hd hop hst hfu hru
      refine n_aload_n hC dX3_reads_27 rfl ?_
      refine m_getI hC 31 (v := nI sp) dX3_reads_28 rfl rfl (by decide) h31 ?_
      refine n_aload_n hC dX3_reads_31 rfl ?_
      refine m_getI hC 27 (v := nI (mN M 27)) dX3_reads_32 rfl rfl (by decide) ((congrFun (hF.1 27 (by decide)) 0).trans h27) ?_
      refine n_icmp_geN hC (tgt := 368) dX3_reads_35 (by decide) (by omega) (by omega) (fun c_35 => ?_) (fun c_35 => ?_)
      · skip
        refine n_iload_n hC dX3_reads_368 rfl ?_
        refine n_if_neN hC (tgt := 385) dX3_reads_369 (by decide) (by omega) (fun c_369 => ?_) (fun c_369 => ?_)
        · skip
          refine n_iconst hC (v := nI 0) dX3_reads_385 (by decide) ?_
          exact n_zret hC dX3_reads_386 rfl (by decide) (by decide) (⟨rfl, M2, rfl, rdP_n hF h31 (by rw [← hru, rrun_end (by show _ ≤ sp; omega), if_neg (fun z => absurd z.1 (fun e => c_369 (congrArg List.length (show stk = [] from e))))])⟩)
        · skip
          have hstk : stk = [] := List.eq_nil_of_length_eq_zero (by omega)
          have hS2 := hS.top
          rw [hstk] at hS2
          refine n_aload_n hC dX3_reads_372 rfl ?_
          refine m_getA hC 34 dX3_reads_373 rfl rfl ?_
          refine n_iconst hC (v := nI 0) dX3_reads_376 (by decide) ?_
          refine m_aldN hC 34 (v := nI cur) dX3_reads_377 rfl rfl (by have h9 : mLen 34 = 5 := rfl; omega) hS2 ?_
          refine n_if_leN hC (tgt := 385) dX3_reads_378 (by decide) (by omega) (fun c_378 => ?_) (fun c_378 => ?_)
          · skip
            refine n_iconst hC (v := nI 0) dX3_reads_385 (by decide) ?_
            exact n_zret hC dX3_reads_386 rfl (by decide) (by decide) (⟨rfl, M2, rfl, rdP_n hF h31 (by rw [← hru, rrun_end (by show _ ≤ sp; omega), if_neg (fun z => absurd z.2 (by show ¬ 0 < cur; omega))])⟩)
          · skip
            refine n_iconst hC (v := nI 1) dX3_reads_381 (by decide) ?_
            refine n_goto hC (tgt := 386) dX3_reads_382 (by decide) ?_
            exact n_zret hC dX3_reads_386 rfl (by decide) (by decide) (⟨rfl, M2, rfl, rdP_s hF h31 hB hst (by rw [← hru, rrun_end (by show _ ≤ sp; omega), if_pos ⟨hstk, by show 0 < cur; omega⟩])⟩)
      · skip
        obtain ⟨c, hc⟩ : ∃ z, txt M sp = z := ⟨_, rfl⟩
        obtain ⟨x, hx⟩ : ∃ z, txt M (sp + 1) = z := ⟨_, rfl⟩
        refine n_aload_n hC dX3_reads_38 rfl ?_
        refine n_callV0i hC (mt_X3_next na h (M2) (sp := sp) (fd := mN M 27) (v := c) h31 (by exact ((congrFun (hF.1 27 (by decide)) 0).trans h27)) (by omega) (by omega) (by rw [hF.1 30 (by decide)]; exact hc)) md_X3_next q1411 dX3_reads_39 rfl (mPut_o _ _ _) rfl rfl ⟨rfl, rfl, by decide, by decide⟩ rfl (Nat.le_of_ble_eq_true rfl) (by decide) (by decide) (fun r0 na0 h0 hp0 => ?_)
        obtain ⟨rfl, rfl, rfl⟩ := hp0
        refine n_istore_n hC dX3_reads_42 (Nat.le_of_ble_eq_true rfl) ?_
        refine n_aload_n hC dX3_reads_43 rfl ?_
        refine n_iload_n hC dX3_reads_44 rfl ?_
        refine n_bipush hC (v := nI 48) dX3_reads_45 (by decide) ?_
        refine n_bipush hC (v := nI 57) dX3_reads_47 (by decide) ?_
        refine n_callV3z hC (mt_X3_in na h (M2) (c) (nI 48) (nI 57)) md_X3_in q1293 dX3_reads_49 rfl (mPut_o _ _ _) rfl rfl ⟨rfl, rfl, by decide, by decide⟩ rfl (Nat.le_of_ble_eq_true rfl) (by decide) (by decide) (fun r1 na1 h1 hp1 => ?_)
        obtain ⟨rfl, rfl, rfl⟩ := hp1
        refine n_if_eqB hC (tgt := 114) dX3_reads_52 (by decide) (fun c_52 => ?_) (fun c_52 => ?_)
        · skip
          refine n_iload_n hC dX3_reads_114 rfl ?_
          refine n_bipush hC (v := nI 119) dX3_reads_115 (by decide) ?_
          refine n_icmp_eq hC (tgt := 126) dX3_reads_117 (by decide) (fun c_117 => ?_) (fun c_117 => ?_)
          · skip
            subst c_117
            refine n_aload_n hC dX3_reads_126 rfl ?_
            refine n_iload_n hC dX3_reads_127 rfl ?_
            refine n_bipush hC (v := nI 119) dX3_reads_128 (by decide) ?_
            refine n_icmp_neN hC (tgt := 138) dX3_reads_130 (by decide) (by omega) (by omega) (fun c_130 => absurd c_130 (by decide)) (fun c_130 => ?_)
            refine n_bipush hC (v := nI 100) dX3_reads_133 (by decide) ?_
            refine n_goto hC (tgt := 140) dX3_reads_135 (by decide) ?_
            refine n_callV1v hC (mt_X3_add na h (M2) (L := L) (b := b) hB 100) md_X3_add q1415 dX3_reads_140 rfl (mPut_o _ _ _) rfl rfl ⟨rfl, rfl, by decide, by decide⟩ rfl (Nat.le_of_ble_eq_true rfl) (by decide) (by decide) (fun na2 h2 hp2 => ?_)
            obtain ⟨rfl, M4, rfl, hF4, hB4⟩ := hp2
            refine n_goto hC (tgt := 345) dX3_reads_143 (by decide) ?_
            obtain ⟨M9, eM9⟩ : ∃ z, z = M4 := ⟨_, rfl⟩
            have hF9 : bufF [28, 29, 31, 32, 33, 34] M M9 := by rw [eM9]; exact bufF.trans hF (hF4.wk (by decide))
            have hB9 : bufR M9 ((ladd (L, b) (100)).1) ((ladd (L, b) (100)).2) := by rw [eM9]; exact hB4
            have hS9 : ∀ c2, stR (mset M9 34 (upd (M9 34) stk.length (nI c2))) stk c2 := by rw [eM9]; exact stR.new2 (hS.fr (fun i _ => congrFun (hF4.1 34 (by decide)) i) (fun i _ => congrFun (hF4.1 33 (by decide)) i))
            have h349 : M9 34 stk.length = nI cur := by rw [eM9]; exact (hS.fr (fun i _ => congrFun (hF4.1 34 (by decide)) i) (fun i _ => congrFun (hF4.1 33 (by decide)) i)).top
            have h319 : M9 31 0 = nI (sp) := by rw [eM9]; exact ((congrFun (hF4.1 31 (by decide)) 0).trans h31)
            have hst9 : ∀ t ∈ (ladd (L, b) (100)).1, stp t := ladd_stp (by unfold stp; omega) hst
            have hd9 : stk.length ≤ 4 := hd
            have hop9 : ∀ e ∈ stk, e.1 + 1 ≤ sp + 1 ∧ e.2 ≤ ((ladd (L, b) (100)).1).length := fun e he => ⟨by have := (hop e he).1; omega, Nat.le_trans (hop e he).2 (ladd_len (L, b) _)⟩
            have hrs9 : rst (txt M) (mN M 26) (mFs M) sp cur stk L b = .inr (sp + 1, cur + 1, stk, (ladd (L, b) (100)).1, (ladd (L, b) (100)).2) := by unfold rst; rw [hc, if_neg (by decide), if_pos (Or.inl rfl), if_pos rfl]
            rw [← eM9]
            refine n_aload_n hC dX3_reads_345 rfl ?_
            refine m_getA hC 34 dX3_reads_346 rfl rfl ?_
            refine n_iload_n hC dX3_reads_349 rfl ?_
            refine n_dup2 hC dX3_reads_350 rfl rfl ?_
            refine m_aldN hC 34 (v := nI cur) dX3_reads_351 rfl rfl (by have h9 : mLen 34 = 5 := rfl; omega) h349 ?_
            refine n_iconst hC (v := nI 1) dX3_reads_352 (by decide) ?_
            refine n_iaddN hC dX3_reads_353 rfl ?_
            refine m_astN hC 34 (M2 := mset M9 34 (upd (M9 34) stk.length (nI (cur + 1)))) dX3_reads_354 rfl rfl (by have h9 : mLen 34 = 5 := rfl; omega) rfl ?_
            refine n_aload_n hC dX3_reads_355 rfl ?_
            refine n_dup hC dX3_reads_356 rfl ?_
            refine m_getI hC 31 (v := nI sp) dX3_reads_357 rfl rfl (by decide) h319 ?_
            refine n_iconst hC (v := nI 1) dX3_reads_360 (by decide) ?_
            refine n_iaddN hC dX3_reads_361 rfl ?_
            refine m_putI hC 31 (M2 := mset (mset M9 34 (upd (M9 34) stk.length (nI (cur + 1)))) 31 (fun _ => nI (sp + 1))) dX3_reads_362 rfl rfl (by decide) rfl rfl rfl rfl rfl ?_
            refine n_goto hC (tgt := 27) dX3_reads_365 (by decide) ?_
            exact WN.forget (L' := [some (.ref (na 61)), some (.int (nI stk.length)), none, none]) (⟨Or.inr rfl, Or.inr rfl, Or.inl rfl, Or.inl rfl, trivial⟩) (ih27 _ (by omega) (sp + 1) (cur + 1) (fu - 1) stk ((ladd (L, b) (100)).1) ((ladd (L, b) (100)).2) (mset (mset M9 34 (upd (M9 34) stk.length (nI (cur + 1)))) 31 (fun _ => nI (sp + 1))) rfl (by omega) (by omega) (bufF.set (by decide) (bufF.set (by decide) hF9)) rfl (bufR.set (by decide) (bufR.set (by decide) hB9)) (stR.set (by decide) (hS9 _)) hd9 hop9 hst9 (by omega) ((rrun_r c_35 hfu hrs9).symm.trans hru))
          · skip
            refine n_iload_n hC dX3_reads_120 rfl ?_
            refine n_bipush hC (v := nI 118) dX3_reads_121 (by decide) ?_
            refine n_icmp_ne hC (tgt := 146) dX3_reads_123 (by decide) (fun c_123 => ?_) (fun c_123 => ?_)
            · skip
              refine n_aload_n hC dX3_reads_146 rfl ?_
              refine n_iload_n hC dX3_reads_147 rfl ?_
              refine n_bipush hC (v := nI 65) dX3_reads_148 (by decide) ?_
              refine n_bipush hC (v := nI 74) dX3_reads_150 (by decide) ?_
              refine n_callV3z hC (mt_X3_in na h (M2) (c) (nI 65) (nI 74)) md_X3_in q1293 dX3_reads_152 rfl (mPut_o _ _ _) rfl rfl ⟨rfl, rfl, by decide, by decide⟩ rfl (Nat.le_of_ble_eq_true rfl) (by decide) (by decide) (fun r3 na3 h3 hp3 => ?_)
              obtain ⟨rfl, rfl, rfl⟩ := hp3
              refine n_if_eqB hC (tgt := 212) dX3_reads_155 (by decide) (fun c_155 => ?_) (fun c_155 => ?_)
              · skip
                refine n_iload_n hC dX3_reads_212 rfl ?_
                refine n_bipush hC (v := nI 40) dX3_reads_213 (by decide) ?_
                refine n_icmp_ne hC (tgt := 249) dX3_reads_215 (by decide) (fun c_215 => ?_) (fun c_215 => ?_)
                · skip
                  refine n_iload_n hC dX3_reads_249 rfl ?_
                  refine n_bipush hC (v := nI 41) dX3_reads_250 (by decide) ?_
                  refine n_icmp_ne hC (tgt := 343) dX3_reads_252 (by decide) (fun c_252 => ?_) (fun c_252 => ?_)
                  · skip
                    refine n_iconst hC (v := nI 0) dX3_reads_343 (by decide) ?_
                    exact n_zret hC dX3_reads_344 rfl (by decide) (by decide) (⟨rfl, _, rfl, rdP_n hF h31 (by rw [← hru]; exact (rrun_l c_35 hfu (by unfold rst; rw [hc, if_neg (by rw [c_52]; decide), if_neg (by rintro (z | z); exact c_117 z; exact c_123 z), if_neg (fun z => absurd z.1 (by rw [c_155]; decide)), if_neg (fun z => c_215 z.1), if_neg (fun z => c_252 z.1)])).symm)⟩)
                  · skip
                    have c_252 : c = nI 41 := c_252
                    subst c_252
                    refine n_iload_n hC dX3_reads_255 rfl ?_
                    refine n_if_leN hC (tgt := 343) dX3_reads_256 (by decide) (by omega) (fun c_256 => ?_) (fun c_256 => ?_)
                    · skip
                      refine n_iconst hC (v := nI 0) dX3_reads_343 (by decide) ?_
                      exact n_zret hC dX3_reads_344 rfl (by decide) (by decide) (⟨rfl, _, rfl, rdP_n hF h31 (by rw [← hru]; exact (rrun_l c_35 hfu (by unfold rst; rw [hc, if_neg (by rw [c_52]; decide), if_neg (by rintro (z | z); exact c_117 z; exact c_123 z), if_neg (fun z => absurd z.1 (by rw [c_155]; decide)), if_neg (fun z => absurd z.1 (by decide)), if_neg (fun z => z.2.1 (List.eq_nil_of_length_eq_zero (by omega)))])).symm)⟩)
                    · skip
                      obtain ⟨o, p, r, hstk⟩ := cons_of (show 0 < stk.length by omega)
                      have hlen : stk.length = r.length + 1 := by rw [hstk]; rfl
                      have hS2 : stR M2 ((o, p) :: r) cur := hstk ▸ hS
                      have hop2 := hop (o, p) (by rw [hstk]; exact List.mem_cons_self)
                      dsimp only at hop2
                      have hne : stk ≠ [] := by rw [hstk]; exact List.cons_ne_nil _ _
                      refine n_aload_n hC dX3_reads_259 rfl ?_
                      refine m_getA hC 34 dX3_reads_260 rfl rfl ?_
                      refine n_iload_n hC dX3_reads_263 rfl ?_
                      refine m_aldN hC 34 (v := nI cur) dX3_reads_264 rfl rfl (by have h9 : mLen 34 = 5 := rfl; omega) hS.top ?_
                      refine n_if_leN hC (tgt := 343) dX3_reads_265 (by decide) (by omega) (fun c_265 => ?_) (fun c_265 => ?_)
                      · skip
                        refine n_iconst hC (v := nI 0) dX3_reads_343 (by decide) ?_
                        exact n_zret hC dX3_reads_344 rfl (by decide) (by decide) (⟨rfl, _, rfl, rdP_n hF h31 (by rw [← hru]; exact (rrun_l c_35 hfu (by unfold rst; rw [hc, if_neg (by rw [c_52]; decide), if_neg (by rintro (z | z); exact c_117 z; exact c_123 z), if_neg (fun z => absurd z.1 (by rw [c_155]; decide)), if_neg (fun z => absurd z.1 (by decide)), if_neg (fun z => absurd z.2.2 (by omega))])).symm)⟩)
                      · skip
                        refine n_aload_n hC dX3_reads_268 rfl ?_
                        refine n_dup hC dX3_reads_269 rfl ?_
                        refine m_getI hC 31 (v := nI sp) dX3_reads_270 rfl rfl (by decide) h31 ?_
                        refine n_iconst hC (v := nI 1) dX3_reads_273 (by decide) ?_
                        refine n_iaddN hC dX3_reads_274 rfl ?_
                        refine m_putI hC 31 (M2 := mset M2 31 (fun _ => nI (sp + 1))) dX3_reads_275 rfl rfl (by decide) rfl rfl rfl rfl rfl ?_
                        refine n_aload_n hC dX3_reads_278 rfl ?_
                        refine n_aload_n hC dX3_reads_279 rfl ?_
                        refine n_callV0i hC (mt_X3_next na h (mset M2 31 (fun _ => nI (sp + 1))) (sp := sp + 1) (fd := mN M 27) (v := x) rfl (by exact ((congrFun (hF.1 27 (by decide)) 0).trans h27)) (by omega) (by omega) (by rw [mset_n (by decide), hF.1 30 (by decide)]; exact hx)) md_X3_next q1411 dX3_reads_280 rfl (mPut_o _ _ _) rfl rfl ⟨rfl, rfl, by decide, by decide⟩ rfl (Nat.le_of_ble_eq_true rfl) (by decide) (by decide) (fun r4 na4 h4 hp4 => ?_)
                        obtain ⟨rfl, rfl, rfl⟩ := hp4
                        refine n_bipush hC (v := nI 50) dX3_reads_283 (by decide) ?_
                        refine n_bipush hC (v := nI 57) dX3_reads_285 (by decide) ?_
                        refine n_callV3z hC (mt_X3_in na h (mset M2 31 (fun _ => nI (sp + 1))) (x) (nI 50) (nI 57)) md_X3_in q1293 dX3_reads_287 rfl (mPut_o _ _ _) rfl rfl ⟨rfl, rfl, by decide, by decide⟩ rfl (Nat.le_of_ble_eq_true rfl) (by decide) (by decide) (fun r5 na5 h5 hp5 => ?_)
                        obtain ⟨rfl, rfl, rfl⟩ := hp5
                        refine n_if_eqB hC (tgt := 313) dX3_reads_290 (by decide) (fun c_290 => ?_) (fun c_290 => ?_)
                        · skip
                          refine n_aload_n hC dX3_reads_313 rfl ?_
                          refine n_callV0i hC (mt_X3_next na h (mset M2 31 (fun _ => nI (sp + 1))) (sp := sp + 1) (fd := mN M 27) (v := x) rfl (by exact ((congrFun (hF.1 27 (by decide)) 0).trans h27)) (by omega) (by omega) (by rw [mset_n (by decide), hF.1 30 (by decide)]; exact hx)) md_X3_next q1411 dX3_reads_314 rfl (mPut_o _ _ _) rfl rfl ⟨rfl, rfl, by decide, by decide⟩ rfl (Nat.le_of_ble_eq_true rfl) (by decide) (by decide) (fun r6 na6 h6 hp6 => ?_)
                          obtain ⟨rfl, rfl, rfl⟩ := hp6
                          refine n_bipush hC (v := nI 45) dX3_reads_317 (by decide) ?_
                          refine n_icmp_ne hC (tgt := 335) dX3_reads_319 (by decide) (fun c_319 => ?_) (fun c_319 => ?_)
                          · skip
                            refine n_iconst hC (v := nI 0) dX3_reads_335 (by decide) ?_
                            exact n_zret hC dX3_reads_336 rfl (by decide) (by decide) (⟨rfl, _, rfl, rdP_n (bufF.set (by decide) hF) rfl (by rw [← hru]; exact (rrun_l c_35 hfu (by unfold rst; rw [hc, hx, if_neg (by rw [c_52]; decide), if_neg (by rintro (z | z); exact c_117 z; exact c_123 z), if_neg (fun z => absurd z.1 (by rw [c_155]; decide)), if_neg (by rintro ⟨z, y⟩; exact absurd z (by decide)), if_pos ⟨rfl, hne, by omega⟩, if_neg (by rw [c_290]; decide), if_neg c_319])).symm)⟩)
                          · skip
                            have c_319 : x = nI 45 := c_319
                            subst c_319
                            have hsp1 := txt_in hx (by decide)
                            refine n_aload_n hC dX3_reads_322 rfl ?_
                            refine n_aload_n hC dX3_reads_323 rfl ?_
                            refine m_getA hC 33 dX3_reads_324 rfl rfl ?_
                            refine n_iload_n hC dX3_reads_327 rfl ?_
                            refine m_aldN hC 33 (v := nI p) dX3_reads_328 rfl rfl (by have h9 : mLen 33 = 5 := rfl; omega) (by rw [hlen]; exact hS2.2.1) ?_
                            refine n_callV1v hC (mt_X3_undo na h (mset M2 31 (fun _ => nI (sp + 1))) (L := L) (b := b) (bufR.set (by decide) hB) (p := p) hop2.2 hst) md_X3_undo q1427 dX3_reads_329 rfl (mPut_o _ _ _) rfl rfl ⟨rfl, rfl, by decide, by decide⟩ rfl (Nat.le_of_ble_eq_true rfl) (by decide) (by decide) (fun na7 h7 hp7 => ?_)
                            obtain ⟨rfl, M4, rfl, hF4, hB4⟩ := hp7
                            refine n_goto hC (tgt := 337) dX3_reads_332 (by decide) ?_
                            refine n_iinc hC dX3_reads_337 (v := nI r.length) rfl (by rw [hlen]; exact pk_m1 _) ?_
                            refine n_goto hC (tgt := 345) dX3_reads_340 (by decide) ?_
                            obtain ⟨M9, eM9⟩ : ∃ z, z = M4 := ⟨_, rfl⟩
                            have hF9 : bufF [28, 29, 31, 32, 33, 34] M M9 := by rw [eM9]; exact bufF.trans (bufF.set (by decide) hF) (hF4.wk (by decide))
                            have hB9 : bufR M9 (lund L p) b := by rw [eM9]; exact hB4
                            have hS9 : ∀ c2, stR (mset M9 34 (upd (M9 34) r.length (nI c2))) r c2 := by rw [eM9]; exact stR.new2 ((stR.set (j := 31) (f := fun _ => nI (sp + 1)) (by decide) hS2.2.2).fr (fun i _ => congrFun (hF4.1 34 (by decide)) i) (fun i _ => congrFun (hF4.1 33 (by decide)) i))
                            have h349 : M9 34 r.length = nI o := by rw [eM9]; exact ((stR.set (j := 31) (f := fun _ => nI (sp + 1)) (by decide) hS2.2.2).fr (fun i _ => congrFun (hF4.1 34 (by decide)) i) (fun i _ => congrFun (hF4.1 33 (by decide)) i)).top
                            have h319 : M9 31 0 = nI (sp + 1) := by rw [eM9]; exact ((congrFun (hF4.1 31 (by decide)) 0).trans rfl)
                            have hst9 : ∀ t ∈ lund L p, stp t := lund_stp hst
                            have hd9 : r.length ≤ 4 := (by omega)
                            have hop9 : ∀ e ∈ r, e.1 + 1 ≤ sp + 1 + 1 ∧ e.2 ≤ (lund L p).length := fun e he => ⟨by have := (hop e (by rw [hstk]; exact List.mem_cons_of_mem _ he)).1; omega, by rw [lund_len]; exact (hop e (by rw [hstk]; exact List.mem_cons_of_mem _ he)).2⟩
                            have hrs9 : rst (txt M) (mN M 26) (mFs M) sp cur stk L b = .inr (sp + 1 + 1, o + 1, r, lund L p, b) := by unfold rst; rw [hc, hx, if_neg (by rw [c_52]; decide), if_neg (by rintro (z | z); exact c_117 z; exact c_123 z), if_neg (fun z => absurd z.1 (by rw [c_155]; decide)), if_neg (by rintro ⟨z, y⟩; exact absurd z (by decide)), if_pos ⟨rfl, hne, by omega⟩, if_neg (by decide), if_pos rfl, show stk.headD (0, 0) = (o, p) by rw [hstk]; rfl, show stk.tail = r by rw [hstk]; rfl]
                            rw [← eM9]
                            refine n_aload_n hC dX3_reads_345 rfl ?_
                            refine m_getA hC 34 dX3_reads_346 rfl rfl ?_
                            refine n_iload_n hC dX3_reads_349 rfl ?_
                            refine n_dup2 hC dX3_reads_350 rfl rfl ?_
                            refine m_aldN hC 34 (v := nI o) dX3_reads_351 rfl rfl (by have h9 : mLen 34 = 5 := rfl; omega) h349 ?_
                            refine n_iconst hC (v := nI 1) dX3_reads_352 (by decide) ?_
                            refine n_iaddN hC dX3_reads_353 rfl ?_
                            refine m_astN hC 34 (M2 := mset M9 34 (upd (M9 34) r.length (nI (o + 1)))) dX3_reads_354 rfl rfl (by have h9 : mLen 34 = 5 := rfl; omega) rfl ?_
                            refine n_aload_n hC dX3_reads_355 rfl ?_
                            refine n_dup hC dX3_reads_356 rfl ?_
                            refine m_getI hC 31 (v := nI (sp + 1)) dX3_reads_357 rfl rfl (by decide) h319 ?_
                            refine n_iconst hC (v := nI 1) dX3_reads_360 (by decide) ?_
                            refine n_iaddN hC dX3_reads_361 rfl ?_
                            refine m_putI hC 31 (M2 := mset (mset M9 34 (upd (M9 34) r.length (nI (o + 1)))) 31 (fun _ => nI (sp + 1 + 1))) dX3_reads_362 rfl rfl (by decide) rfl rfl rfl rfl rfl ?_
                            refine n_goto hC (tgt := 27) dX3_reads_365 (by decide) ?_
                            exact WN.forget (L' := [some (.ref (na 61)), some (.int (nI r.length)), none, none]) (⟨Or.inr rfl, Or.inr rfl, Or.inl rfl, Or.inl rfl, trivial⟩) (ih27 _ (by omega) (sp + 1 + 1) (o + 1) (fu - 1) r (lund L p) b (mset (mset M9 34 (upd (M9 34) r.length (nI (o + 1)))) 31 (fun _ => nI (sp + 1 + 1))) rfl (by omega) (by omega) (bufF.set (by decide) (bufF.set (by decide) hF9)) rfl (bufR.set (by decide) (bufR.set (by decide) hB9)) (stR.set (by decide) (hS9 _)) hd9 hop9 hst9 (by omega) ((rrun_r c_35 hfu hrs9).symm.trans hru))
                        · skip
                          obtain ⟨m, m50, m57, em⟩ := (nrg_nn (by decide) (by decide)).mp c_290
                          subst em
                          have hsp1 := txt_in hx (by omega)
                          refine n_aload_n hC dX3_reads_293 rfl ?_
                          refine n_aload_n hC dX3_reads_294 rfl ?_
                          refine m_getA hC 33 dX3_reads_295 rfl rfl ?_
                          refine n_iload_n hC dX3_reads_298 rfl ?_
                          refine m_aldN hC 33 (v := nI p) dX3_reads_299 rfl rfl (by have h9 : mLen 33 = 5 := rfl; omega) (by rw [hlen]; exact hS2.2.1) ?_
                          refine n_aload_n hC dX3_reads_300 rfl ?_
                          refine n_callV0i hC (mt_X3_next na h (mset M2 31 (fun _ => nI (sp + 1))) (sp := sp + 1) (fd := mN M 27) (v := nI m) rfl (by exact ((congrFun (hF.1 27 (by decide)) 0).trans h27)) (by omega) (by omega) (by rw [mset_n (by decide), hF.1 30 (by decide)]; exact hx)) md_X3_next q1411 dX3_reads_301 rfl (mPut_o _ _ _) rfl rfl ⟨rfl, rfl, by decide, by decide⟩ rfl (Nat.le_of_ble_eq_true rfl) (by decide) (by decide) (fun r8 na8 h8 hp8 => ?_)
                          obtain ⟨rfl, rfl, rfl⟩ := hp8
                          refine n_bipush hC (v := nI 48) dX3_reads_304 (by decide) ?_
                          refine n_isubN hC dX3_reads_306 (by omega) rfl ?_
                          refine n_callV2v hC (mt_X3_repeat na h (mset M2 31 (fun _ => nI (sp + 1))) (L := L) (b := b) (bufR.set (by decide) hB) (p := p) (m := m - 48) hop2.2 (by omega) (by omega)) md_X3_repeat q1423 dX3_reads_307 rfl (mPut_o _ _ _) rfl rfl ⟨rfl, rfl, by decide, by decide⟩ rfl (Nat.le_of_ble_eq_true rfl) (by decide) (by decide) (fun na9 h9 hp9 => ?_)
                          obtain ⟨rfl, M4, rfl, hF4, hB4⟩ := hp9
                          refine n_goto hC (tgt := 337) dX3_reads_310 (by decide) ?_
                          refine n_iinc hC dX3_reads_337 (v := nI r.length) rfl (by rw [hlen]; exact pk_m1 _) ?_
                          refine n_goto hC (tgt := 345) dX3_reads_340 (by decide) ?_
                          obtain ⟨M9, eM9⟩ : ∃ z, z = M4 := ⟨_, rfl⟩
                          have hF9 : bufF [28, 29, 31, 32, 33, 34] M M9 := by rw [eM9]; exact bufF.trans (bufF.set (by decide) hF) (hF4.wk (by decide))
                          have hB9 : bufR M9 ((lrep (L.drop p) (m - 48 - 1) (L, b)).1) ((lrep (L.drop p) (m - 48 - 1) (L, b)).2) := by rw [eM9]; exact hB4
                          have hS9 : ∀ c2, stR (mset M9 34 (upd (M9 34) r.length (nI c2))) r c2 := by rw [eM9]; exact stR.new2 ((stR.set (j := 31) (f := fun _ => nI (sp + 1)) (by decide) hS2.2.2).fr (fun i _ => congrFun (hF4.1 34 (by decide)) i) (fun i _ => congrFun (hF4.1 33 (by decide)) i))
                          have h349 : M9 34 r.length = nI o := by rw [eM9]; exact ((stR.set (j := 31) (f := fun _ => nI (sp + 1)) (by decide) hS2.2.2).fr (fun i _ => congrFun (hF4.1 34 (by decide)) i) (fun i _ => congrFun (hF4.1 33 (by decide)) i)).top
                          have h319 : M9 31 0 = nI (sp + 1) := by rw [eM9]; exact ((congrFun (hF4.1 31 (by decide)) 0).trans rfl)
                          have hst9 : ∀ t ∈ (lrep (L.drop p) (m - 48 - 1) (L, b)).1, stp t := lrep_stp (fun t ht => hst t (List.mem_of_mem_drop ht)) _ hst
                          have hd9 : r.length ≤ 4 := (by omega)
                          have hop9 : ∀ e ∈ r, e.1 + 1 ≤ sp + 1 + 1 ∧ e.2 ≤ ((lrep (L.drop p) (m - 48 - 1) (L, b)).1).length := fun e he => ⟨by have := (hop e (by rw [hstk]; exact List.mem_cons_of_mem _ he)).1; omega, Nat.le_trans (hop e (by rw [hstk]; exact List.mem_cons_of_mem _ he)).2 (lrep_len _ (L, b))⟩
                          have hrs9 : rst (txt M) (mN M 26) (mFs M) sp cur stk L b = .inr (sp + 1 + 1, o + 1, r, (lrep (L.drop p) (m - 48 - 1) (L, b)).1, (lrep (L.drop p) (m - 48 - 1) (L, b)).2) := by unfold rst; rw [hc, hx, if_neg (by rw [c_52]; decide), if_neg (by rintro (z | z); exact c_117 z; exact c_123 z), if_neg (fun z => absurd z.1 (by rw [c_155]; decide)), if_neg (by rintro ⟨z, y⟩; exact absurd z (by decide)), if_pos ⟨rfl, hne, by omega⟩, if_pos c_290, show stk.headD (0, 0) = (o, p) by rw [hstk]; rfl, show stk.tail = r by rw [hstk]; rfl, nI_clamp (by omega)]
                          rw [← eM9]
                          refine n_aload_n hC dX3_reads_345 rfl ?_
                          refine m_getA hC 34 dX3_reads_346 rfl rfl ?_
                          refine n_iload_n hC dX3_reads_349 rfl ?_
                          refine n_dup2 hC dX3_reads_350 rfl rfl ?_
                          refine m_aldN hC 34 (v := nI o) dX3_reads_351 rfl rfl (by have h9 : mLen 34 = 5 := rfl; omega) h349 ?_
                          refine n_iconst hC (v := nI 1) dX3_reads_352 (by decide) ?_
                          refine n_iaddN hC dX3_reads_353 rfl ?_
                          refine m_astN hC 34 (M2 := mset M9 34 (upd (M9 34) r.length (nI (o + 1)))) dX3_reads_354 rfl rfl (by have h9 : mLen 34 = 5 := rfl; omega) rfl ?_
                          refine n_aload_n hC dX3_reads_355 rfl ?_
                          refine n_dup hC dX3_reads_356 rfl ?_
                          refine m_getI hC 31 (v := nI (sp + 1)) dX3_reads_357 rfl rfl (by decide) h319 ?_
                          refine n_iconst hC (v := nI 1) dX3_reads_360 (by decide) ?_
                          refine n_iaddN hC dX3_reads_361 rfl ?_
                          refine m_putI hC 31 (M2 := mset (mset M9 34 (upd (M9 34) r.length (nI (o + 1)))) 31 (fun _ => nI (sp + 1 + 1))) dX3_reads_362 rfl rfl (by decide) rfl rfl rfl rfl rfl ?_
                          refine n_goto hC (tgt := 27) dX3_reads_365 (by decide) ?_
                          exact WN.forget (L' := [some (.ref (na 61)), some (.int (nI r.length)), none, none]) (⟨Or.inr rfl, Or.inr rfl, Or.inl rfl, Or.inl rfl, trivial⟩) (ih27 _ (by omega) (sp + 1 + 1) (o + 1) (fu - 1) r ((lrep (L.drop p) (m - 48 - 1) (L, b)).1) ((lrep (L.drop p) (m - 48 - 1) (L, b)).2) (mset (mset M9 34 (upd (M9 34) r.length (nI (o + 1)))) 31 (fun _ => nI (sp + 1 + 1))) rfl (by omega) (by omega) (bufF.set (by decide) (bufF.set (by decide) hF9)) rfl (bufR.set (by decide) (bufR.set (by decide) hB9)) (stR.set (by decide) (hS9 _)) hd9 hop9 hst9 (by omega) ((rrun_r c_35 hfu hrs9).symm.trans hru))
                · skip
                  have c_215 : c = nI 40 := c_215
                  subst c_215
                  refine n_iload_n hC dX3_reads_218 rfl ?_
                  refine n_iconst hC (v := nI 4) dX3_reads_219 (by decide) ?_
                  refine n_icmp_geN hC (tgt := 249) dX3_reads_220 (by decide) (by omega) (by omega) (fun c_220 => ?_) (fun c_220 => ?_)
                  · skip
                    refine n_iload_n hC dX3_reads_249 rfl ?_
                    refine n_bipush hC (v := nI 41) dX3_reads_250 (by decide) ?_
                    refine n_icmp_neN hC (tgt := 343) dX3_reads_252 (by decide) (by omega) (by omega) (fun c_252 => ?_) (fun c_252 => (by omega))
                    refine n_iconst hC (v := nI 0) dX3_reads_343 (by decide) ?_
                    exact n_zret hC dX3_reads_344 rfl (by decide) (by decide) (⟨rfl, _, rfl, rdP_n hF h31 (by rw [← hru]; exact (rrun_l c_35 hfu (by unfold rst; rw [hc, if_neg (by rw [c_52]; decide), if_neg (by rintro (z | z); exact c_117 z; exact c_123 z), if_neg (fun z => absurd z.1 (by rw [c_155]; decide)), if_neg (fun z => absurd z.2 (by omega)), if_neg (fun z => absurd z.1 (by decide))])).symm)⟩)
                  · skip
                    refine n_iincN hC dX3_reads_223 (j := 1) (c := stk.length + 1) rfl (by decide) rfl ?_
                    refine n_aload_n hC dX3_reads_226 rfl ?_
                    refine m_getA hC 33 dX3_reads_227 rfl rfl ?_
                    refine n_iload_n hC dX3_reads_230 rfl ?_
                    refine n_aload_n hC dX3_reads_231 rfl ?_
                    refine m_getA hC 28 dX3_reads_232 rfl rfl ?_
                    refine n_bipush hC (v := nI 10) dX3_reads_235 (by decide) ?_
                    refine m_aldN hC 28 (v := nI L.length) dX3_reads_237 rfl rfl (by have h9 : mLen 28 = 11 := rfl; omega) hB.1 ?_
                    refine m_astN hC 33 (M2 := mset M2 33 (upd (M2 33) (stk.length + 1) (nI L.length))) dX3_reads_238 rfl rfl (by have h9 : mLen 33 = 5 := rfl; omega) rfl ?_
                    refine n_aload_n hC dX3_reads_239 rfl ?_
                    refine m_getA hC 34 dX3_reads_240 rfl rfl ?_
                    refine n_iload_n hC dX3_reads_243 rfl ?_
                    refine n_iconst hC (v := (-1)) dX3_reads_244 (by decide) ?_
                    refine m_astN hC 34 (M2 := mset (mset M2 33 (upd (M2 33) (stk.length + 1) (nI L.length))) 34 (upd (M2 34) (stk.length + 1) (-1))) dX3_reads_245 rfl rfl (by have h9 : mLen 34 = 5 := rfl; omega) rfl ?_
                    refine n_goto hC (tgt := 345) dX3_reads_246 (by decide) ?_
                    obtain ⟨M9, eM9⟩ : ∃ z, z = mset (mset M2 33 (upd (M2 33) (stk.length + 1) (nI L.length))) 34 (upd (M2 34) (stk.length + 1) (-1)) := ⟨_, rfl⟩
                    have hF9 : bufF [28, 29, 31, 32, 33, 34] M M9 := by rw [eM9]; exact bufF.set (by decide) (bufF.set (by decide) hF)
                    have hB9 : bufR M9 L b := by rw [eM9]; exact bufR.set (by decide) (bufR.set (by decide) hB)
                    have hS9 : ∀ c2, stR (mset M9 34 (upd (M9 34) (stk.length + 1) (nI c2))) ((cur, L.length) :: stk) c2 := by rw [eM9]; exact stR.push2 hS
                    have h349 : M9 34 (stk.length + 1) = (-1) := by rw [eM9]; exact (by rw [mset_s]; exact if_pos rfl)
                    have h319 : M9 31 0 = nI (sp) := by rw [eM9]; exact h31
                    have hst9 : ∀ t ∈ L, stp t := hst
                    have hd9 : ((cur, L.length) :: stk).length ≤ 4 := (by show stk.length + 1 ≤ 4; omega)
                    have hop9 : ∀ e ∈ (cur, L.length) :: stk, e.1 + 1 ≤ sp + 1 ∧ e.2 ≤ L.length := fun e he => by rcases List.mem_cons.mp he with rfl | he; exact ⟨by dsimp only; omega, Nat.le_refl _⟩; exact ⟨by have := (hop e he).1; omega, (hop e he).2⟩
                    have hrs9 : rst (txt M) (mN M 26) (mFs M) sp cur stk L b = .inr (sp + 1, 0, (cur, L.length) :: stk, L, b) := by unfold rst; rw [hc, if_neg (by rw [c_52]; decide), if_neg (by rintro (z | z); exact c_117 z; exact c_123 z), if_neg (fun z => absurd z.1 (by rw [c_155]; decide)), if_pos ⟨rfl, by omega⟩]
                    rw [← eM9]
                    refine n_aload_n hC dX3_reads_345 rfl ?_
                    refine m_getA hC 34 dX3_reads_346 rfl rfl ?_
                    refine n_iload_n hC dX3_reads_349 rfl ?_
                    refine n_dup2 hC dX3_reads_350 rfl rfl ?_
                    refine m_aldN hC 34 (v := (-1)) dX3_reads_351 rfl rfl (by have h9 : mLen 34 = 5 := rfl; omega) h349 ?_
                    refine n_iconst hC (v := nI 1) dX3_reads_352 (by decide) ?_
                    refine n_iadd hC dX3_reads_353 ?_
                    rw [show (-1) + (nI 1) = nI 0 from by decide]
                    refine m_astN hC 34 (M2 := mset M9 34 (upd (M9 34) (stk.length + 1) (nI 0))) dX3_reads_354 rfl rfl (by have h9 : mLen 34 = 5 := rfl; omega) rfl ?_
                    refine n_aload_n hC dX3_reads_355 rfl ?_
                    refine n_dup hC dX3_reads_356 rfl ?_
                    refine m_getI hC 31 (v := nI sp) dX3_reads_357 rfl rfl (by decide) h319 ?_
                    refine n_iconst hC (v := nI 1) dX3_reads_360 (by decide) ?_
                    refine n_iaddN hC dX3_reads_361 rfl ?_
                    refine m_putI hC 31 (M2 := mset (mset M9 34 (upd (M9 34) (stk.length + 1) (nI 0))) 31 (fun _ => nI (sp + 1))) dX3_reads_362 rfl rfl (by decide) rfl rfl rfl rfl rfl ?_
                    refine n_goto hC (tgt := 27) dX3_reads_365 (by decide) ?_
                    exact WN.forget (L' := [some (.ref (na 61)), some (.int (nI (stk.length + 1))), none, none]) (⟨Or.inr rfl, Or.inr rfl, Or.inl rfl, Or.inl rfl, trivial⟩) (ih27 _ (by omega) (sp + 1) 0 (fu - 1) ((cur, L.length) :: stk) L b (mset (mset M9 34 (upd (M9 34) (stk.length + 1) (nI 0))) 31 (fun _ => nI (sp + 1))) rfl (by omega) (by omega) (bufF.set (by decide) (bufF.set (by decide) hF9)) rfl (bufR.set (by decide) (bufR.set (by decide) hB9)) (stR.set (by decide) (hS9 _)) hd9 hop9 hst9 (by omega) ((rrun_r c_35 hfu hrs9).symm.trans hru))
              · skip
                obtain ⟨j, j65, j74, ej⟩ := (nrg_nn (by decide) (by decide)).mp c_155
                subst ej
                refine n_aload_n hC dX3_reads_158 rfl ?_
                refine n_iload_n hC dX3_reads_159 rfl ?_
                refine n_bipush hC (v := nI 65) dX3_reads_160 (by decide) ?_
                refine n_isubN hC dX3_reads_162 (by omega) rfl ?_
                refine n_callV1z hC (mt_X3_isFigure na h (M2) (nI (j - 65)) (n := mN M 26) ((congrFun (hF.1 26 (by decide)) 0).trans h26) (by omega)) md_X3_isFigure q1419 dX3_reads_163 rfl (mPut_o _ _ _) rfl rfl ⟨rfl, rfl, by decide, by decide⟩ rfl (Nat.le_of_ble_eq_true rfl) (by decide) (by decide) (fun r10 na10 h10 hp10 => ?_)
                obtain ⟨rfl, rfl, rfl⟩ := hp10
                refine n_if_eqB hC (tgt := 212) dX3_reads_166 (by decide) (fun c_166 => ?_) (fun c_166 => ?_)
                · skip
                  rw [nin_nI (by omega), decide_eq_false_iff_not] at c_166
                  refine n_iload_n hC dX3_reads_212 rfl ?_
                  refine n_bipush hC (v := nI 40) dX3_reads_213 (by decide) ?_
                  refine n_icmp_neN hC (tgt := 249) dX3_reads_215 (by decide) (by omega) (by omega) (fun c_215 => ?_) (fun c_215 => (by omega))
                  refine n_iload_n hC dX3_reads_249 rfl ?_
                  refine n_bipush hC (v := nI 41) dX3_reads_250 (by decide) ?_
                  refine n_icmp_neN hC (tgt := 343) dX3_reads_252 (by decide) (by omega) (by omega) (fun c_252 => ?_) (fun c_252 => (by omega))
                  refine n_iconst hC (v := nI 0) dX3_reads_343 (by decide) ?_
                  exact n_zret hC dX3_reads_344 rfl (by decide) (by decide) (⟨rfl, _, rfl, rdP_n hF h31 (by rw [← hru]; exact (rrun_l c_35 hfu (by unfold rst; rw [hc, if_neg (by rw [c_52]; decide), if_neg (by rintro (z | z); exact c_117 z; exact c_123 z), if_neg (fun z => absurd z.2 (by rw [nI_clamp (by omega)]; exact c_166)), if_neg (fun z => absurd (nI_inj (by omega) (by decide) z.1) (by omega)), if_neg (fun z => absurd (nI_inj (by omega) (by decide) z.1) (by omega))])).symm)⟩)
                · skip
                  rw [nin_nI (by omega), decide_eq_true_iff] at c_166
                  have hjf := c_166
                  have hmj := (iF _ hjf).2
                  refine n_iconst hC (v := nI 0) dX3_reads_169 (by decide) ?_
                  refine n_istore_n hC dX3_reads_170 (Nat.le_of_ble_eq_true rfl) ?_
                  have lp171 : ∀ d9 : Nat, ∀ (k : Nat) (L3 : List Nat) (b3 : Bool) (M3 : nMem), mA M 28 (j - 65) - k = d9 → (k ≤ mA M 28 (j - 65)) → (bufF [28, 29, 31, 32, 33, 34] M M3) → (bufR M3 L3 b3) → (stR M3 stk cur) → (M3 31 0 = nI sp) → ((L3, b3) = ladds (L, b) ((mFs M (j - 65)).take k)) → WN K na (mPut na h M3) 0 0 Q9 171 [some (.ref (na 61)), some (.int (nI stk.length)), some (.int (nI j)), some (.int (nI k))] [] := by
                    intro d9
                    induction d9 using Nat.strongRecOn with
                    | _ d9 ih171 =>
                      intro k L3 b3 M3 hd171 hk hF3 hB3 hS3 h313 hr3
                      refine n_iload_n hC dX3_reads_171 rfl ?_
                      refine n_aload_n hC dX3_reads_172 rfl ?_
                      refine m_getA hC 28 dX3_reads_173 rfl rfl ?_
                      refine n_iload_n hC dX3_reads_176 rfl ?_
                      refine n_bipush hC (v := nI 65) dX3_reads_177 (by decide) ?_
                      refine n_isubN hC dX3_reads_179 (by omega) rfl ?_
                      refine m_aldN hC 28 (v := nI (mA M 28 (j - 65))) dX3_reads_180 rfl rfl (by have h9 : mLen 28 = 11 := rfl; omega) ((hF3.2.1 _ (by omega)).trans (iF _ hjf).1) ?_
                      refine n_icmp_geN hC (tgt := 209) dX3_reads_181 (by decide) (by omega) (by omega) (fun c_181 => ?_) (fun c_181 => ?_)
                      · skip
                        rw [show k = (mFs M (j - 65)).length by rw [mFs_len]; omega, List.take_length] at hr3
                        rw [show L3 = (ladds (L, b) (mFs M (j - 65))).1 from congrArg (·.1) hr3, show b3 = (ladds (L, b) (mFs M (j - 65))).2 from congrArg (·.2) hr3] at hB3
                        refine n_goto hC (tgt := 345) dX3_reads_209 (by decide) ?_
                        obtain ⟨M9, eM9⟩ : ∃ z, z = M3 := ⟨_, rfl⟩
                        have hF9 : bufF [28, 29, 31, 32, 33, 34] M M9 := by rw [eM9]; exact hF3
                        have hB9 : bufR M9 ((ladds (L, b) (mFs M (j - 65))).1) ((ladds (L, b) (mFs M (j - 65))).2) := by rw [eM9]; exact hB3
                        have hS9 : ∀ c2, stR (mset M9 34 (upd (M9 34) stk.length (nI c2))) stk c2 := by rw [eM9]; exact stR.new2 hS3
                        have h349 : M9 34 stk.length = nI cur := by rw [eM9]; exact hS3.top
                        have h319 : M9 31 0 = nI (sp) := by rw [eM9]; exact h313
                        have hst9 : ∀ t ∈ (ladds (L, b) (mFs M (j - 65))).1, stp t := ladds_stp (fun t ht => by obtain ⟨k9, hk9, rfl⟩ := List.mem_map.mp ht; exact (iG _ k9 hjf (List.mem_range.mp hk9)).2) hst
                        have hd9 : stk.length ≤ 4 := hd
                        have hop9 : ∀ e ∈ stk, e.1 + 1 ≤ sp + 1 ∧ e.2 ≤ ((ladds (L, b) (mFs M (j - 65))).1).length := fun e he => ⟨by have := (hop e he).1; omega, Nat.le_trans (hop e he).2 (ladds_len (L, b))⟩
                        have hrs9 : rst (txt M) (mN M 26) (mFs M) sp cur stk L b = .inr (sp + 1, cur + 1, stk, (ladds (L, b) (mFs M (j - 65))).1, (ladds (L, b) (mFs M (j - 65))).2) := by unfold rst; rw [hc, if_neg (by rw [c_52]; decide), if_neg (by rintro (z | z); exact c_117 z; exact c_123 z), if_pos ⟨c_155, by rw [nI_clamp (by omega)]; exact hjf⟩, nI_clamp (by omega)]
                        rw [← eM9]
                        refine n_aload_n hC dX3_reads_345 rfl ?_
                        refine m_getA hC 34 dX3_reads_346 rfl rfl ?_
                        refine n_iload_n hC dX3_reads_349 rfl ?_
                        refine n_dup2 hC dX3_reads_350 rfl rfl ?_
                        refine m_aldN hC 34 (v := nI cur) dX3_reads_351 rfl rfl (by have h9 : mLen 34 = 5 := rfl; omega) h349 ?_
                        refine n_iconst hC (v := nI 1) dX3_reads_352 (by decide) ?_
                        refine n_iaddN hC dX3_reads_353 rfl ?_
                        refine m_astN hC 34 (M2 := mset M9 34 (upd (M9 34) stk.length (nI (cur + 1)))) dX3_reads_354 rfl rfl (by have h9 : mLen 34 = 5 := rfl; omega) rfl ?_
                        refine n_aload_n hC dX3_reads_355 rfl ?_
                        refine n_dup hC dX3_reads_356 rfl ?_
                        refine m_getI hC 31 (v := nI sp) dX3_reads_357 rfl rfl (by decide) h319 ?_
                        refine n_iconst hC (v := nI 1) dX3_reads_360 (by decide) ?_
                        refine n_iaddN hC dX3_reads_361 rfl ?_
                        refine m_putI hC 31 (M2 := mset (mset M9 34 (upd (M9 34) stk.length (nI (cur + 1)))) 31 (fun _ => nI (sp + 1))) dX3_reads_362 rfl rfl (by decide) rfl rfl rfl rfl rfl ?_
                        refine n_goto hC (tgt := 27) dX3_reads_365 (by decide) ?_
                        exact WN.forget (L' := [some (.ref (na 61)), some (.int (nI stk.length)), none, none]) (⟨Or.inr rfl, Or.inr rfl, Or.inl rfl, Or.inl rfl, trivial⟩) (ih27 _ (by omega) (sp + 1) (cur + 1) (fu - 1) stk ((ladds (L, b) (mFs M (j - 65))).1) ((ladds (L, b) (mFs M (j - 65))).2) (mset (mset M9 34 (upd (M9 34) stk.length (nI (cur + 1)))) 31 (fun _ => nI (sp + 1))) rfl (by omega) (by omega) (bufF.set (by decide) (bufF.set (by decide) hF9)) rfl (bufR.set (by decide) (bufR.set (by decide) hB9)) (stR.set (by decide) (hS9 _)) hd9 hop9 hst9 (by omega) ((rrun_r c_35 hfu hrs9).symm.trans hru))
                      · skip
                        refine n_aload_n hC dX3_reads_184 rfl ?_
                        refine n_aload_n hC dX3_reads_185 rfl ?_
                        refine m_getA hC 29 dX3_reads_186 rfl rfl ?_
                        refine n_sipush hC (v := nI 300) dX3_reads_189 (by decide) ?_
                        refine n_iload_n hC dX3_reads_192 rfl ?_
                        refine n_bipush hC (v := nI 65) dX3_reads_193 (by decide) ?_
                        refine n_isubN hC dX3_reads_195 (by omega) rfl ?_
                        refine n_imulN hC dX3_reads_196 rfl ?_
                        refine n_iload_n hC dX3_reads_197 rfl ?_
                        refine n_iaddN hC dX3_reads_198 rfl ?_
                        refine m_aldN hC 29 (v := nI (mA M 29 (300 * (j - 65) + k))) dX3_reads_199 rfl rfl (by have h9 : mLen 29 = 3300 := rfl; omega) ((hF3.2.2 _ (by omega)).trans (iG _ k hjf (by omega)).1) ?_
                        refine n_callV1v hC (mt_X3_add na h (M3) (L := L3) (b := b3) hB3 (mA M 29 (300 * (j - 65) + k))) md_X3_add q1415 dX3_reads_200 rfl (mPut_o _ _ _) rfl rfl ⟨rfl, rfl, by decide, by decide⟩ rfl (Nat.le_of_ble_eq_true rfl) (by decide) (by decide) (fun na11 h11 hp11 => ?_)
                        obtain ⟨rfl, M4, rfl, hF4, hB4⟩ := hp11
                        refine n_iincN hC dX3_reads_203 (j := 1) (c := k + 1) rfl (by decide) rfl ?_
                        refine n_goto hC (tgt := 171) dX3_reads_206 (by decide) ?_
                        exact WN.forget (L' := [some (.ref (na 61)), some (.int (nI stk.length)), some (.int (nI j)), some (.int (nI (k + 1)))]) (⟨Or.inr rfl, Or.inr rfl, Or.inr rfl, Or.inr rfl, trivial⟩) (ih171 _ (by omega) (k + 1) _ _ M4 rfl (by omega) (bufF.trans hF3 (hF4.wk (by decide))) hB4 (hS3.fr (fun i _ => by rw [hF4.1 34 (by decide)]) (fun i _ => by rw [hF4.1 33 (by decide)])) ((congrFun (hF4.1 31 (by decide)) 0).trans h313) (by rw [take_snoc (by rw [mFs_len]; omega), ladds_snoc, ← hr3, mFs_get (by omega)]))
                  exact WN.forget (L' := [some (.ref (na 61)), some (.int (nI stk.length)), some (.int (nI j)), some (.int (nI 0))]) (⟨Or.inr rfl, Or.inr rfl, Or.inr rfl, Or.inr rfl, trivial⟩) (lp171 _ 0 L b M2 rfl (by omega) hF hB hS h31 rfl)
            · skip
              have c_123 : c = nI 118 := c_123
              subst c_123
              refine n_aload_n hC dX3_reads_126 rfl ?_
              refine n_iload_n hC dX3_reads_127 rfl ?_
              refine n_bipush hC (v := nI 119) dX3_reads_128 (by decide) ?_
              refine n_icmp_neN hC (tgt := 138) dX3_reads_130 (by decide) (by omega) (by omega) (fun c_130 => ?_) (fun c_130 => absurd c_130 (by decide))
              refine n_bipush hC (v := nI 101) dX3_reads_138 (by decide) ?_
              refine n_callV1v hC (mt_X3_add na h (M2) (L := L) (b := b) hB 101) md_X3_add q1415 dX3_reads_140 rfl (mPut_o _ _ _) rfl rfl ⟨rfl, rfl, by decide, by decide⟩ rfl (Nat.le_of_ble_eq_true rfl) (by decide) (by decide) (fun na12 h12 hp12 => ?_)
              obtain ⟨rfl, M4, rfl, hF4, hB4⟩ := hp12
              refine n_goto hC (tgt := 345) dX3_reads_143 (by decide) ?_
              obtain ⟨M9, eM9⟩ : ∃ z, z = M4 := ⟨_, rfl⟩
              have hF9 : bufF [28, 29, 31, 32, 33, 34] M M9 := by rw [eM9]; exact bufF.trans hF (hF4.wk (by decide))
              have hB9 : bufR M9 ((ladd (L, b) (101)).1) ((ladd (L, b) (101)).2) := by rw [eM9]; exact hB4
              have hS9 : ∀ c2, stR (mset M9 34 (upd (M9 34) stk.length (nI c2))) stk c2 := by rw [eM9]; exact stR.new2 (hS.fr (fun i _ => congrFun (hF4.1 34 (by decide)) i) (fun i _ => congrFun (hF4.1 33 (by decide)) i))
              have h349 : M9 34 stk.length = nI cur := by rw [eM9]; exact (hS.fr (fun i _ => congrFun (hF4.1 34 (by decide)) i) (fun i _ => congrFun (hF4.1 33 (by decide)) i)).top
              have h319 : M9 31 0 = nI (sp) := by rw [eM9]; exact ((congrFun (hF4.1 31 (by decide)) 0).trans h31)
              have hst9 : ∀ t ∈ (ladd (L, b) (101)).1, stp t := ladd_stp (by unfold stp; omega) hst
              have hd9 : stk.length ≤ 4 := hd
              have hop9 : ∀ e ∈ stk, e.1 + 1 ≤ sp + 1 ∧ e.2 ≤ ((ladd (L, b) (101)).1).length := fun e he => ⟨by have := (hop e he).1; omega, Nat.le_trans (hop e he).2 (ladd_len (L, b) _)⟩
              have hrs9 : rst (txt M) (mN M 26) (mFs M) sp cur stk L b = .inr (sp + 1, cur + 1, stk, (ladd (L, b) (101)).1, (ladd (L, b) (101)).2) := by unfold rst; rw [hc, if_neg (by decide), if_pos (Or.inr rfl), if_neg (by decide)]
              rw [← eM9]
              refine n_aload_n hC dX3_reads_345 rfl ?_
              refine m_getA hC 34 dX3_reads_346 rfl rfl ?_
              refine n_iload_n hC dX3_reads_349 rfl ?_
              refine n_dup2 hC dX3_reads_350 rfl rfl ?_
              refine m_aldN hC 34 (v := nI cur) dX3_reads_351 rfl rfl (by have h9 : mLen 34 = 5 := rfl; omega) h349 ?_
              refine n_iconst hC (v := nI 1) dX3_reads_352 (by decide) ?_
              refine n_iaddN hC dX3_reads_353 rfl ?_
              refine m_astN hC 34 (M2 := mset M9 34 (upd (M9 34) stk.length (nI (cur + 1)))) dX3_reads_354 rfl rfl (by have h9 : mLen 34 = 5 := rfl; omega) rfl ?_
              refine n_aload_n hC dX3_reads_355 rfl ?_
              refine n_dup hC dX3_reads_356 rfl ?_
              refine m_getI hC 31 (v := nI sp) dX3_reads_357 rfl rfl (by decide) h319 ?_
              refine n_iconst hC (v := nI 1) dX3_reads_360 (by decide) ?_
              refine n_iaddN hC dX3_reads_361 rfl ?_
              refine m_putI hC 31 (M2 := mset (mset M9 34 (upd (M9 34) stk.length (nI (cur + 1)))) 31 (fun _ => nI (sp + 1))) dX3_reads_362 rfl rfl (by decide) rfl rfl rfl rfl rfl ?_
              refine n_goto hC (tgt := 27) dX3_reads_365 (by decide) ?_
              exact WN.forget (L' := [some (.ref (na 61)), some (.int (nI stk.length)), none, none]) (⟨Or.inr rfl, Or.inr rfl, Or.inl rfl, Or.inl rfl, trivial⟩) (ih27 _ (by omega) (sp + 1) (cur + 1) (fu - 1) stk ((ladd (L, b) (101)).1) ((ladd (L, b) (101)).2) (mset (mset M9 34 (upd (M9 34) stk.length (nI (cur + 1)))) 31 (fun _ => nI (sp + 1))) rfl (by omega) (by omega) (bufF.set (by decide) (bufF.set (by decide) hF9)) rfl (bufR.set (by decide) (bufR.set (by decide) hB9)) (stR.set (by decide) (hS9 _)) hd9 hop9 hst9 (by omega) ((rrun_r c_35 hfu hrs9).symm.trans hru))
        · skip
          obtain ⟨j, j48, j57, ej⟩ := (nrg_nn (by decide) (by decide)).mp c_52
          subst ej
          refine n_aload_n hC dX3_reads_55 rfl ?_
          refine n_dup hC dX3_reads_56 rfl ?_
          refine m_getI hC 31 (v := nI sp) dX3_reads_57 rfl rfl (by decide) h31 ?_
          refine n_iconst hC (v := nI 1) dX3_reads_60 (by decide) ?_
          refine n_iaddN hC dX3_reads_61 rfl ?_
          refine m_putI hC 31 (M2 := mset M2 31 (fun _ => nI (sp + 1))) dX3_reads_62 rfl rfl (by decide) rfl rfl rfl rfl rfl ?_
          refine n_aload_n hC dX3_reads_65 rfl ?_
          refine n_callV0i hC (mt_X3_next na h (mset M2 31 (fun _ => nI (sp + 1))) (sp := sp + 1) (fd := mN M 27) (v := x) rfl (by exact ((congrFun (hF.1 27 (by decide)) 0).trans h27)) (by omega) (by omega) (by rw [mset_n (by decide), hF.1 30 (by decide)]; exact hx)) md_X3_next q1411 dX3_reads_66 rfl (mPut_o _ _ _) rfl rfl ⟨rfl, rfl, by decide, by decide⟩ rfl (Nat.le_of_ble_eq_true rfl) (by decide) (by decide) (fun r13 na13 h13 hp13 => ?_)
          obtain ⟨rfl, rfl, rfl⟩ := hp13
          refine n_bipush hC (v := nI 60) dX3_reads_69 (by decide) ?_
          refine n_icmp_eq hC (tgt := 85) dX3_reads_71 (by decide) (fun c_71 => ?_) (fun c_71 => ?_)
          · skip
            subst c_71
            have hsp1 := txt_in hx (by decide)
            refine n_aload_n hC dX3_reads_85 rfl ?_
            refine n_bipush hC (v := nI 10) dX3_reads_86 (by decide) ?_
            refine n_iload_n hC dX3_reads_88 rfl ?_
            refine n_bipush hC (v := nI 48) dX3_reads_89 (by decide) ?_
            refine n_isubN hC dX3_reads_91 (by omega) rfl ?_
            refine n_imulN hC dX3_reads_92 rfl ?_
            refine n_aload_n hC dX3_reads_93 rfl ?_
            refine n_callV0i hC (mt_X3_next na h (mset M2 31 (fun _ => nI (sp + 1))) (sp := sp + 1) (fd := mN M 27) (v := nI 60) rfl (by exact ((congrFun (hF.1 27 (by decide)) 0).trans h27)) (by omega) (by omega) (by rw [mset_n (by decide), hF.1 30 (by decide)]; exact hx)) md_X3_next q1411 dX3_reads_94 rfl (mPut_o _ _ _) rfl rfl ⟨rfl, rfl, by decide, by decide⟩ rfl (Nat.le_of_ble_eq_true rfl) (by decide) (by decide) (fun r14 na14 h14 hp14 => ?_)
            obtain ⟨rfl, rfl, rfl⟩ := hp14
            refine n_bipush hC (v := nI 60) dX3_reads_97 (by decide) ?_
            refine n_icmp_neN hC (tgt := 106) dX3_reads_99 (by decide) (by omega) (by omega) (fun c_99 => absurd c_99 (by decide)) (fun c_99 => ?_)
            refine n_iconst hC (v := nI 0) dX3_reads_102 (by decide) ?_
            refine n_goto hC (tgt := 107) dX3_reads_103 (by decide) ?_
            refine n_iaddN hC dX3_reads_107 rfl ?_
            refine n_callV1v hC (mt_X3_add na h (mset M2 31 (fun _ => nI (sp + 1))) (L := L) (b := b) (bufR.set (by decide) hB) (10 * (j - 48) + 0)) md_X3_add q1415 dX3_reads_108 rfl (mPut_o _ _ _) rfl rfl ⟨rfl, rfl, by decide, by decide⟩ rfl (Nat.le_of_ble_eq_true rfl) (by decide) (by decide) (fun na15 h15 hp15 => ?_)
            obtain ⟨rfl, M4, rfl, hF4, hB4⟩ := hp15
            refine n_goto hC (tgt := 345) dX3_reads_111 (by decide) ?_
            obtain ⟨M9, eM9⟩ : ∃ z, z = M4 := ⟨_, rfl⟩
            have hF9 : bufF [28, 29, 31, 32, 33, 34] M M9 := by rw [eM9]; exact bufF.trans (bufF.set (by decide) hF) (hF4.wk (by decide))
            have hB9 : bufR M9 ((ladd (L, b) (10 * (j - 48) + 0)).1) ((ladd (L, b) (10 * (j - 48) + 0)).2) := by rw [eM9]; exact hB4
            have hS9 : ∀ c2, stR (mset M9 34 (upd (M9 34) stk.length (nI c2))) stk c2 := by rw [eM9]; exact stR.new2 ((stR.set (j := 31) (f := fun _ => nI (sp + 1)) (by decide) hS).fr (fun i _ => congrFun (hF4.1 34 (by decide)) i) (fun i _ => congrFun (hF4.1 33 (by decide)) i))
            have h349 : M9 34 stk.length = nI cur := by rw [eM9]; exact ((stR.set (j := 31) (f := fun _ => nI (sp + 1)) (by decide) hS).fr (fun i _ => congrFun (hF4.1 34 (by decide)) i) (fun i _ => congrFun (hF4.1 33 (by decide)) i)).top
            have h319 : M9 31 0 = nI (sp + 1) := by rw [eM9]; exact ((congrFun (hF4.1 31 (by decide)) 0).trans rfl)
            have hst9 : ∀ t ∈ (ladd (L, b) (10 * (j - 48) + 0)).1, stp t := ladd_stp (by unfold stp; omega) hst
            have hd9 : stk.length ≤ 4 := hd
            have hop9 : ∀ e ∈ stk, e.1 + 1 ≤ sp + 1 + 1 ∧ e.2 ≤ ((ladd (L, b) (10 * (j - 48) + 0)).1).length := fun e he => ⟨by have := (hop e he).1; omega, Nat.le_trans (hop e he).2 (ladd_len (L, b) _)⟩
            have hrs9 : rst (txt M) (mN M 26) (mFs M) sp cur stk L b = .inr (sp + 1 + 1, cur + 1, stk, (ladd (L, b) (10 * (j - 48) + 0)).1, (ladd (L, b) (10 * (j - 48) + 0)).2) := by unfold rst; rw [hc, hx, if_pos c_52, if_neg (by decide), nI_clamp (by omega), if_pos rfl]
            rw [← eM9]
            refine n_aload_n hC dX3_reads_345 rfl ?_
            refine m_getA hC 34 dX3_reads_346 rfl rfl ?_
            refine n_iload_n hC dX3_reads_349 rfl ?_
            refine n_dup2 hC dX3_reads_350 rfl rfl ?_
            refine m_aldN hC 34 (v := nI cur) dX3_reads_351 rfl rfl (by have h9 : mLen 34 = 5 := rfl; omega) h349 ?_
            refine n_iconst hC (v := nI 1) dX3_reads_352 (by decide) ?_
            refine n_iaddN hC dX3_reads_353 rfl ?_
            refine m_astN hC 34 (M2 := mset M9 34 (upd (M9 34) stk.length (nI (cur + 1)))) dX3_reads_354 rfl rfl (by have h9 : mLen 34 = 5 := rfl; omega) rfl ?_
            refine n_aload_n hC dX3_reads_355 rfl ?_
            refine n_dup hC dX3_reads_356 rfl ?_
            refine m_getI hC 31 (v := nI (sp + 1)) dX3_reads_357 rfl rfl (by decide) h319 ?_
            refine n_iconst hC (v := nI 1) dX3_reads_360 (by decide) ?_
            refine n_iaddN hC dX3_reads_361 rfl ?_
            refine m_putI hC 31 (M2 := mset (mset M9 34 (upd (M9 34) stk.length (nI (cur + 1)))) 31 (fun _ => nI (sp + 1 + 1))) dX3_reads_362 rfl rfl (by decide) rfl rfl rfl rfl rfl ?_
            refine n_goto hC (tgt := 27) dX3_reads_365 (by decide) ?_
            exact WN.forget (L' := [some (.ref (na 61)), some (.int (nI stk.length)), none, none]) (⟨Or.inr rfl, Or.inr rfl, Or.inl rfl, Or.inl rfl, trivial⟩) (ih27 _ (by omega) (sp + 1 + 1) (cur + 1) (fu - 1) stk ((ladd (L, b) (10 * (j - 48) + 0)).1) ((ladd (L, b) (10 * (j - 48) + 0)).2) (mset (mset M9 34 (upd (M9 34) stk.length (nI (cur + 1)))) 31 (fun _ => nI (sp + 1 + 1))) rfl (by omega) (by omega) (bufF.set (by decide) (bufF.set (by decide) hF9)) rfl (bufR.set (by decide) (bufR.set (by decide) hB9)) (stR.set (by decide) (hS9 _)) hd9 hop9 hst9 (by omega) ((rrun_r c_35 hfu hrs9).symm.trans hru))
          · skip
            refine n_aload_n hC dX3_reads_74 rfl ?_
            refine n_callV0i hC (mt_X3_next na h (mset M2 31 (fun _ => nI (sp + 1))) (sp := sp + 1) (fd := mN M 27) (v := x) rfl (by exact ((congrFun (hF.1 27 (by decide)) 0).trans h27)) (by omega) (by omega) (by rw [mset_n (by decide), hF.1 30 (by decide)]; exact hx)) md_X3_next q1411 dX3_reads_75 rfl (mPut_o _ _ _) rfl rfl ⟨rfl, rfl, by decide, by decide⟩ rfl (Nat.le_of_ble_eq_true rfl) (by decide) (by decide) (fun r16 na16 h16 hp16 => ?_)
            obtain ⟨rfl, rfl, rfl⟩ := hp16
            refine n_bipush hC (v := nI 62) dX3_reads_78 (by decide) ?_
            refine n_icmp_eq hC (tgt := 85) dX3_reads_80 (by decide) (fun c_80 => ?_) (fun c_80 => ?_)
            · skip
              subst c_80
              have hsp1 := txt_in hx (by decide)
              refine n_aload_n hC dX3_reads_85 rfl ?_
              refine n_bipush hC (v := nI 10) dX3_reads_86 (by decide) ?_
              refine n_iload_n hC dX3_reads_88 rfl ?_
              refine n_bipush hC (v := nI 48) dX3_reads_89 (by decide) ?_
              refine n_isubN hC dX3_reads_91 (by omega) rfl ?_
              refine n_imulN hC dX3_reads_92 rfl ?_
              refine n_aload_n hC dX3_reads_93 rfl ?_
              refine n_callV0i hC (mt_X3_next na h (mset M2 31 (fun _ => nI (sp + 1))) (sp := sp + 1) (fd := mN M 27) (v := nI 62) rfl (by exact ((congrFun (hF.1 27 (by decide)) 0).trans h27)) (by omega) (by omega) (by rw [mset_n (by decide), hF.1 30 (by decide)]; exact hx)) md_X3_next q1411 dX3_reads_94 rfl (mPut_o _ _ _) rfl rfl ⟨rfl, rfl, by decide, by decide⟩ rfl (Nat.le_of_ble_eq_true rfl) (by decide) (by decide) (fun r17 na17 h17 hp17 => ?_)
              obtain ⟨rfl, rfl, rfl⟩ := hp17
              refine n_bipush hC (v := nI 60) dX3_reads_97 (by decide) ?_
              refine n_icmp_neN hC (tgt := 106) dX3_reads_99 (by decide) (by omega) (by omega) (fun c_99 => ?_) (fun c_99 => absurd c_99 (by decide))
              refine n_iconst hC (v := nI 1) dX3_reads_106 (by decide) ?_
              refine n_iaddN hC dX3_reads_107 rfl ?_
              refine n_callV1v hC (mt_X3_add na h (mset M2 31 (fun _ => nI (sp + 1))) (L := L) (b := b) (bufR.set (by decide) hB) (10 * (j - 48) + 1)) md_X3_add q1415 dX3_reads_108 rfl (mPut_o _ _ _) rfl rfl ⟨rfl, rfl, by decide, by decide⟩ rfl (Nat.le_of_ble_eq_true rfl) (by decide) (by decide) (fun na18 h18 hp18 => ?_)
              obtain ⟨rfl, M4, rfl, hF4, hB4⟩ := hp18
              refine n_goto hC (tgt := 345) dX3_reads_111 (by decide) ?_
              obtain ⟨M9, eM9⟩ : ∃ z, z = M4 := ⟨_, rfl⟩
              have hF9 : bufF [28, 29, 31, 32, 33, 34] M M9 := by rw [eM9]; exact bufF.trans (bufF.set (by decide) hF) (hF4.wk (by decide))
              have hB9 : bufR M9 ((ladd (L, b) (10 * (j - 48) + 1)).1) ((ladd (L, b) (10 * (j - 48) + 1)).2) := by rw [eM9]; exact hB4
              have hS9 : ∀ c2, stR (mset M9 34 (upd (M9 34) stk.length (nI c2))) stk c2 := by rw [eM9]; exact stR.new2 ((stR.set (j := 31) (f := fun _ => nI (sp + 1)) (by decide) hS).fr (fun i _ => congrFun (hF4.1 34 (by decide)) i) (fun i _ => congrFun (hF4.1 33 (by decide)) i))
              have h349 : M9 34 stk.length = nI cur := by rw [eM9]; exact ((stR.set (j := 31) (f := fun _ => nI (sp + 1)) (by decide) hS).fr (fun i _ => congrFun (hF4.1 34 (by decide)) i) (fun i _ => congrFun (hF4.1 33 (by decide)) i)).top
              have h319 : M9 31 0 = nI (sp + 1) := by rw [eM9]; exact ((congrFun (hF4.1 31 (by decide)) 0).trans rfl)
              have hst9 : ∀ t ∈ (ladd (L, b) (10 * (j - 48) + 1)).1, stp t := ladd_stp (by unfold stp; omega) hst
              have hd9 : stk.length ≤ 4 := hd
              have hop9 : ∀ e ∈ stk, e.1 + 1 ≤ sp + 1 + 1 ∧ e.2 ≤ ((ladd (L, b) (10 * (j - 48) + 1)).1).length := fun e he => ⟨by have := (hop e he).1; omega, Nat.le_trans (hop e he).2 (ladd_len (L, b) _)⟩
              have hrs9 : rst (txt M) (mN M 26) (mFs M) sp cur stk L b = .inr (sp + 1 + 1, cur + 1, stk, (ladd (L, b) (10 * (j - 48) + 1)).1, (ladd (L, b) (10 * (j - 48) + 1)).2) := by unfold rst; rw [hc, hx, if_pos c_52, if_neg (by decide), nI_clamp (by omega), if_neg (by decide)]
              rw [← eM9]
              refine n_aload_n hC dX3_reads_345 rfl ?_
              refine m_getA hC 34 dX3_reads_346 rfl rfl ?_
              refine n_iload_n hC dX3_reads_349 rfl ?_
              refine n_dup2 hC dX3_reads_350 rfl rfl ?_
              refine m_aldN hC 34 (v := nI cur) dX3_reads_351 rfl rfl (by have h9 : mLen 34 = 5 := rfl; omega) h349 ?_
              refine n_iconst hC (v := nI 1) dX3_reads_352 (by decide) ?_
              refine n_iaddN hC dX3_reads_353 rfl ?_
              refine m_astN hC 34 (M2 := mset M9 34 (upd (M9 34) stk.length (nI (cur + 1)))) dX3_reads_354 rfl rfl (by have h9 : mLen 34 = 5 := rfl; omega) rfl ?_
              refine n_aload_n hC dX3_reads_355 rfl ?_
              refine n_dup hC dX3_reads_356 rfl ?_
              refine m_getI hC 31 (v := nI (sp + 1)) dX3_reads_357 rfl rfl (by decide) h319 ?_
              refine n_iconst hC (v := nI 1) dX3_reads_360 (by decide) ?_
              refine n_iaddN hC dX3_reads_361 rfl ?_
              refine m_putI hC 31 (M2 := mset (mset M9 34 (upd (M9 34) stk.length (nI (cur + 1)))) 31 (fun _ => nI (sp + 1 + 1))) dX3_reads_362 rfl rfl (by decide) rfl rfl rfl rfl rfl ?_
              refine n_goto hC (tgt := 27) dX3_reads_365 (by decide) ?_
              exact WN.forget (L' := [some (.ref (na 61)), some (.int (nI stk.length)), none, none]) (⟨Or.inr rfl, Or.inr rfl, Or.inl rfl, Or.inl rfl, trivial⟩) (ih27 _ (by omega) (sp + 1 + 1) (cur + 1) (fu - 1) stk ((ladd (L, b) (10 * (j - 48) + 1)).1) ((ladd (L, b) (10 * (j - 48) + 1)).2) (mset (mset M9 34 (upd (M9 34) stk.length (nI (cur + 1)))) 31 (fun _ => nI (sp + 1 + 1))) rfl (by omega) (by omega) (bufF.set (by decide) (bufF.set (by decide) hF9)) rfl (bufR.set (by decide) (bufR.set (by decide) hB9)) (stR.set (by decide) (hS9 _)) hd9 hop9 hst9 (by omega) ((rrun_r c_35 hfu hrs9).symm.trans hru))
            · skip
              refine n_iconst hC (v := nI 0) dX3_reads_83 (by decide) ?_
              exact n_zret hC dX3_reads_84 rfl (by decide) (by decide) (⟨rfl, _, rfl, rdP_n (bufF.set (by decide) hF) rfl (by rw [← hru]; exact (rrun_l c_35 hfu (by unfold rst; rw [hc, hx, if_pos c_52, if_pos ⟨c_71, c_80⟩])).symm)⟩)
  exact WN.forget (L' := [some (.ref (na 61)), some (.int (nI (([] : List (Nat × Nat)).length))), none, none]) (⟨Or.inr rfl, Or.inr rfl, Or.inl rfl, Or.inl rfl, trivial⟩) (lp27 _ 0 0 (mN M 27) ([]) ([]) false (mset (mset (mset (mset M 31 (fun _ => nI 0)) 28 (upd (M 28) 10 (nI 0))) 32 (fun _ => nI 0)) 34 (upd (M 34) 0 (nI 0))) rfl (by omega) (by omega) (bufF.set (by decide) (bufF.set (by decide) (bufF.a28 (by decide) (bufF.set (by decide) bufF.rf)))) rfl (⟨rfl, by decide, rfl, fun k hk => absurd hk (Nat.not_lt_zero k)⟩) rfl (by decide) (fun e he => absurd he List.not_mem_nil) (fun e he => absurd he List.not_mem_nil) (by omega) rfl)

theorem bufF.eq {S : List Nat} (hS : ∀ k ∈ S, k ∈ mScr ∨ k = 28 ∨ k = 29) {M M2 : nMem} (h : bufF S M M2) : mEq M2 M :=
  mEq.mk3 (fun k a b c => h.1 k fun z => (hS k z).elim a fun z => z.elim b c) (fun i hi => h.2.1 i hi) (fun i hi => h.2.2 i hi)
theorem mEq.set {M M2 : nMem} {k : Nat} {f : Nat → Int32} (h : mEq M M2) : mEq (mset M k f) (mset M2 k f) :=
  ⟨fun j a b c d => by unfold mset; split; rfl; exact h.1 j a b c d, fun j a => by unfold mset; split; rfl; exact h.2.1 j a,
    fun i hi => by unfold mset; split; rfl; exact h.2.2.1 i hi, fun i hi => by unfold mset; split; rfl; exact h.2.2.2 i hi⟩
set_option maxHeartbeats 4000000 in
set_option maxRecDepth 100000 in
theorem mt_X3_figure (na : nA) (h : nH) (M : nMem) (hI : mInv M) : nM yX3_figure cX3_figure 3 (some .int) (nRm 5 0 0) [.ref (na 61)] na (mPut na h M) (nQi (mOp na h (o_figure M))) 0 0 := by
  refine nM.ofN RX3 rfl (by decide) (by intro v hv; simp only [List.mem_cons, List.not_mem_nil, or_false] at hv; subst hv; rfl) (Nat.le_of_ble_eq_true rfl) (fun K hC hnm => ?_)
  show WN K na (mPut na h M) 0 0 (nE K (nQi (mOp na h (o_figure M))) 0 0) 0 [some (.ref (na 61)), none, none] []
  let Q9 : State → Prop := nE K (nQi (mOp na h (o_figure M))) 0 0
  show WN K na (mPut na h M) 0 0 Q9 0 [some (.ref (na 61)), none, none] []
  have hI9 := hI
  obtain ⟨⟨h0, b0⟩, ⟨h1, b1a, b1⟩, ⟨h11, b11⟩, ⟨h14, b14⟩, ⟨h15, b15, b15n⟩, ⟨h20, b20⟩, ⟨h26, b26⟩, ⟨h27, b27⟩, ⟨h55, b55⟩, iP, iH, iHi, iHd, iC, iT, iF, iG, iS, iZ⟩ := hI
  refine n_aload_n hC dX3_figure_0 rfl ?_
  refine m_getI hC 26 (v := nI (mN M 26)) dX3_figure_1 rfl rfl (by decide) h26 ?_
  refine n_bipush hC (v := nI 10) dX3_figure_4 (by decide) ?_
  refine n_icmp_neN hC (tgt := 12) dX3_figure_6 (by decide) (by omega) (by omega) (fun c_6 => ?_) (fun c_6 => ?_)
  · skip
    refine n_aload_n hC dX3_figure_12 rfl ?_
    refine n_callV0z hC (mt_X3_reads na h M hI9) md_X3_reads q1407 dX3_figure_13 rfl (mPut_o _ _ _) rfl rfl ⟨rfl, rfl, by decide, by decide⟩ rfl (Nat.le_of_ble_eq_true rfl) (by decide) (by decide) (fun r0 na0 h0 hp0 => ?_)
    obtain ⟨rfl, M2, rfl, hR⟩ := hp0
    rcases hR9 : mRd M with ⟨sp, _ | ⟨L, _ | _⟩⟩ <;> rw [hR9] at hR
    · skip
      obtain ⟨hF, h31, hr⟩ := hR
      have hr : r0 = nI 0 := hr
      subst hr
      have hsp9 : sp < 2 ^ 20 := by have := rrun_sp (tx := txt M) (fd := mN M 27) (fg := mN M 26) (fs := mFs M) (k := mN M 27) (s := (0, 0, [], [], false)) (B := 0) (Nat.le_refl _) (by omega); rw [show rrun _ _ _ _ _ _ = mRd M from rfl, hR9] at this; exact this
      refine n_istore_n hC dX3_figure_16 (Nat.le_of_ble_eq_true rfl) ?_
      refine n_aload_n hC dX3_figure_17 rfl ?_
      refine n_iconst hC (v := nI 0) dX3_figure_18 (by decide) ?_
      refine m_putI hC 27 (M2 := mset M2 27 (fun _ => nI 0)) dX3_figure_19 rfl rfl (by decide) rfl rfl rfl rfl rfl ?_
      refine n_iload_n hC dX3_figure_22 rfl ?_
      refine n_if_neN hC (tgt := 34) dX3_figure_23 (by decide) (by omega) (fun c_23 => absurd c_23 (by decide)) (fun c_23 => ?_)
      refine n_bipush hC (v := (-10)) dX3_figure_26 (by decide) ?_
      refine n_aload_n hC dX3_figure_28 rfl ?_
      refine m_getI hC 31 (v := nI sp) dX3_figure_29 rfl rfl (by decide) h31 ?_
      refine n_isub hC dX3_figure_32 ?_
      exact n_iret hC dX3_figure_33 (by decide) (by decide) (⟨rfl, by unfold o_figure; rw [if_neg c_6, hR9], _, rfl, by unfold o_figure; rw [if_neg c_6, hR9]; exact (hF.eq (by decide)).set⟩)
    · skip
      obtain ⟨hF, h31, hr, hB, hst⟩ := hR
      have hr : r0 = nI 1 := hr
      subst hr
      dsimp only at hB hst
      have hl3 := hB.2.1
      refine n_istore_n hC dX3_figure_16 (Nat.le_of_ble_eq_true rfl) ?_
      refine n_aload_n hC dX3_figure_17 rfl ?_
      refine n_iconst hC (v := nI 0) dX3_figure_18 (by decide) ?_
      refine m_putI hC 27 (M2 := mset M2 27 (fun _ => nI 0)) dX3_figure_19 rfl rfl (by decide) rfl rfl rfl rfl rfl ?_
      refine n_iload_n hC dX3_figure_22 rfl ?_
      refine n_if_neN hC (tgt := 34) dX3_figure_23 (by decide) (by omega) (fun c_23 => ?_) (fun c_23 => absurd c_23 (by decide))
      refine n_aload_n hC dX3_figure_34 rfl ?_
      refine m_getI hC 32 (v := nbo false) dX3_figure_35 rfl rfl (by decide) hB.2.2.1 ?_
      refine n_if_eqB hC (tgt := 44) dX3_figure_38 (by decide) (fun c_38 => ?_) (fun c_38 => absurd c_38 (by decide))
      refine n_aload_n hC dX3_figure_44 rfl ?_
      refine m_getA hC 28 dX3_figure_45 rfl rfl ?_
      refine n_aload_n hC dX3_figure_48 rfl ?_
      refine m_getI hC 26 (v := nI (mN M 26)) dX3_figure_49 rfl rfl (by decide) ((congrFun (hF.1 26 (by decide)) 0).trans h26) ?_
      refine n_aload_n hC dX3_figure_52 rfl ?_
      refine m_getA hC 28 dX3_figure_53 rfl rfl ?_
      refine n_bipush hC (v := nI 10) dX3_figure_56 (by decide) ?_
      refine m_aldN hC 28 (v := nI L.length) dX3_figure_58 rfl rfl (by have h9 : mLen 28 = 11 := rfl; omega) hB.1 ?_
      refine m_astN hC 28 (M2 := mset (mset M2 27 (fun _ => nI 0)) 28 (upd (M2 28) (mN M 26) (nI L.length))) dX3_figure_59 rfl rfl (by have h9 : mLen 28 = 11 := rfl; omega) rfl ?_
      refine n_iconst hC (v := nI 0) dX3_figure_60 (by decide) ?_
      refine n_istore_n hC dX3_figure_61 (Nat.le_of_ble_eq_true rfl) ?_
      have lp62 : ∀ d9 : Nat, ∀ (k : Nat) (M3 : nMem), L.length - k = d9 → (k ≤ L.length) → (mFr [29] (mset (mset M2 27 (fun _ => nI 0)) 28 (upd (M2 28) (mN M 26) (nI L.length))) M3) → (M3 29 = blk (M2 29) (300 * mN M 26) k (fun k => nI (L.getD k 0))) → WN K na (mPut na h M3) 0 0 Q9 62 [some (.ref (na 61)), some (.int (nI 1)), some (.int (nI k))] [] := by
        intro d9
        induction d9 using Nat.strongRecOn with
        | _ d9 ih62 =>
          intro k M3 hd62 hk hF3 w29
          refine n_iload_n hC dX3_figure_62 rfl ?_
          refine n_aload_n hC dX3_figure_63 rfl ?_
          refine m_getA hC 28 dX3_figure_64 rfl rfl ?_
          refine n_bipush hC (v := nI 10) dX3_figure_67 (by decide) ?_
          refine m_aldN hC 28 (v := nI L.length) dX3_figure_69 rfl rfl (by have h9 : mLen 28 = 11 := rfl; omega) ((congrFun (hF3 28 (by decide)) 10).trans (by rw [mset_s]; unfold upd; rw [if_neg (by omega)]; exact hB.1)) ?_
          refine n_icmp_geN hC (tgt := 104) dX3_figure_70 (by decide) (by omega) (by omega) (fun c_70 => ?_) (fun c_70 => ?_)
          · skip
            have hk9 : k = L.length := by omega
            subst hk9
            refine n_aload_n hC dX3_figure_104 rfl ?_
            refine n_dup hC dX3_figure_105 rfl ?_
            refine m_getI hC 26 (v := nI (mN M 26)) dX3_figure_106 rfl rfl (by decide) ((congrFun (hF3 26 (by decide)) 0).trans ((congrFun (hF.1 26 (by decide)) 0).trans h26)) ?_
            refine n_iconst hC (v := nI 1) dX3_figure_109 (by decide) ?_
            refine n_iaddN hC dX3_figure_110 rfl ?_
            refine m_putI hC 26 (M2 := mset M3 26 (fun _ => nI (mN M 26 + 1))) dX3_figure_111 rfl rfl (by decide) rfl rfl rfl rfl rfl ?_
            refine n_aload_n hC dX3_figure_114 rfl ?_
            refine m_getI hC 26 (v := nI (mN M 26 + 1)) dX3_figure_115 rfl rfl (by decide) rfl ?_
            refine n_iconst hC (v := nI 1) dX3_figure_118 (by decide) ?_
            refine n_isubN hC dX3_figure_119 (by omega) rfl ?_
            rw [show nI ((mN M 26 + 1) - 1) = nI (mN M 26) from rfl]
            exact n_iret hC dX3_figure_120 (by decide) (by decide) (by
    refine ⟨rfl, by unfold o_figure; rw [if_neg c_6, hR9], _, rfl, ?_⟩
    unfold o_figure
    rw [if_neg c_6, hR9]
    dsimp only
    have e0 : ∀ k, k ∉ mScr → k ≠ 28 → k ≠ 29 → mset M3 26 (fun _ => nI (mN M 26 + 1)) k = mset (mset (mset (mset M 27 (fun _ => nI 0)) 28 (upd (M 28) (mN M 26) (nI L.length))) 29 (blk (M 29) (300 * mN M 26) L.length (fun k => nI (L.getD k 0)))) 26 (fun _ => nI (mN M 26 + 1)) k := fun k a b c => by
      by_cases e26 : k = 26
      · subst e26; rw [mset_s, mset_s]
      · rw [mset_n e26, mset_n e26, mset_n c, mset_n b, hF3 k (by simp [c]), mset_n b]
        by_cases e27 : k = 27
        · subst e27; rw [mset_s, mset_s]
        · rw [mset_n e27, mset_n e27]
          exact hF.1 k fun z => by revert z a b c; simp [mScr]; omega
    refine mEq.mk3 e0 (fun i hi => ?_) (fun i hi => ?_)
    · rw [mset_n (by decide), mset_n (by decide), mset_n (by decide), mset_s, hF3 28 (by decide), mset_s]
      unfold upd
      split
      · rfl
      · exact hF.2.1 i hi
    · rw [mset_n (by decide), mset_n (by decide), mset_s, w29]
      unfold blk
      split
      · rfl
      · exact hF.2.2 i hi)
          · skip
            refine n_aload_n hC dX3_figure_73 rfl ?_
            refine m_getA hC 29 dX3_figure_74 rfl rfl ?_
            refine n_sipush hC (v := nI 300) dX3_figure_77 (by decide) ?_
            refine n_aload_n hC dX3_figure_80 rfl ?_
            refine m_getI hC 26 (v := nI (mN M 26)) dX3_figure_81 rfl rfl (by decide) ((congrFun (hF3 26 (by decide)) 0).trans ((congrFun (hF.1 26 (by decide)) 0).trans h26)) ?_
            refine n_imulN hC dX3_figure_84 rfl ?_
            refine n_iload_n hC dX3_figure_85 rfl ?_
            refine n_iaddN hC dX3_figure_86 rfl ?_
            refine n_aload_n hC dX3_figure_87 rfl ?_
            refine m_getA hC 29 dX3_figure_88 rfl rfl ?_
            refine n_sipush hC (v := nI 3000) dX3_figure_91 (by decide) ?_
            refine n_iload_n hC dX3_figure_94 rfl ?_
            refine n_iaddN hC dX3_figure_95 rfl ?_
            refine m_aldN hC 29 (v := nI (L.getD k 0)) dX3_figure_96 rfl rfl (by have h9 : mLen 29 = 3300 := rfl; omega) (by rw [w29]; unfold blk; rw [if_neg (by omega)]; exact hB.2.2.2 k (by omega)) ?_
            refine m_astN hC 29 (M2 := mset M3 29 (upd (M3 29) (300 * (mN M 26) + k) (nI (L.getD k 0)))) dX3_figure_97 rfl rfl (by have h9 : mLen 29 = 3300 := rfl; omega) rfl ?_
            refine n_iincN hC dX3_figure_98 (j := 1) (c := k + 1) rfl (by decide) rfl ?_
            refine n_goto hC (tgt := 62) dX3_figure_101 (by decide) ?_
            exact WN.forget (L' := [some (.ref (na 61)), some (.int (nI 1)), some (.int (nI (k + 1)))]) (⟨Or.inr rfl, Or.inr rfl, Or.inr rfl, trivial⟩) (ih62 _ (by omega) (k + 1) (mset M3 29 (upd (M3 29) (300 * (mN M 26) + k) (nI (L.getD k 0)))) rfl (by omega) (mFr.set (by decide) hF3) (by show upd (M3 29) _ _ = _; rw [w29]; exact blk_u rfl))
      exact WN.forget (L' := [some (.ref (na 61)), some (.int (nI 1)), some (.int (nI 0))]) (⟨Or.inr rfl, Or.inr rfl, Or.inr rfl, trivial⟩) (lp62 _ 0 (mset (mset M2 27 (fun _ => nI 0)) 28 (upd (M2 28) (mN M 26) (nI L.length))) rfl (by omega) mFr.rf (by rw [blk_0]; rfl))
    · skip
      obtain ⟨hF, h31, hr, hB, hst⟩ := hR
      have hr : r0 = nI 1 := hr
      subst hr
      refine n_istore_n hC dX3_figure_16 (Nat.le_of_ble_eq_true rfl) ?_
      refine n_aload_n hC dX3_figure_17 rfl ?_
      refine n_iconst hC (v := nI 0) dX3_figure_18 (by decide) ?_
      refine m_putI hC 27 (M2 := mset M2 27 (fun _ => nI 0)) dX3_figure_19 rfl rfl (by decide) rfl rfl rfl rfl rfl ?_
      refine n_iload_n hC dX3_figure_22 rfl ?_
      refine n_if_neN hC (tgt := 34) dX3_figure_23 (by decide) (by omega) (fun c_23 => ?_) (fun c_23 => absurd c_23 (by decide))
      refine n_aload_n hC dX3_figure_34 rfl ?_
      refine m_getI hC 32 (v := nbo true) dX3_figure_35 rfl rfl (by decide) hB.2.2.1 ?_
      refine n_if_eqB hC (tgt := 44) dX3_figure_38 (by decide) (fun c_38 => absurd c_38 (by decide)) (fun c_38 => ?_)
      refine n_bipush hC (v := (-2)) dX3_figure_41 (by decide) ?_
      exact n_iret hC dX3_figure_43 (by decide) (by decide) (⟨rfl, by unfold o_figure; rw [if_neg c_6, hR9], _, rfl, by unfold o_figure; rw [if_neg c_6, hR9]; exact (hF.eq (by decide)).set⟩)
  · skip
    refine n_bipush hC (v := (-4)) dX3_figure_9 (by decide) ?_
    exact n_iret hC dX3_figure_11 (by decide) (by decide) (⟨rfl, by unfold o_figure; rw [if_pos c_6], M, rfl, mEq.of (by unfold o_figure; rw [if_pos c_6])⟩)

