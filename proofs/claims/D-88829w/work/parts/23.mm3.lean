/-! ===== THE REFERENCE's methods: steps and the cloth ===== -/
set_option maxRecDepth 100000
set_option maxHeartbeats 4000000 in
set_option maxRecDepth 100000 in
theorem mt_X3_turn (na : nA) (h : nH) (M : nMem) {k n how : Nat} (hk : mIsA k = true) (hn : M 1 0 = nI n) (h9 : 1 ≤ n) (h99 : n ≤ mLen k) (h999 : how < 2 ^ 31) : nM yX3_turn cX3_turn 5 (none) (nRm 0 0 0) [.ref (na 61), .ref (na k), .int (nI how)] na (mPut na h M) (nQv (mRelV na h (fun M2 => M2 = mset M k (tur how n (M k))))) 0 0 := by
  refine nM.ofN RX3 rfl (by decide) (by intro v hv; simp only [List.mem_cons, List.not_mem_nil, or_false] at hv; rcases hv with rfl | rfl | rfl <;> rfl) (Nat.le_of_ble_eq_true rfl) (fun K hC hnm => ?_)
  show WN K na (mPut na h M) 0 0 (nE K (nQv (mRelV na h (fun M2 => M2 = mset M k (tur how n (M k))))) 0 0) 0 [some (.ref (na 61)), some (.ref (na k)), some (.int (nI how)), none, none] []
  let Q9 : State → Prop := nE K (nQv (mRelV na h (fun M2 => M2 = mset M k (tur how n (M k))))) 0 0
  show WN K na (mPut na h M) 0 0 Q9 0 [some (.ref (na 61)), some (.ref (na k)), some (.int (nI how)), none, none] []
  have hl := mLen_le k
  have nk_1 : 1 ≠ k := fun e => by subst e; cases hk
  refine n_iload_n hC dX3_turn_0 rfl ?_
  refine n_if_neN hC (tgt := 49) dX3_turn_1 (by decide) (by omega) (fun c_1 => ?_) (fun c_1 => ?_)
  · skip
    refine n_aload_n hC dX3_turn_49 rfl ?_
    refine n_iconst hC (v := nI 0) dX3_turn_50 (by decide) ?_
    refine m_aldN hC k (v := (M k) 0) dX3_turn_51 rfl hk (by omega) rfl ?_
    refine n_istore_n hC dX3_turn_52 (Nat.le_of_ble_eq_true rfl) ?_
    refine n_iconst hC (v := nI 0) dX3_turn_53 (by decide) ?_
    refine n_istore hC dX3_turn_54 (Nat.le_of_ble_eq_true rfl) ?_
    have lp56 : ∀ d9 : Nat, ∀ (p : Nat) (f : Nat → Int32), n - p = d9 → (p ≤ n - 1) → (∀ q, f q = if q < p then M k (q + 1) else M k q) → WN K na (mPut na h (mset M k f)) 0 0 Q9 56 [some (.ref (na 61)), some (.ref (na k)), some (.int (nI how)), some (.int ((M k) 0)), some (.int (nI p))] [] := by
      intro d9
      induction d9 using Nat.strongRecOn with
      | _ d9 ih56 =>
        intro p f hd56 hp hf
        refine n_iload hC dX3_turn_56 rfl ?_
        refine n_aload_n hC dX3_turn_58 rfl ?_
        refine m_getI hC 1 (v := nI n) dX3_turn_59 rfl rfl (by decide) ((congrFun (mset_n (nk_1)) 0).trans hn) ?_
        refine n_iconst hC (v := nI 1) dX3_turn_62 (by decide) ?_
        refine n_isubN hC dX3_turn_63 (by omega) rfl ?_
        refine n_icmp_geN hC (tgt := 83) dX3_turn_64 (by decide) (by omega) (by omega) (fun c_64 => ?_) (fun c_64 => ?_)
        · skip
          refine n_aload_n hC dX3_turn_83 rfl ?_
          refine n_aload_n hC dX3_turn_84 rfl ?_
          refine m_getI hC 1 (v := nI n) dX3_turn_85 rfl rfl (by decide) ((congrFun (mset_n (nk_1)) 0).trans hn) ?_
          refine n_iconst hC (v := nI 1) dX3_turn_88 (by decide) ?_
          refine n_isubN hC dX3_turn_89 (by omega) rfl ?_
          refine n_iload_n hC dX3_turn_90 rfl ?_
          refine m_astN hC k (M2 := mset M k (upd f (n - 1) ((M k) 0))) dX3_turn_91 rfl hk (by omega) (by rw [mset_s, mset_ss]) ?_
          exact n_vret hC dX3_turn_92 (by decide) (by decide) (⟨rfl, _, rfl, by
    apply congrArg (mset M k)
    funext q
    unfold upd tur
    by_cases e : q = n - 1
    · rw [if_pos e, if_pos (by omega), if_neg c_1, e, show n - 1 + 1 = n by omega, Nat.mod_self]
    · rw [if_neg e, hf]
      by_cases l : q < n
      · rw [if_pos (by omega), if_pos l, if_neg c_1, Nat.mod_eq_of_lt (by omega)]
      · rw [if_neg (by omega), if_neg l]⟩)
        · skip
          refine n_aload_n hC dX3_turn_67 rfl ?_
          refine n_iload hC dX3_turn_68 rfl ?_
          refine n_aload_n hC dX3_turn_70 rfl ?_
          refine n_iload hC dX3_turn_71 rfl ?_
          refine n_iconst hC (v := nI 1) dX3_turn_73 (by decide) ?_
          refine n_iaddN hC dX3_turn_74 rfl ?_
          refine m_aldN hC k (v := f (p + 1)) dX3_turn_75 rfl hk (by omega) (by rw [mset_s]) ?_
          refine m_astN hC k (M2 := mset M k (upd f p (f (p + 1)))) dX3_turn_76 rfl hk (by omega) (by rw [mset_s, mset_ss]) ?_
          refine n_iincN hC dX3_turn_77 (j := 1) (c := p + 1) rfl (by decide) rfl ?_
          refine n_goto hC (tgt := 56) dX3_turn_80 (by decide) ?_
          exact WN.forget (L' := [some (.ref (na 61)), some (.ref (na k)), some (.int (nI how)), some (.int ((M k) 0)), some (.int (nI (p + 1)))]) (⟨Or.inr rfl, Or.inr rfl, Or.inr rfl, Or.inr rfl, Or.inr rfl, trivial⟩) (ih56 _ (by omega) (p + 1) (upd f p (f (p + 1))) rfl (by omega) (fun q => by unfold upd; by_cases e : q = p; rw [if_pos e, hf, if_neg (by omega), if_pos (by omega), e]; rw [if_neg e, hf]; exact nif (by omega)))
    rw [show mPut na h M = mPut na h (mset M k (M k)) by rw [mset_id]]
    exact WN.forget (L' := [some (.ref (na 61)), some (.ref (na k)), some (.int (nI how)), some (.int ((M k) 0)), some (.int (nI 0))]) (⟨Or.inr rfl, Or.inr rfl, Or.inr rfl, Or.inr rfl, Or.inr rfl, trivial⟩) (lp56 _ 0 (M k) rfl (by omega) (fun q => by rw [if_neg (by omega)]))
  · skip
    refine n_aload_n hC dX3_turn_4 rfl ?_
    refine n_aload_n hC dX3_turn_5 rfl ?_
    refine m_getI hC 1 (v := nI n) dX3_turn_6 rfl rfl (by decide) hn ?_
    refine n_iconst hC (v := nI 1) dX3_turn_9 (by decide) ?_
    refine n_isubN hC dX3_turn_10 (by omega) rfl ?_
    refine m_aldN hC k (v := (M k) (n - 1)) dX3_turn_11 rfl hk (by omega) rfl ?_
    refine n_istore_n hC dX3_turn_12 (Nat.le_of_ble_eq_true rfl) ?_
    refine n_aload_n hC dX3_turn_13 rfl ?_
    refine m_getI hC 1 (v := nI n) dX3_turn_14 rfl rfl (by decide) hn ?_
    refine n_iconst hC (v := nI 1) dX3_turn_17 (by decide) ?_
    refine n_isubN hC dX3_turn_18 (by omega) rfl ?_
    refine n_istore hC dX3_turn_19 (Nat.le_of_ble_eq_true rfl) ?_
    have lp21 : ∀ d9 : Nat, ∀ (p : Nat) (f : Nat → Int32), p = d9 → (p ≤ n - 1) → (∀ q, f q = if p < q ∧ q < n then M k (q - 1) else M k q) → WN K na (mPut na h (mset M k f)) 0 0 Q9 21 [some (.ref (na 61)), some (.ref (na k)), some (.int (nI how)), some (.int ((M k) (n - 1))), some (.int (nI p))] [] := by
      intro d9
      induction d9 using Nat.strongRecOn with
      | _ d9 ih21 =>
        intro p f hd21 hp hf
        refine n_iload hC dX3_turn_21 rfl ?_
        refine n_if_leN hC (tgt := 42) dX3_turn_23 (by decide) (by omega) (fun c_23 => ?_) (fun c_23 => ?_)
        · skip
          refine n_aload_n hC dX3_turn_42 rfl ?_
          refine n_iconst hC (v := nI 0) dX3_turn_43 (by decide) ?_
          refine n_iload_n hC dX3_turn_44 rfl ?_
          refine m_astN hC k (M2 := mset M k (upd f 0 ((M k) (n - 1)))) dX3_turn_45 rfl hk (by omega) (by rw [mset_s, mset_ss]) ?_
          refine n_goto hC (tgt := 92) dX3_turn_46 (by decide) ?_
          exact n_vret hC dX3_turn_92 (by decide) (by decide) (⟨rfl, _, rfl, by
    apply congrArg (mset M k)
    funext q
    unfold upd tur
    by_cases e : q = 0
    · rw [if_pos e, if_pos (by omega), if_pos c_1, e, Nat.zero_add, Nat.mod_eq_of_lt (by omega)]
    · rw [if_neg e, hf]
      by_cases l : q < n
      · rw [if_pos (by omega), if_pos l, if_pos c_1, show q + (n - 1) = (q - 1) + n by omega, Nat.add_mod_right, Nat.mod_eq_of_lt (by omega)]
      · rw [if_neg (by omega), if_neg l]⟩)
        · skip
          refine n_aload_n hC dX3_turn_26 rfl ?_
          refine n_iload hC dX3_turn_27 rfl ?_
          refine n_aload_n hC dX3_turn_29 rfl ?_
          refine n_iload hC dX3_turn_30 rfl ?_
          refine n_iconst hC (v := nI 1) dX3_turn_32 (by decide) ?_
          refine n_isubN hC dX3_turn_33 (by omega) rfl ?_
          refine m_aldN hC k (v := f (p - 1)) dX3_turn_34 rfl hk (by omega) (by rw [mset_s]) ?_
          refine m_astN hC k (M2 := mset M k (upd f p (f (p - 1)))) dX3_turn_35 rfl hk (by omega) (by rw [mset_s, mset_ss]) ?_
          refine n_idecN hC dX3_turn_36 rfl (by omega) rfl ?_
          refine n_goto hC (tgt := 21) dX3_turn_39 (by decide) ?_
          exact WN.forget (L' := [some (.ref (na 61)), some (.ref (na k)), some (.int (nI how)), some (.int ((M k) (n - 1))), some (.int (nI (p - 1)))]) (⟨Or.inr rfl, Or.inr rfl, Or.inr rfl, Or.inr rfl, Or.inr rfl, trivial⟩) (ih21 _ (by omega) (p - 1) (upd f p (f (p - 1))) rfl (by omega) (fun q => by unfold upd; by_cases e : q = p; rw [if_pos e, hf, if_neg (by omega), if_pos (by omega), e]; rw [if_neg e, hf]; exact nif (by omega)))
    rw [show mPut na h M = mPut na h (mset M k (M k)) by rw [mset_id]]
    exact WN.forget (L' := [some (.ref (na 61)), some (.ref (na k)), some (.int (nI how)), some (.int ((M k) (n - 1))), some (.int (nI (n - 1)))]) (⟨Or.inr rfl, Or.inr rfl, Or.inr rfl, Or.inr rfl, Or.inr rfl, trivial⟩) (lp21 _ (n - 1) (M k) rfl (by omega) (fun q => by rw [if_neg (by omega)]))

set_option maxHeartbeats 4000000 in
set_option maxRecDepth 100000 in
theorem mt_X3_girth (na : nA) (h : nH) (M : nMem) {r : Nat} (hr : M 15 0 = nI r) (hr9 : r ≤ 100) : nM yX3_girth cX3_girth 1 (some .int) (nRm 0 0 0) [.ref (na 61)] na (mPut na h M) (nQi (mPure na h M (nI (10 + r / 3)))) 0 0 := by
  refine nM.ofN RX3 rfl (by decide) (by intro v hv; simp only [List.mem_cons, List.not_mem_nil, or_false] at hv; subst hv; rfl) (Nat.le_of_ble_eq_true rfl) (fun K hC hnm => ?_)
  show WN K na (mPut na h M) 0 0 (nE K (nQi (mPure na h M (nI (10 + r / 3)))) 0 0) 0 [some (.ref (na 61))] []
  let Q9 : State → Prop := nE K (nQi (mPure na h M (nI (10 + r / 3)))) 0 0
  show WN K na (mPut na h M) 0 0 Q9 0 [some (.ref (na 61))] []
  refine n_bipush hC (v := nI 10) dX3_girth_0 (by decide) ?_
  refine n_aload_n hC dX3_girth_2 rfl ?_
  refine m_getI hC 15 (v := nI r) dX3_girth_3 rfl rfl (by decide) hr ?_
  refine n_iconst hC (v := nI 3) dX3_girth_6 (by decide) ?_
  refine n_idivN hC dX3_girth_7 (by omega) (by omega) (by omega) rfl ?_
  refine n_iaddN hC dX3_girth_8 rfl ?_
  exact n_iret hC dX3_girth_9 (by decide) (by decide) (⟨rfl, rfl, rfl⟩)

set_option maxHeartbeats 4000000 in
set_option maxRecDepth 100000 in
theorem mt_X3_rows (na : nA) (h : nH) (M : nMem) {r : Nat} (hr : M 15 0 = nI r) : nM yX3_rows cX3_rows 1 (some .int) (nRm 0 0 0) [.ref (na 61)] na (mPut na h M) (nQi (mPure na h M (nI r))) 0 0 := by
  refine nM.ofN RX3 rfl (by decide) (by intro v hv; simp only [List.mem_cons, List.not_mem_nil, or_false] at hv; subst hv; rfl) (Nat.le_of_ble_eq_true rfl) (fun K hC hnm => ?_)
  show WN K na (mPut na h M) 0 0 (nE K (nQi (mPure na h M (nI r))) 0 0) 0 [some (.ref (na 61))] []
  let Q9 : State → Prop := nE K (nQi (mPure na h M (nI r))) 0 0
  show WN K na (mPut na h M) 0 0 Q9 0 [some (.ref (na 61))] []
  refine n_aload_n hC dX3_rows_0 rfl ?_
  refine m_getI hC 15 (v := nI r) dX3_rows_1 rfl rfl (by decide) hr ?_
  exact n_iret hC dX3_rows_4 (by decide) (by decide) (⟨rfl, rfl, rfl⟩)

def o_step (i : Int32) (M : nMem) : Int32 × nMem := (if nin i (mN M 14) = true then M 16 i.toNatClampNeg else -1, M)
set_option maxHeartbeats 4000000 in
set_option maxRecDepth 100000 in
theorem mt_X3_step (na : nA) (h : nH) (M : nMem) (hI : mInv M) (i : Int32) : nM yX3_step cX3_step 2 (some .int) (nRm 3 0 0) [.ref (na 61), .int i] na (mPut na h M) (nQi (mOp na h (o_step i M))) 0 0 := by
  refine nM.ofN RX3 rfl (by decide) (by intro v hv; simp only [List.mem_cons, List.not_mem_nil, or_false] at hv; rcases hv with rfl | rfl <;> rfl) (Nat.le_of_ble_eq_true rfl) (fun K hC hnm => ?_)
  show WN K na (mPut na h M) 0 0 (nE K (nQi (mOp na h (o_step i M))) 0 0) 0 [some (.ref (na 61)), some (.int i)] []
  let Q9 : State → Prop := nE K (nQi (mOp na h (o_step i M))) 0 0
  show WN K na (mPut na h M) 0 0 Q9 0 [some (.ref (na 61)), some (.int i)] []
  obtain ⟨⟨h0, b0⟩, ⟨h1, b1a, b1⟩, ⟨h11, b11⟩, ⟨h14, b14⟩, ⟨h15, b15, b15n⟩, ⟨h20, b20⟩, ⟨h26, b26⟩, ⟨h27, b27⟩, ⟨h55, b55⟩, iP, iH, iHi, iHd, iC, iT, iF, iG, iS, iZ⟩ := hI
  refine n_aload_n hC dX3_step_0 rfl ?_
  refine n_iload_n hC dX3_step_1 rfl ?_
  refine n_iconst hC (v := nI 0) dX3_step_2 (by decide) ?_
  refine n_aload_n hC dX3_step_3 rfl ?_
  refine m_getI hC 14 (v := nI (mN M 14)) dX3_step_4 rfl rfl (by decide) h14 ?_
  refine n_iconst hC (v := nI 1) dX3_step_7 (by decide) ?_
  refine n_isub hC dX3_step_8 ?_
  refine n_callV3z hC (mt_X3_in na h (M) (i) (nI 0) ((nI (mN M 14)) - (nI 1))) md_X3_in q1293 dX3_step_9 rfl (mPut_o _ _ _) rfl rfl ⟨rfl, rfl, by decide, by decide⟩ rfl (Nat.le_of_ble_eq_true rfl) (by decide) (by decide) (fun r0 na0 h0 hp0 => ?_)
  obtain ⟨rfl, rfl, rfl⟩ := hp0
  rw [show nrg i (nI 0) (nI (mN M 14) - nI 1) = nin i (mN M 14) from nrg_in (by omega)]
  refine n_if_eqB hC (tgt := 24) dX3_step_12 (by decide) (fun c_12 => ?_) (fun c_12 => ?_)
  · skip
    refine n_iconst hC (v := (-1)) dX3_step_24 (by decide) ?_
    exact n_iret hC dX3_step_25 (by decide) (by decide) (⟨rfl, by simp [o_step, c_12], M, rfl, mEq.of (by simp [o_step, c_12])⟩)
  · skip
    obtain ⟨j, hj, ej⟩ := (nin_t (by omega)).mp c_12
    subst ej
    refine n_aload_n hC dX3_step_15 rfl ?_
    refine m_getA hC 16 dX3_step_16 rfl rfl ?_
    refine n_iload_n hC dX3_step_19 rfl ?_
    refine m_aldN hC 16 (v := M 16 j) dX3_step_20 rfl rfl (by have h9 : mLen 16 = 300 := rfl; omega) rfl ?_
    refine n_goto hC (tgt := 25) dX3_step_21 (by decide) ?_
    exact n_iret hC dX3_step_25 (by decide) (by decide) (⟨rfl, by simp [o_step, c_12, nI_clamp (show j < 2 ^ 31 by omega)], M, rfl, mEq.of (by simp [o_step, c_12, nI_clamp (show j < 2 ^ 31 by omega)])⟩)

set_option maxHeartbeats 4000000 in
set_option maxRecDepth 100000 in
theorem mt_X3_pass (na : nA) (h : nH) (M : nMem) (hI : mInv M) (p how : Int32) : nM yX3_pass cX3_pass 8 (some .int) (nRm 3 0 0) [.ref (na 61), .int p, .int how] na (mPut na h M) (nQi (mOpE na h (o_pass p how M))) 0 0 := by
  refine nM.ofN RX3 rfl (by decide) (by intro v hv; simp only [List.mem_cons, List.not_mem_nil, or_false] at hv; rcases hv with rfl | rfl | rfl <;> rfl) (Nat.le_of_ble_eq_true rfl) (fun K hC hnm => ?_)
  show WN K na (mPut na h M) 0 0 (nE K (nQi (mOpE na h (o_pass p how M))) 0 0) 0 [some (.ref (na 61)), some (.int p), some (.int how), none, none, none, none, none] []
  let Q9 : State → Prop := nE K (nQi (mOpE na h (o_pass p how M))) 0 0
  show WN K na (mPut na h M) 0 0 Q9 0 [some (.ref (na 61)), some (.int p), some (.int how), none, none, none, none, none] []
  obtain ⟨⟨h0, b0⟩, ⟨h1, b1a, b1⟩, ⟨h11, b11⟩, ⟨h14, b14⟩, ⟨h15, b15, b15n⟩, ⟨h20, b20⟩, ⟨h26, b26⟩, ⟨h27, b27⟩, ⟨h55, b55⟩, iP, iH, iHi, iHd, iC, iT, iF, iG, iS, iZ⟩ := hI
  refine n_aload_n hC dX3_pass_0 rfl ?_
  refine n_iload_n hC dX3_pass_1 rfl ?_
  refine n_callV1z hC (mt_X3_isPlace na h (M) (p) (n := mN M 1) h1 (by omega)) md_X3_isPlace q1305 dX3_pass_2 rfl (mPut_o _ _ _) rfl rfl ⟨rfl, rfl, by decide, by decide⟩ rfl (Nat.le_of_ble_eq_true rfl) (by decide) (by decide) (fun r0 na0 h0 hp0 => ?_)
  obtain ⟨rfl, rfl, rfl⟩ := hp0
  refine n_if_neB hC (tgt := 10) dX3_pass_5 (by decide) (fun c_5 => ?_) (fun c_5 => ?_)
  · skip
    refine n_aload_n hC dX3_pass_10 rfl ?_
    refine n_iload_n hC dX3_pass_11 rfl ?_
    refine n_iconst hC (v := nI 0) dX3_pass_12 (by decide) ?_
    refine n_iconst hC (v := nI 1) dX3_pass_13 (by decide) ?_
    refine n_callV3z hC (mt_X3_in na h (M) (how) (nI 0) (nI 1)) md_X3_in q1293 dX3_pass_14 rfl (mPut_o _ _ _) rfl rfl ⟨rfl, rfl, by decide, by decide⟩ rfl (Nat.le_of_ble_eq_true rfl) (by decide) (by decide) (fun r1 na1 h1 hp1 => ?_)
    obtain ⟨rfl, rfl, rfl⟩ := hp1
    refine n_if_neB hC (tgt := 23) dX3_pass_17 (by decide) (fun c_17 => ?_) (fun c_17 => ?_)
    · skip
      refine n_aload_n hC dX3_pass_23 rfl ?_
      refine m_getI hC 11 (v := nbo (mB M 11)) dX3_pass_24 rfl rfl (by decide) h11 ?_
      refine n_if_neB hC (tgt := 33) dX3_pass_27 (by decide) (fun c_27 => ?_) (fun c_27 => ?_)
      · skip
        obtain ⟨j, hj, ej⟩ := (nin_t (by omega)).mp c_5
        obtain ⟨z, -, hz, ez⟩ := (nrg_nn (by decide) (by decide)).mp c_17
        subst ej
        subst ez
        have hjc : (nI j).toNatClampNeg = j := nI_clamp (by omega)
        have hzc : (nI z).toNatClampNeg = z := nI_clamp (by omega)
        have hq : (j + 1) % mN M 1 < mN M 1 := Nat.mod_lt _ (by omega)
        rcases (show z = 0 ∨ z = 1 by omega) with e9 | e9
        · skip
          subst e9
          have iq := (iH ((j + 1) % mN M 1) hq).2
          have ip := (iH j hj).2
          refine n_aload_n hC dX3_pass_33 rfl ?_
          refine n_iload_n hC dX3_pass_34 rfl ?_
          refine n_callV1i hC (mt_X3_after na h (M) (p := j) (n := mN M 1) h1 (by omega) (by omega)) md_X3_after q1338 dX3_pass_35 rfl (mPut_o _ _ _) rfl rfl ⟨rfl, rfl, by decide, by decide⟩ rfl (Nat.le_of_ble_eq_true rfl) (by decide) (by decide) (fun r2 na2 h2 hp2 => ?_)
          obtain ⟨rfl, rfl, rfl⟩ := hp2
          refine n_istore_n hC dX3_pass_38 (Nat.le_of_ble_eq_true rfl) ?_
          refine n_iload_n hC dX3_pass_39 rfl ?_
          refine n_if_neN hC (tgt := 52) dX3_pass_40 (by decide) (by omega) (fun c_40 => absurd c_40 (by decide)) (fun c_40 => ?_)
          refine n_aload_n hC dX3_pass_43 rfl ?_
          refine m_getA hC 6 dX3_pass_44 rfl rfl ?_
          refine n_iload_n hC dX3_pass_47 rfl ?_
          refine m_aldN hC 6 (v := nI (mA M 6 j)) dX3_pass_48 rfl rfl (by have h9 : mLen 6 = 9 := rfl; omega) ((iH j hj).1) ?_
          refine n_goto hC (tgt := 58) dX3_pass_49 (by decide) ?_
          refine n_istore hC dX3_pass_58 (Nat.le_of_ble_eq_true rfl) ?_
          refine n_iload_n hC dX3_pass_60 rfl ?_
          refine n_if_neN hC (tgt := 73) dX3_pass_61 (by decide) (by omega) (fun c_61 => absurd c_61 (by decide)) (fun c_61 => ?_)
          refine n_aload_n hC dX3_pass_64 rfl ?_
          refine m_getA hC 6 dX3_pass_65 rfl rfl ?_
          refine n_iload_n hC dX3_pass_68 rfl ?_
          refine m_aldN hC 6 (v := nI (mA M 6 ((j + 1) % mN M 1))) dX3_pass_69 rfl rfl (by have h9 : mLen 6 = 9 := rfl; omega) ((iH _ hq).1) ?_
          refine n_goto hC (tgt := 79) dX3_pass_70 (by decide) ?_
          refine n_istore hC dX3_pass_79 (Nat.le_of_ble_eq_true rfl) ?_
          refine n_aload_n hC dX3_pass_81 rfl ?_
          refine m_getA hC 8 dX3_pass_82 rfl rfl ?_
          refine n_iload hC dX3_pass_85 rfl ?_
          refine m_aldN hC 8 (v := M 8 (mA M 6 j)) dX3_pass_87 rfl rfl (by have h9 : mLen 8 = 9 := rfl; omega) rfl ?_
          refine n_iconst hC (v := nI 1) dX3_pass_88 (by decide) ?_
          refine n_icmp_lt hC (tgt := 103) dX3_pass_89 (by decide) (fun c_89 => ?_) (fun c_89 => ?_)
          · skip
            refine n_bipush hC (v := (-3)) dX3_pass_103 (by decide) ?_
            exact n_iret hC dX3_pass_105 (by decide) (by decide) (⟨rfl, by simp only [o_pass, c_5, c_17, c_27, hjc, hzc, Bool.true_eq_false, if_false]; simp [o_passN, c_89], M, rfl, id (by simp only [o_pass, c_5, c_17, c_27, hjc, hzc, Bool.true_eq_false, if_false]; simp [o_passN, c_89])⟩)
          · skip
            refine n_aload_n hC dX3_pass_92 rfl ?_
            refine m_getA hC 8 dX3_pass_93 rfl rfl ?_
            refine n_iload hC dX3_pass_96 rfl ?_
            refine m_aldN hC 8 (v := M 8 (mA M 6 ((j + 1) % mN M 1))) dX3_pass_98 rfl rfl (by have h9 : mLen 8 = 9 := rfl; omega) rfl ?_
            refine n_iconst hC (v := nI 2) dX3_pass_99 (by decide) ?_
            refine n_icmp_ge hC (tgt := 106) dX3_pass_100 (by decide) (fun c_100 => ?_) (fun c_100 => ?_)
            · skip
              have c_100 := Int32.not_lt.mpr c_100
              refine n_aload_n hC dX3_pass_106 rfl ?_
              refine m_getI hC 14 (v := nI (mN M 14)) dX3_pass_107 rfl rfl (by decide) h14 ?_
              refine n_sipush hC (v := nI 300) dX3_pass_110 (by decide) ?_
              refine n_icmp_neN hC (tgt := 119) dX3_pass_113 (by decide) (by omega) (by omega) (fun c_113 => ?_) (fun c_113 => ?_)
              · skip
                refine n_aload_n hC dX3_pass_119 rfl ?_
                refine m_getA hC 8 dX3_pass_120 rfl rfl ?_
                refine n_iload hC dX3_pass_123 rfl ?_
                refine n_dup2 hC dX3_pass_125 rfl rfl ?_
                refine m_aldN hC 8 (v := M 8 (mA M 6 j)) dX3_pass_126 rfl rfl (by have h9 : mLen 8 = 9 := rfl; omega) rfl ?_
                refine n_iconst hC (v := nI 1) dX3_pass_127 (by decide) ?_
                refine n_isub hC dX3_pass_128 ?_
                refine m_astN hC 8 (M2 := mset M 8 (upd (M 8) (mA M 6 j) ((M 8 (mA M 6 j)) - (nI 1)))) dX3_pass_129 rfl rfl (by have h9 : mLen 8 = 9 := rfl; omega) rfl ?_
                refine n_aload_n hC dX3_pass_130 rfl ?_
                refine m_getA hC 8 dX3_pass_131 rfl rfl ?_
                refine n_iload hC dX3_pass_134 rfl ?_
                refine n_dup2 hC dX3_pass_136 rfl rfl ?_
                refine m_aldN hC 8 (v := (upd (M 8) (mA M 6 j) ((M 8 (mA M 6 j)) - (nI 1))) (mA M 6 ((j + 1) % mN M 1))) dX3_pass_137 rfl rfl (by have h9 : mLen 8 = 9 := rfl; omega) rfl ?_
                refine n_iconst hC (v := nI 2) dX3_pass_138 (by decide) ?_
                refine n_isub hC dX3_pass_139 ?_
                refine m_astN hC 8 (M2 := mset M 8 (upd (upd (M 8) (mA M 6 j) ((M 8 (mA M 6 j)) - (nI 1))) (mA M 6 ((j + 1) % mN M 1)) (((upd (M 8) (mA M 6 j) ((M 8 (mA M 6 j)) - (nI 1))) (mA M 6 ((j + 1) % mN M 1))) - (nI 2)))) dX3_pass_140 rfl rfl (by have h9 : mLen 8 = 9 := rfl; omega) (mset_ss _ _ _ _) ?_
                refine n_aload_n hC dX3_pass_141 rfl ?_
                refine m_getA hC 6 dX3_pass_142 rfl rfl ?_
                refine n_iload_n hC dX3_pass_145 rfl ?_
                refine m_aldN hC 6 (v := M 6 j) dX3_pass_146 rfl rfl (by have h9 : mLen 6 = 9 := rfl; omega) rfl ?_
                refine n_istore hC dX3_pass_147 (Nat.le_of_ble_eq_true rfl) ?_
                refine n_aload_n hC dX3_pass_149 rfl ?_
                refine m_getA hC 6 dX3_pass_150 rfl rfl ?_
                refine n_iload_n hC dX3_pass_153 rfl ?_
                refine n_aload_n hC dX3_pass_154 rfl ?_
                refine m_getA hC 6 dX3_pass_155 rfl rfl ?_
                refine n_iload_n hC dX3_pass_158 rfl ?_
                refine m_aldN hC 6 (v := M 6 ((j + 1) % mN M 1)) dX3_pass_159 rfl rfl (by have h9 : mLen 6 = 9 := rfl; omega) rfl ?_
                refine m_astN hC 6 (M2 := mset (mset M 8 (upd (upd (M 8) (mA M 6 j) ((M 8 (mA M 6 j)) - (nI 1))) (mA M 6 ((j + 1) % mN M 1)) (((upd (M 8) (mA M 6 j) ((M 8 (mA M 6 j)) - (nI 1))) (mA M 6 ((j + 1) % mN M 1))) - (nI 2)))) 6 (upd (M 6) j (M 6 ((j + 1) % mN M 1)))) dX3_pass_160 rfl rfl (by have h9 : mLen 6 = 9 := rfl; omega) rfl ?_
                refine n_aload_n hC dX3_pass_161 rfl ?_
                refine m_getA hC 6 dX3_pass_162 rfl rfl ?_
                refine n_iload_n hC dX3_pass_165 rfl ?_
                refine n_iload hC dX3_pass_166 rfl ?_
                refine m_astN hC 6 (M2 := mset (mset M 8 (upd (upd (M 8) (mA M 6 j) ((M 8 (mA M 6 j)) - (nI 1))) (mA M 6 ((j + 1) % mN M 1)) (((upd (M 8) (mA M 6 j) ((M 8 (mA M 6 j)) - (nI 1))) (mA M 6 ((j + 1) % mN M 1))) - (nI 2)))) 6 (upd (upd (M 6) j (M 6 ((j + 1) % mN M 1))) ((j + 1) % mN M 1) (M 6 j))) dX3_pass_168 rfl rfl (by have h9 : mLen 6 = 9 := rfl; omega) (mset_ss _ _ _ _) ?_
                refine n_aload_n hC dX3_pass_169 rfl ?_
                refine m_getA hC 5 dX3_pass_170 rfl rfl ?_
                refine n_iload_n hC dX3_pass_173 rfl ?_
                refine m_aldN hC 5 (v := M 5 j) dX3_pass_174 rfl rfl (by have h9 : mLen 5 = 9 := rfl; omega) rfl ?_
                refine n_istore hC dX3_pass_175 (Nat.le_of_ble_eq_true rfl) ?_
                refine n_aload_n hC dX3_pass_177 rfl ?_
                refine m_getA hC 5 dX3_pass_178 rfl rfl ?_
                refine n_iload_n hC dX3_pass_181 rfl ?_
                refine n_aload_n hC dX3_pass_182 rfl ?_
                refine m_getA hC 5 dX3_pass_183 rfl rfl ?_
                refine n_iload_n hC dX3_pass_186 rfl ?_
                refine m_aldN hC 5 (v := M 5 ((j + 1) % mN M 1)) dX3_pass_187 rfl rfl (by have h9 : mLen 5 = 9 := rfl; omega) rfl ?_
                refine m_astN hC 5 (M2 := mset (mset (mset M 8 (upd (upd (M 8) (mA M 6 j) ((M 8 (mA M 6 j)) - (nI 1))) (mA M 6 ((j + 1) % mN M 1)) (((upd (M 8) (mA M 6 j) ((M 8 (mA M 6 j)) - (nI 1))) (mA M 6 ((j + 1) % mN M 1))) - (nI 2)))) 6 (upd (upd (M 6) j (M 6 ((j + 1) % mN M 1))) ((j + 1) % mN M 1) (M 6 j))) 5 (upd (M 5) j (M 5 ((j + 1) % mN M 1)))) dX3_pass_188 rfl rfl (by have h9 : mLen 5 = 9 := rfl; omega) rfl ?_
                refine n_aload_n hC dX3_pass_189 rfl ?_
                refine m_getA hC 5 dX3_pass_190 rfl rfl ?_
                refine n_iload_n hC dX3_pass_193 rfl ?_
                refine n_iload hC dX3_pass_194 rfl ?_
                refine m_astN hC 5 (M2 := mset (mset (mset M 8 (upd (upd (M 8) (mA M 6 j) ((M 8 (mA M 6 j)) - (nI 1))) (mA M 6 ((j + 1) % mN M 1)) (((upd (M 8) (mA M 6 j) ((M 8 (mA M 6 j)) - (nI 1))) (mA M 6 ((j + 1) % mN M 1))) - (nI 2)))) 6 (upd (upd (M 6) j (M 6 ((j + 1) % mN M 1))) ((j + 1) % mN M 1) (M 6 j))) 5 (upd (upd (M 5) j (M 5 ((j + 1) % mN M 1))) ((j + 1) % mN M 1) (M 5 j))) dX3_pass_196 rfl rfl (by have h9 : mLen 5 = 9 := rfl; omega) (mset_ss _ _ _ _) ?_
                refine n_aload_n hC dX3_pass_197 rfl ?_
                refine m_getA hC 17 dX3_pass_198 rfl rfl ?_
                refine n_iload_n hC dX3_pass_201 rfl ?_
                refine n_iload_n hC dX3_pass_202 rfl ?_
                refine n_iconst hC (v := nI 1) dX3_pass_203 (by decide) ?_
                refine n_iaddN hC dX3_pass_204 rfl ?_
                refine m_astN hC 17 (M2 := mset (mset (mset (mset M 8 (upd (upd (M 8) (mA M 6 j) ((M 8 (mA M 6 j)) - (nI 1))) (mA M 6 ((j + 1) % mN M 1)) (((upd (M 8) (mA M 6 j) ((M 8 (mA M 6 j)) - (nI 1))) (mA M 6 ((j + 1) % mN M 1))) - (nI 2)))) 6 (upd (upd (M 6) j (M 6 ((j + 1) % mN M 1))) ((j + 1) % mN M 1) (M 6 j))) 5 (upd (upd (M 5) j (M 5 ((j + 1) % mN M 1))) ((j + 1) % mN M 1) (M 5 j))) 17 (upd (M 17) j (nI (0 + 1)))) dX3_pass_205 rfl rfl (by have h9 : mLen 17 = 9 := rfl; omega) rfl ?_
                refine n_aload_n hC dX3_pass_206 rfl ?_
                refine m_getA hC 16 dX3_pass_207 rfl rfl ?_
                refine n_aload_n hC dX3_pass_210 rfl ?_
                refine m_getI hC 14 (v := nI (mN M 14)) dX3_pass_211 rfl rfl (by decide) h14 ?_
                refine n_bipush hC (v := nI 10) dX3_pass_214 (by decide) ?_
                refine n_iload_n hC dX3_pass_216 rfl ?_
                refine n_imulN hC dX3_pass_217 rfl ?_
                refine n_iload_n hC dX3_pass_218 rfl ?_
                refine n_iaddN hC dX3_pass_219 rfl ?_
                refine m_astN hC 16 (M2 := mset (mset (mset (mset (mset M 8 (upd (upd (M 8) (mA M 6 j) ((M 8 (mA M 6 j)) - (nI 1))) (mA M 6 ((j + 1) % mN M 1)) (((upd (M 8) (mA M 6 j) ((M 8 (mA M 6 j)) - (nI 1))) (mA M 6 ((j + 1) % mN M 1))) - (nI 2)))) 6 (upd (upd (M 6) j (M 6 ((j + 1) % mN M 1))) ((j + 1) % mN M 1) (M 6 j))) 5 (upd (upd (M 5) j (M 5 ((j + 1) % mN M 1))) ((j + 1) % mN M 1) (M 5 j))) 17 (upd (M 17) j (nI (0 + 1)))) 16 (upd (M 16) (mN M 14) (nI (10 * j + 0)))) dX3_pass_220 rfl rfl (by have h9 : mLen 16 = 300 := rfl; omega) rfl ?_
                refine n_aload_n hC dX3_pass_221 rfl ?_
                refine n_dup hC dX3_pass_222 rfl ?_
                refine m_getI hC 14 (v := nI (mN M 14)) dX3_pass_223 rfl rfl (by decide) h14 ?_
                refine n_iconst hC (v := nI 1) dX3_pass_226 (by decide) ?_
                refine n_iaddN hC dX3_pass_227 rfl ?_
                refine m_putI hC 14 (M2 := mset (mset (mset (mset (mset (mset M 8 (upd (upd (M 8) (mA M 6 j) ((M 8 (mA M 6 j)) - (nI 1))) (mA M 6 ((j + 1) % mN M 1)) (((upd (M 8) (mA M 6 j) ((M 8 (mA M 6 j)) - (nI 1))) (mA M 6 ((j + 1) % mN M 1))) - (nI 2)))) 6 (upd (upd (M 6) j (M 6 ((j + 1) % mN M 1))) ((j + 1) % mN M 1) (M 6 j))) 5 (upd (upd (M 5) j (M 5 ((j + 1) % mN M 1))) ((j + 1) % mN M 1) (M 5 j))) 17 (upd (M 17) j (nI (0 + 1)))) 16 (upd (M 16) (mN M 14) (nI (10 * j + 0)))) 14 (fun _ => nI (mN M 14 + 1))) dX3_pass_228 rfl rfl (by decide) rfl rfl rfl rfl rfl ?_
                refine n_aload_n hC dX3_pass_231 rfl ?_
                refine m_getI hC 14 (v := nI (mN M 14 + 1)) dX3_pass_232 rfl rfl (by decide) rfl ?_
                exact n_iret hC dX3_pass_235 (by decide) (by decide) (⟨rfl, by simp only [o_pass, c_5, c_17, c_27, hjc, hzc, Bool.true_eq_false, if_false]; simp [o_passN, c_89, c_100, c_113], _, rfl, id (by simp only [o_pass, c_5, c_17, c_27, hjc, hzc, Bool.true_eq_false, if_false]; simp [o_passN, c_89, c_100, c_113, swp])⟩)
              · skip
                refine n_bipush hC (v := (-4)) dX3_pass_116 (by decide) ?_
                exact n_iret hC dX3_pass_118 (by decide) (by decide) (⟨rfl, by simp only [o_pass, c_5, c_17, c_27, hjc, hzc, Bool.true_eq_false, if_false]; simp [o_passN, c_89, c_100, c_113], M, rfl, id (by simp only [o_pass, c_5, c_17, c_27, hjc, hzc, Bool.true_eq_false, if_false]; simp [o_passN, c_89, c_100, c_113])⟩)
            · skip
              have c_100 := Int32.not_le.mp c_100
              refine n_bipush hC (v := (-3)) dX3_pass_103 (by decide) ?_
              exact n_iret hC dX3_pass_105 (by decide) (by decide) (⟨rfl, by simp only [o_pass, c_5, c_17, c_27, hjc, hzc, Bool.true_eq_false, if_false]; simp [o_passN, c_100], M, rfl, id (by simp only [o_pass, c_5, c_17, c_27, hjc, hzc, Bool.true_eq_false, if_false]; simp [o_passN, c_100])⟩)
        · skip
          subst e9
          have iq := (iH ((j + 1) % mN M 1) hq).2
          have ip := (iH j hj).2
          refine n_aload_n hC dX3_pass_33 rfl ?_
          refine n_iload_n hC dX3_pass_34 rfl ?_
          refine n_callV1i hC (mt_X3_after na h (M) (p := j) (n := mN M 1) h1 (by omega) (by omega)) md_X3_after q1338 dX3_pass_35 rfl (mPut_o _ _ _) rfl rfl ⟨rfl, rfl, by decide, by decide⟩ rfl (Nat.le_of_ble_eq_true rfl) (by decide) (by decide) (fun r3 na3 h3 hp3 => ?_)
          obtain ⟨rfl, rfl, rfl⟩ := hp3
          refine n_istore_n hC dX3_pass_38 (Nat.le_of_ble_eq_true rfl) ?_
          refine n_iload_n hC dX3_pass_39 rfl ?_
          refine n_if_neN hC (tgt := 52) dX3_pass_40 (by decide) (by omega) (fun c_40 => ?_) (fun c_40 => absurd c_40 (by decide))
          refine n_aload_n hC dX3_pass_52 rfl ?_
          refine m_getA hC 6 dX3_pass_53 rfl rfl ?_
          refine n_iload_n hC dX3_pass_56 rfl ?_
          refine m_aldN hC 6 (v := nI (mA M 6 ((j + 1) % mN M 1))) dX3_pass_57 rfl rfl (by have h9 : mLen 6 = 9 := rfl; omega) ((iH _ hq).1) ?_
          refine n_istore hC dX3_pass_58 (Nat.le_of_ble_eq_true rfl) ?_
          refine n_iload_n hC dX3_pass_60 rfl ?_
          refine n_if_neN hC (tgt := 73) dX3_pass_61 (by decide) (by omega) (fun c_61 => ?_) (fun c_61 => absurd c_61 (by decide))
          refine n_aload_n hC dX3_pass_73 rfl ?_
          refine m_getA hC 6 dX3_pass_74 rfl rfl ?_
          refine n_iload_n hC dX3_pass_77 rfl ?_
          refine m_aldN hC 6 (v := nI (mA M 6 j)) dX3_pass_78 rfl rfl (by have h9 : mLen 6 = 9 := rfl; omega) ((iH j hj).1) ?_
          refine n_istore hC dX3_pass_79 (Nat.le_of_ble_eq_true rfl) ?_
          refine n_aload_n hC dX3_pass_81 rfl ?_
          refine m_getA hC 8 dX3_pass_82 rfl rfl ?_
          refine n_iload hC dX3_pass_85 rfl ?_
          refine m_aldN hC 8 (v := M 8 (mA M 6 ((j + 1) % mN M 1))) dX3_pass_87 rfl rfl (by have h9 : mLen 8 = 9 := rfl; omega) rfl ?_
          refine n_iconst hC (v := nI 1) dX3_pass_88 (by decide) ?_
          refine n_icmp_lt hC (tgt := 103) dX3_pass_89 (by decide) (fun c_89 => ?_) (fun c_89 => ?_)
          · skip
            refine n_bipush hC (v := (-3)) dX3_pass_103 (by decide) ?_
            exact n_iret hC dX3_pass_105 (by decide) (by decide) (⟨rfl, by simp only [o_pass, c_5, c_17, c_27, hjc, hzc, Bool.true_eq_false, if_false]; simp [o_passN, c_89], M, rfl, id (by simp only [o_pass, c_5, c_17, c_27, hjc, hzc, Bool.true_eq_false, if_false]; simp [o_passN, c_89])⟩)
          · skip
            refine n_aload_n hC dX3_pass_92 rfl ?_
            refine m_getA hC 8 dX3_pass_93 rfl rfl ?_
            refine n_iload hC dX3_pass_96 rfl ?_
            refine m_aldN hC 8 (v := M 8 (mA M 6 j)) dX3_pass_98 rfl rfl (by have h9 : mLen 8 = 9 := rfl; omega) rfl ?_
            refine n_iconst hC (v := nI 2) dX3_pass_99 (by decide) ?_
            refine n_icmp_ge hC (tgt := 106) dX3_pass_100 (by decide) (fun c_100 => ?_) (fun c_100 => ?_)
            · skip
              have c_100 := Int32.not_lt.mpr c_100
              refine n_aload_n hC dX3_pass_106 rfl ?_
              refine m_getI hC 14 (v := nI (mN M 14)) dX3_pass_107 rfl rfl (by decide) h14 ?_
              refine n_sipush hC (v := nI 300) dX3_pass_110 (by decide) ?_
              refine n_icmp_neN hC (tgt := 119) dX3_pass_113 (by decide) (by omega) (by omega) (fun c_113 => ?_) (fun c_113 => ?_)
              · skip
                refine n_aload_n hC dX3_pass_119 rfl ?_
                refine m_getA hC 8 dX3_pass_120 rfl rfl ?_
                refine n_iload hC dX3_pass_123 rfl ?_
                refine n_dup2 hC dX3_pass_125 rfl rfl ?_
                refine m_aldN hC 8 (v := M 8 (mA M 6 ((j + 1) % mN M 1))) dX3_pass_126 rfl rfl (by have h9 : mLen 8 = 9 := rfl; omega) rfl ?_
                refine n_iconst hC (v := nI 1) dX3_pass_127 (by decide) ?_
                refine n_isub hC dX3_pass_128 ?_
                refine m_astN hC 8 (M2 := mset M 8 (upd (M 8) (mA M 6 ((j + 1) % mN M 1)) ((M 8 (mA M 6 ((j + 1) % mN M 1))) - (nI 1)))) dX3_pass_129 rfl rfl (by have h9 : mLen 8 = 9 := rfl; omega) rfl ?_
                refine n_aload_n hC dX3_pass_130 rfl ?_
                refine m_getA hC 8 dX3_pass_131 rfl rfl ?_
                refine n_iload hC dX3_pass_134 rfl ?_
                refine n_dup2 hC dX3_pass_136 rfl rfl ?_
                refine m_aldN hC 8 (v := (upd (M 8) (mA M 6 ((j + 1) % mN M 1)) ((M 8 (mA M 6 ((j + 1) % mN M 1))) - (nI 1))) (mA M 6 j)) dX3_pass_137 rfl rfl (by have h9 : mLen 8 = 9 := rfl; omega) rfl ?_
                refine n_iconst hC (v := nI 2) dX3_pass_138 (by decide) ?_
                refine n_isub hC dX3_pass_139 ?_
                refine m_astN hC 8 (M2 := mset M 8 (upd (upd (M 8) (mA M 6 ((j + 1) % mN M 1)) ((M 8 (mA M 6 ((j + 1) % mN M 1))) - (nI 1))) (mA M 6 j) (((upd (M 8) (mA M 6 ((j + 1) % mN M 1)) ((M 8 (mA M 6 ((j + 1) % mN M 1))) - (nI 1))) (mA M 6 j)) - (nI 2)))) dX3_pass_140 rfl rfl (by have h9 : mLen 8 = 9 := rfl; omega) (mset_ss _ _ _ _) ?_
                refine n_aload_n hC dX3_pass_141 rfl ?_
                refine m_getA hC 6 dX3_pass_142 rfl rfl ?_
                refine n_iload_n hC dX3_pass_145 rfl ?_
                refine m_aldN hC 6 (v := M 6 j) dX3_pass_146 rfl rfl (by have h9 : mLen 6 = 9 := rfl; omega) rfl ?_
                refine n_istore hC dX3_pass_147 (Nat.le_of_ble_eq_true rfl) ?_
                refine n_aload_n hC dX3_pass_149 rfl ?_
                refine m_getA hC 6 dX3_pass_150 rfl rfl ?_
                refine n_iload_n hC dX3_pass_153 rfl ?_
                refine n_aload_n hC dX3_pass_154 rfl ?_
                refine m_getA hC 6 dX3_pass_155 rfl rfl ?_
                refine n_iload_n hC dX3_pass_158 rfl ?_
                refine m_aldN hC 6 (v := M 6 ((j + 1) % mN M 1)) dX3_pass_159 rfl rfl (by have h9 : mLen 6 = 9 := rfl; omega) rfl ?_
                refine m_astN hC 6 (M2 := mset (mset M 8 (upd (upd (M 8) (mA M 6 ((j + 1) % mN M 1)) ((M 8 (mA M 6 ((j + 1) % mN M 1))) - (nI 1))) (mA M 6 j) (((upd (M 8) (mA M 6 ((j + 1) % mN M 1)) ((M 8 (mA M 6 ((j + 1) % mN M 1))) - (nI 1))) (mA M 6 j)) - (nI 2)))) 6 (upd (M 6) j (M 6 ((j + 1) % mN M 1)))) dX3_pass_160 rfl rfl (by have h9 : mLen 6 = 9 := rfl; omega) rfl ?_
                refine n_aload_n hC dX3_pass_161 rfl ?_
                refine m_getA hC 6 dX3_pass_162 rfl rfl ?_
                refine n_iload_n hC dX3_pass_165 rfl ?_
                refine n_iload hC dX3_pass_166 rfl ?_
                refine m_astN hC 6 (M2 := mset (mset M 8 (upd (upd (M 8) (mA M 6 ((j + 1) % mN M 1)) ((M 8 (mA M 6 ((j + 1) % mN M 1))) - (nI 1))) (mA M 6 j) (((upd (M 8) (mA M 6 ((j + 1) % mN M 1)) ((M 8 (mA M 6 ((j + 1) % mN M 1))) - (nI 1))) (mA M 6 j)) - (nI 2)))) 6 (upd (upd (M 6) j (M 6 ((j + 1) % mN M 1))) ((j + 1) % mN M 1) (M 6 j))) dX3_pass_168 rfl rfl (by have h9 : mLen 6 = 9 := rfl; omega) (mset_ss _ _ _ _) ?_
                refine n_aload_n hC dX3_pass_169 rfl ?_
                refine m_getA hC 5 dX3_pass_170 rfl rfl ?_
                refine n_iload_n hC dX3_pass_173 rfl ?_
                refine m_aldN hC 5 (v := M 5 j) dX3_pass_174 rfl rfl (by have h9 : mLen 5 = 9 := rfl; omega) rfl ?_
                refine n_istore hC dX3_pass_175 (Nat.le_of_ble_eq_true rfl) ?_
                refine n_aload_n hC dX3_pass_177 rfl ?_
                refine m_getA hC 5 dX3_pass_178 rfl rfl ?_
                refine n_iload_n hC dX3_pass_181 rfl ?_
                refine n_aload_n hC dX3_pass_182 rfl ?_
                refine m_getA hC 5 dX3_pass_183 rfl rfl ?_
                refine n_iload_n hC dX3_pass_186 rfl ?_
                refine m_aldN hC 5 (v := M 5 ((j + 1) % mN M 1)) dX3_pass_187 rfl rfl (by have h9 : mLen 5 = 9 := rfl; omega) rfl ?_
                refine m_astN hC 5 (M2 := mset (mset (mset M 8 (upd (upd (M 8) (mA M 6 ((j + 1) % mN M 1)) ((M 8 (mA M 6 ((j + 1) % mN M 1))) - (nI 1))) (mA M 6 j) (((upd (M 8) (mA M 6 ((j + 1) % mN M 1)) ((M 8 (mA M 6 ((j + 1) % mN M 1))) - (nI 1))) (mA M 6 j)) - (nI 2)))) 6 (upd (upd (M 6) j (M 6 ((j + 1) % mN M 1))) ((j + 1) % mN M 1) (M 6 j))) 5 (upd (M 5) j (M 5 ((j + 1) % mN M 1)))) dX3_pass_188 rfl rfl (by have h9 : mLen 5 = 9 := rfl; omega) rfl ?_
                refine n_aload_n hC dX3_pass_189 rfl ?_
                refine m_getA hC 5 dX3_pass_190 rfl rfl ?_
                refine n_iload_n hC dX3_pass_193 rfl ?_
                refine n_iload hC dX3_pass_194 rfl ?_
                refine m_astN hC 5 (M2 := mset (mset (mset M 8 (upd (upd (M 8) (mA M 6 ((j + 1) % mN M 1)) ((M 8 (mA M 6 ((j + 1) % mN M 1))) - (nI 1))) (mA M 6 j) (((upd (M 8) (mA M 6 ((j + 1) % mN M 1)) ((M 8 (mA M 6 ((j + 1) % mN M 1))) - (nI 1))) (mA M 6 j)) - (nI 2)))) 6 (upd (upd (M 6) j (M 6 ((j + 1) % mN M 1))) ((j + 1) % mN M 1) (M 6 j))) 5 (upd (upd (M 5) j (M 5 ((j + 1) % mN M 1))) ((j + 1) % mN M 1) (M 5 j))) dX3_pass_196 rfl rfl (by have h9 : mLen 5 = 9 := rfl; omega) (mset_ss _ _ _ _) ?_
                refine n_aload_n hC dX3_pass_197 rfl ?_
                refine m_getA hC 17 dX3_pass_198 rfl rfl ?_
                refine n_iload_n hC dX3_pass_201 rfl ?_
                refine n_iload_n hC dX3_pass_202 rfl ?_
                refine n_iconst hC (v := nI 1) dX3_pass_203 (by decide) ?_
                refine n_iaddN hC dX3_pass_204 rfl ?_
                refine m_astN hC 17 (M2 := mset (mset (mset (mset M 8 (upd (upd (M 8) (mA M 6 ((j + 1) % mN M 1)) ((M 8 (mA M 6 ((j + 1) % mN M 1))) - (nI 1))) (mA M 6 j) (((upd (M 8) (mA M 6 ((j + 1) % mN M 1)) ((M 8 (mA M 6 ((j + 1) % mN M 1))) - (nI 1))) (mA M 6 j)) - (nI 2)))) 6 (upd (upd (M 6) j (M 6 ((j + 1) % mN M 1))) ((j + 1) % mN M 1) (M 6 j))) 5 (upd (upd (M 5) j (M 5 ((j + 1) % mN M 1))) ((j + 1) % mN M 1) (M 5 j))) 17 (upd (M 17) j (nI (1 + 1)))) dX3_pass_205 rfl rfl (by have h9 : mLen 17 = 9 := rfl; omega) rfl ?_
                refine n_aload_n hC dX3_pass_206 rfl ?_
                refine m_getA hC 16 dX3_pass_207 rfl rfl ?_
                refine n_aload_n hC dX3_pass_210 rfl ?_
                refine m_getI hC 14 (v := nI (mN M 14)) dX3_pass_211 rfl rfl (by decide) h14 ?_
                refine n_bipush hC (v := nI 10) dX3_pass_214 (by decide) ?_
                refine n_iload_n hC dX3_pass_216 rfl ?_
                refine n_imulN hC dX3_pass_217 rfl ?_
                refine n_iload_n hC dX3_pass_218 rfl ?_
                refine n_iaddN hC dX3_pass_219 rfl ?_
                refine m_astN hC 16 (M2 := mset (mset (mset (mset (mset M 8 (upd (upd (M 8) (mA M 6 ((j + 1) % mN M 1)) ((M 8 (mA M 6 ((j + 1) % mN M 1))) - (nI 1))) (mA M 6 j) (((upd (M 8) (mA M 6 ((j + 1) % mN M 1)) ((M 8 (mA M 6 ((j + 1) % mN M 1))) - (nI 1))) (mA M 6 j)) - (nI 2)))) 6 (upd (upd (M 6) j (M 6 ((j + 1) % mN M 1))) ((j + 1) % mN M 1) (M 6 j))) 5 (upd (upd (M 5) j (M 5 ((j + 1) % mN M 1))) ((j + 1) % mN M 1) (M 5 j))) 17 (upd (M 17) j (nI (1 + 1)))) 16 (upd (M 16) (mN M 14) (nI (10 * j + 1)))) dX3_pass_220 rfl rfl (by have h9 : mLen 16 = 300 := rfl; omega) rfl ?_
                refine n_aload_n hC dX3_pass_221 rfl ?_
                refine n_dup hC dX3_pass_222 rfl ?_
                refine m_getI hC 14 (v := nI (mN M 14)) dX3_pass_223 rfl rfl (by decide) h14 ?_
                refine n_iconst hC (v := nI 1) dX3_pass_226 (by decide) ?_
                refine n_iaddN hC dX3_pass_227 rfl ?_
                refine m_putI hC 14 (M2 := mset (mset (mset (mset (mset (mset M 8 (upd (upd (M 8) (mA M 6 ((j + 1) % mN M 1)) ((M 8 (mA M 6 ((j + 1) % mN M 1))) - (nI 1))) (mA M 6 j) (((upd (M 8) (mA M 6 ((j + 1) % mN M 1)) ((M 8 (mA M 6 ((j + 1) % mN M 1))) - (nI 1))) (mA M 6 j)) - (nI 2)))) 6 (upd (upd (M 6) j (M 6 ((j + 1) % mN M 1))) ((j + 1) % mN M 1) (M 6 j))) 5 (upd (upd (M 5) j (M 5 ((j + 1) % mN M 1))) ((j + 1) % mN M 1) (M 5 j))) 17 (upd (M 17) j (nI (1 + 1)))) 16 (upd (M 16) (mN M 14) (nI (10 * j + 1)))) 14 (fun _ => nI (mN M 14 + 1))) dX3_pass_228 rfl rfl (by decide) rfl rfl rfl rfl rfl ?_
                refine n_aload_n hC dX3_pass_231 rfl ?_
                refine m_getI hC 14 (v := nI (mN M 14 + 1)) dX3_pass_232 rfl rfl (by decide) rfl ?_
                exact n_iret hC dX3_pass_235 (by decide) (by decide) (⟨rfl, by simp only [o_pass, c_5, c_17, c_27, hjc, hzc, Bool.true_eq_false, if_false]; simp [o_passN, c_89, c_100, c_113], _, rfl, id (by simp only [o_pass, c_5, c_17, c_27, hjc, hzc, Bool.true_eq_false, if_false]; simp [o_passN, c_89, c_100, c_113, swp])⟩)
              · skip
                refine n_bipush hC (v := (-4)) dX3_pass_116 (by decide) ?_
                exact n_iret hC dX3_pass_118 (by decide) (by decide) (⟨rfl, by simp only [o_pass, c_5, c_17, c_27, hjc, hzc, Bool.true_eq_false, if_false]; simp [o_passN, c_89, c_100, c_113], M, rfl, id (by simp only [o_pass, c_5, c_17, c_27, hjc, hzc, Bool.true_eq_false, if_false]; simp [o_passN, c_89, c_100, c_113])⟩)
            · skip
              have c_100 := Int32.not_le.mp c_100
              refine n_bipush hC (v := (-3)) dX3_pass_103 (by decide) ?_
              exact n_iret hC dX3_pass_105 (by decide) (by decide) (⟨rfl, by simp only [o_pass, c_5, c_17, c_27, hjc, hzc, Bool.true_eq_false, if_false]; simp [o_passN, c_100], M, rfl, id (by simp only [o_pass, c_5, c_17, c_27, hjc, hzc, Bool.true_eq_false, if_false]; simp [o_passN, c_100])⟩)
      · skip
        refine n_bipush hC (v := (-3)) dX3_pass_30 (by decide) ?_
        exact n_iret hC dX3_pass_32 (by decide) (by decide) (⟨rfl, by simp [o_pass, c_5, c_17, c_27], M, rfl, id (by simp [o_pass, c_5, c_17, c_27])⟩)
    · skip
      refine n_bipush hC (v := (-2)) dX3_pass_20 (by decide) ?_
      exact n_iret hC dX3_pass_22 (by decide) (by decide) (⟨rfl, by simp [o_pass, c_5, c_17], M, rfl, id (by simp [o_pass, c_5, c_17])⟩)
  · skip
    refine n_iconst hC (v := (-1)) dX3_pass_8 (by decide) ?_
    exact n_iret hC dX3_pass_9 (by decide) (by decide) (⟨rfl, by simp [o_pass, c_5], M, rfl, id (by simp [o_pass, c_5])⟩)

set_option maxHeartbeats 4000000 in
set_option maxRecDepth 100000 in
theorem mt_X3_walk (na : nA) (h : nH) (M : nMem) (hI : mInv M) (how : Int32) : nM yX3_walk cX3_walk 4 (some .int) (nRm 3 0 0) [.ref (na 61), .int how] na (mPut na h M) (nQi (mOpE na h (o_walk how M))) 0 0 := by
  refine nM.ofN RX3 rfl (by decide) (by intro v hv; simp only [List.mem_cons, List.not_mem_nil, or_false] at hv; rcases hv with rfl | rfl <;> rfl) (Nat.le_of_ble_eq_true rfl) (fun K hC hnm => ?_)
  show WN K na (mPut na h M) 0 0 (nE K (nQi (mOpE na h (o_walk how M))) 0 0) 0 [some (.ref (na 61)), some (.int how), none, none] []
  let Q9 : State → Prop := nE K (nQi (mOpE na h (o_walk how M))) 0 0
  show WN K na (mPut na h M) 0 0 Q9 0 [some (.ref (na 61)), some (.int how), none, none] []
  obtain ⟨⟨h0, b0⟩, ⟨h1, b1a, b1⟩, ⟨h11, b11⟩, ⟨h14, b14⟩, ⟨h15, b15, b15n⟩, ⟨h20, b20⟩, ⟨h26, b26⟩, ⟨h27, b27⟩, ⟨h55, b55⟩, iP, iH, iHi, iHd, iC, iT, iF, iG, iS, iZ⟩ := hI
  refine n_aload_n hC dX3_walk_0 rfl ?_
  refine n_iload_n hC dX3_walk_1 rfl ?_
  refine n_iconst hC (v := nI 0) dX3_walk_2 (by decide) ?_
  refine n_iconst hC (v := nI 1) dX3_walk_3 (by decide) ?_
  refine n_callV3z hC (mt_X3_in na h (M) (how) (nI 0) (nI 1)) md_X3_in q1293 dX3_walk_4 rfl (mPut_o _ _ _) rfl rfl ⟨rfl, rfl, by decide, by decide⟩ rfl (Nat.le_of_ble_eq_true rfl) (by decide) (by decide) (fun r0 na0 h0 hp0 => ?_)
  obtain ⟨rfl, rfl, rfl⟩ := hp0
  refine n_if_neB hC (tgt := 13) dX3_walk_7 (by decide) (fun c_7 => ?_) (fun c_7 => ?_)
  · skip
    refine n_aload_n hC dX3_walk_13 rfl ?_
    refine m_getI hC 11 (v := nbo (mB M 11)) dX3_walk_14 rfl rfl (by decide) h11 ?_
    refine n_if_neB hC (tgt := 23) dX3_walk_17 (by decide) (fun c_17 => ?_) (fun c_17 => ?_)
    · skip
      have hn3 := b11 c_17
      obtain ⟨z, -, hz, ez⟩ := (nrg_nn (by decide) (by decide)).mp c_7
      subst ez
      have hzc : (nI z).toNatClampNeg = z := nI_clamp (by omega)
      refine n_aload_n hC dX3_walk_23 rfl ?_
      refine n_callV0i hC (mt_X3_girth na h (M) (r := mN M 15) h15 (by omega)) md_X3_girth q1346 dX3_walk_24 rfl (mPut_o _ _ _) rfl rfl ⟨rfl, rfl, by decide, by decide⟩ rfl (Nat.le_of_ble_eq_true rfl) (by decide) (by decide) (fun r1 na1 h1 hp1 => ?_)
      obtain ⟨rfl, rfl, rfl⟩ := hp1
      refine n_istore_n hC dX3_walk_27 (Nat.le_of_ble_eq_true rfl) ?_
      refine n_iconst hC (v := nI 0) dX3_walk_28 (by decide) ?_
      refine n_istore_n hC dX3_walk_29 (Nat.le_of_ble_eq_true rfl) ?_
      have lp30 : ∀ d9 : Nat, ∀ (i : Nat), mN M 1 - i = d9 → (i ≤ mN M 1) → (∀ q, q < i → decide (M 8 q < nI (10 + mN M 15 / 3)) = false) → WN K na (mPut na h M) 0 0 Q9 30 [some (.ref (na 61)), some (.int (nI z)), some (.int (nI (10 + mN M 15 / 3))), some (.int (nI i))] [] := by
        intro d9
        induction d9 using Nat.strongRecOn with
        | _ d9 ih30 =>
          intro i hd30 hi hN
          refine n_iload_n hC dX3_walk_30 rfl ?_
          refine n_aload_n hC dX3_walk_31 rfl ?_
          refine m_getI hC 1 (v := nI (mN M 1)) dX3_walk_32 rfl rfl (by decide) h1 ?_
          refine n_icmp_geN hC (tgt := 57) dX3_walk_35 (by decide) (by omega) (by omega) (fun c_35 => ?_) (fun c_35 => ?_)
          · skip
            have hh : anyb (mN M 1) (fun p => decide (M 8 p < nI (10 + mN M 15 / 3))) = false := anyb_f (fun q hq => hN q (by omega))
            refine n_aload_n hC dX3_walk_57 rfl ?_
            refine m_getI hC 14 (v := nI (mN M 14)) dX3_walk_58 rfl rfl (by decide) h14 ?_
            refine n_sipush hC (v := nI 300) dX3_walk_61 (by decide) ?_
            refine n_icmp_eqN hC (tgt := 76) dX3_walk_64 (by decide) (by omega) (by omega) (fun c_64 => ?_) (fun c_64 => ?_)
            · skip
              refine n_bipush hC (v := (-4)) dX3_walk_76 (by decide) ?_
              exact n_iret hC dX3_walk_78 (by decide) (by decide) (⟨rfl, by simp only [o_walk, c_7, c_17, hzc, Bool.true_eq_false, if_false]; simp [o_walkN, hh, c_64], M, rfl, id (by simp only [o_walk, c_7, c_17, hzc, Bool.true_eq_false, if_false]; simp [o_walkN, hh, c_64])⟩)
            · skip
              refine n_aload_n hC dX3_walk_67 rfl ?_
              refine m_getI hC 15 (v := nI (mN M 15)) dX3_walk_68 rfl rfl (by decide) h15 ?_
              refine n_bipush hC (v := nI 100) dX3_walk_71 (by decide) ?_
              refine n_icmp_neN hC (tgt := 79) dX3_walk_73 (by decide) (by omega) (by omega) (fun c_73 => ?_) (fun c_73 => ?_)
              · skip
                refine n_iconst hC (v := nI 0) dX3_walk_79 (by decide) ?_
                refine n_istore_n hC dX3_walk_80 (Nat.le_of_ble_eq_true rfl) ?_
                have lp81 : ∀ d9 : Nat, ∀ (i : Nat), mN M 1 - i = d9 → (i ≤ mN M 1) → WN K na (mPut na h (mset M 8 (fil (fun p => M 8 p - nI (10 + mN M 15 / 3)) (M 8) i))) 0 0 Q9 81 [some (.ref (na 61)), some (.int (nI z)), some (.int (nI (10 + mN M 15 / 3))), some (.int (nI i))] [] := by
                  intro d9
                  induction d9 using Nat.strongRecOn with
                  | _ d9 ih81 =>
                    intro i hd81 hi2
                    refine n_iload_n hC dX3_walk_81 rfl ?_
                    refine n_aload_n hC dX3_walk_82 rfl ?_
                    refine m_getI hC 1 (v := nI (mN M 1)) dX3_walk_83 rfl rfl (by decide) h1 ?_
                    refine n_icmp_geN hC (tgt := 105) dX3_walk_86 (by decide) (by omega) (by omega) (fun c_86 => ?_) (fun c_86 => ?_)
                    · skip
                      have hi9 : i = mN M 1 := by omega
                      subst hi9
                      refine n_aload_n hC dX3_walk_105 rfl ?_
                      refine n_aload_n hC dX3_walk_106 rfl ?_
                      refine m_getA hC 6 dX3_walk_107 rfl rfl ?_
                      refine n_iload_n hC dX3_walk_110 rfl ?_
                      refine n_callV2v hC (mt_X3_turn na h (mset M 8 (fil (fun p => M 8 p - nI (10 + mN M 15 / 3)) (M 8) (mN M 1))) (k := 6) (n := mN M 1) (how := z) rfl h1 (by omega) (by have h9 : mLen 6 = 9 := rfl; omega) (by omega)) md_X3_turn q1347 dX3_walk_111 rfl (mPut_o _ _ _) rfl rfl ⟨rfl, rfl, by decide, by decide⟩ rfl (Nat.le_of_ble_eq_true rfl) (by decide) (by decide) (fun na2 h2 hp2 => ?_)
                      obtain ⟨rfl, M96, rfl, eM96⟩ := hp2
                      rw [show M96 = mset (mset M 8 (fil (fun p => M 8 p - nI (10 + mN M 15 / 3)) (M 8) (mN M 1))) 6 (tur z (mN M 1) (M 6)) from eM96.trans rfl]
                      refine n_aload_n hC dX3_walk_114 rfl ?_
                      refine n_aload_n hC dX3_walk_115 rfl ?_
                      refine m_getA hC 5 dX3_walk_116 rfl rfl ?_
                      refine n_iload_n hC dX3_walk_119 rfl ?_
                      refine n_callV2v hC (mt_X3_turn na h (mset (mset M 8 (fil (fun p => M 8 p - nI (10 + mN M 15 / 3)) (M 8) (mN M 1))) 6 (tur z (mN M 1) (M 6))) (k := 5) (n := mN M 1) (how := z) rfl h1 (by omega) (by have h9 : mLen 5 = 9 := rfl; omega) (by omega)) md_X3_turn q1347 dX3_walk_120 rfl (mPut_o _ _ _) rfl rfl ⟨rfl, rfl, by decide, by decide⟩ rfl (Nat.le_of_ble_eq_true rfl) (by decide) (by decide) (fun na3 h3 hp3 => ?_)
                      obtain ⟨rfl, M95, rfl, eM95⟩ := hp3
                      rw [show M95 = mset (mset (mset M 8 (fil (fun p => M 8 p - nI (10 + mN M 15 / 3)) (M 8) (mN M 1))) 6 (tur z (mN M 1) (M 6))) 5 (tur z (mN M 1) (M 5)) from eM95.trans rfl]
                      refine n_iconst hC (v := nI 0) dX3_walk_123 (by decide) ?_
                      refine n_istore_n hC dX3_walk_124 (Nat.le_of_ble_eq_true rfl) ?_
                      have lp125 : ∀ d9 : Nat, ∀ (i : Nat) (M2 : nMem), mN M 1 - i = d9 → (i ≤ mN M 1) → (mFr [18, 19, 17] (mset (mset (mset M 8 (fil (fun p => M 8 p - nI (10 + mN M 15 / 3)) (M 8) (mN M 1))) 6 (tur z (mN M 1) (M 6))) 5 (tur z (mN M 1) (M 5))) M2) → (M2 18 = blk (M 18) (9 * mN M 15) i (tur z (mN M 1) (M 6))) → (M2 19 = blk (M 19) (9 * mN M 15) i (M 17)) → (M2 17 = fil (fun _ => nI 0) (M 17) i) → WN K na (mPut na h M2) 0 0 Q9 125 [some (.ref (na 61)), some (.int (nI z)), some (.int (nI (10 + mN M 15 / 3))), some (.int (nI i))] [] := by
                        intro d9
                        induction d9 using Nat.strongRecOn with
                        | _ d9 ih125 =>
                          intro i M2 hd125 hi3 hF w18 w19 w17
                          refine n_iload_n hC dX3_walk_125 rfl ?_
                          refine n_aload_n hC dX3_walk_126 rfl ?_
                          refine m_getI hC 1 (v := nI (mN M 1)) dX3_walk_127 rfl rfl (by decide) ((congrFun (hF 1 (by decide)) 0).trans h1) ?_
                          refine n_icmp_geN hC (tgt := 186) dX3_walk_130 (by decide) (by omega) (by omega) (fun c_130 => ?_) (fun c_130 => ?_)
                          · skip
                            have hi9 : i = mN M 1 := by omega
                            subst hi9
                            refine n_aload_n hC dX3_walk_186 rfl ?_
                            refine n_dup hC dX3_walk_187 rfl ?_
                            refine m_getI hC 15 (v := nI (mN M 15)) dX3_walk_188 rfl rfl (by decide) ((congrFun (hF 15 (by decide)) 0).trans h15) ?_
                            refine n_iconst hC (v := nI 1) dX3_walk_191 (by decide) ?_
                            refine n_iaddN hC dX3_walk_192 rfl ?_
                            refine m_putI hC 15 (M2 := mset M2 15 (fun _ => nI (mN M 15 + 1))) dX3_walk_193 rfl rfl (by decide) rfl rfl rfl rfl rfl ?_
                            refine n_aload_n hC dX3_walk_196 rfl ?_
                            refine m_getA hC 16 dX3_walk_197 rfl rfl ?_
                            refine n_aload_n hC dX3_walk_200 rfl ?_
                            refine m_getI hC 14 (v := nI (mN M 14)) dX3_walk_201 rfl rfl (by decide) ((congrFun (hF 14 (by decide)) 0).trans h14) ?_
                            refine n_bipush hC (v := nI 100) dX3_walk_204 (by decide) ?_
                            refine n_iload_n hC dX3_walk_206 rfl ?_
                            refine n_iaddN hC dX3_walk_207 rfl ?_
                            refine m_astN hC 16 (M2 := mset (mset M2 15 (fun _ => nI (mN M 15 + 1))) 16 (upd (M2 16) (mN M 14) (nI (100 + z)))) dX3_walk_208 rfl rfl (by have h9 : mLen 16 = 300 := rfl; omega) rfl ?_
                            refine n_aload_n hC dX3_walk_209 rfl ?_
                            refine n_dup hC dX3_walk_210 rfl ?_
                            refine m_getI hC 14 (v := nI (mN M 14)) dX3_walk_211 rfl rfl (by decide) ((congrFun (hF 14 (by decide)) 0).trans h14) ?_
                            refine n_iconst hC (v := nI 1) dX3_walk_214 (by decide) ?_
                            refine n_iaddN hC dX3_walk_215 rfl ?_
                            refine m_putI hC 14 (M2 := mset (mset (mset M2 15 (fun _ => nI (mN M 15 + 1))) 16 (upd (M2 16) (mN M 14) (nI (100 + z)))) 14 (fun _ => nI (mN M 14 + 1))) dX3_walk_216 rfl rfl (by decide) rfl rfl rfl rfl rfl ?_
                            refine n_aload_n hC dX3_walk_219 rfl ?_
                            refine m_getI hC 14 (v := nI (mN M 14 + 1)) dX3_walk_220 rfl rfl (by decide) rfl ?_
                            exact n_iret hC dX3_walk_223 (by decide) (by decide) (⟨rfl, by simp only [o_walk, c_7, c_17, hzc, Bool.true_eq_false, if_false]; simp [o_walkN, hh, c_64, c_73], _, rfl, id (by
      simp only [o_walk, c_7, c_17, hzc, Bool.true_eq_false, if_false, o_walkN, hh, c_64, c_73, Bool.false_eq_true]
      funext k
      by_cases e18 : k = 18
      · subst e18; show M2 18 = _; rw [w18]; rfl
      · by_cases e19 : k = 19
        · subst e19; show M2 19 = _; rw [w19]; rfl
        · by_cases e17 : k = 17
          · subst e17; show M2 17 = _; rw [w17]; rfl
          · simp only [mset]
            by_cases e14 : k = 14
            · rw [if_pos e14, if_pos e14]
            · rw [if_neg e14, if_neg e14]
              by_cases e16 : k = 16
              · rw [if_pos e16, if_pos e16, hF 16 (by decide)]; rfl
              · rw [if_neg e16, if_neg e16]
                by_cases e15 : k = 15
                · rw [if_pos e15, if_pos e15]
                · rw [if_neg e15, if_neg e15, if_neg e17, if_neg e19, if_neg e18, hF k (by simp [e17, e18, e19])]
                  rfl)⟩)
                          · skip
                            refine n_aload_n hC dX3_walk_133 rfl ?_
                            refine m_getA hC 18 dX3_walk_134 rfl rfl ?_
                            refine n_bipush hC (v := nI 9) dX3_walk_137 (by decide) ?_
                            refine n_aload_n hC dX3_walk_139 rfl ?_
                            refine m_getI hC 15 (v := nI (mN M 15)) dX3_walk_140 rfl rfl (by decide) ((congrFun (hF 15 (by decide)) 0).trans h15) ?_
                            refine n_imulN hC dX3_walk_143 rfl ?_
                            refine n_iload_n hC dX3_walk_144 rfl ?_
                            refine n_iaddN hC dX3_walk_145 rfl ?_
                            refine n_aload_n hC dX3_walk_146 rfl ?_
                            refine m_getA hC 6 dX3_walk_147 rfl rfl ?_
                            refine n_iload_n hC dX3_walk_150 rfl ?_
                            refine m_aldN hC 6 (v := M2 6 i) dX3_walk_151 rfl rfl (by have h9 : mLen 6 = 9 := rfl; omega) rfl ?_
                            refine m_astN hC 18 (M2 := mset M2 18 (upd (M2 18) (9 * (mN M 15) + i) (M2 6 i))) dX3_walk_152 rfl rfl (by have h9 : mLen 18 = 900 := rfl; omega) rfl ?_
                            refine n_aload_n hC dX3_walk_153 rfl ?_
                            refine m_getA hC 19 dX3_walk_154 rfl rfl ?_
                            refine n_bipush hC (v := nI 9) dX3_walk_157 (by decide) ?_
                            refine n_aload_n hC dX3_walk_159 rfl ?_
                            refine m_getI hC 15 (v := nI (mN M 15)) dX3_walk_160 rfl rfl (by decide) ((congrFun (hF 15 (by decide)) 0).trans h15) ?_
                            refine n_imulN hC dX3_walk_163 rfl ?_
                            refine n_iload_n hC dX3_walk_164 rfl ?_
                            refine n_iaddN hC dX3_walk_165 rfl ?_
                            refine n_aload_n hC dX3_walk_166 rfl ?_
                            refine m_getA hC 17 dX3_walk_167 rfl rfl ?_
                            refine n_iload_n hC dX3_walk_170 rfl ?_
                            refine m_aldN hC 17 (v := M2 17 i) dX3_walk_171 rfl rfl (by have h9 : mLen 17 = 9 := rfl; omega) rfl ?_
                            refine m_astN hC 19 (M2 := mset (mset M2 18 (upd (M2 18) (9 * (mN M 15) + i) (M2 6 i))) 19 (upd (M2 19) (9 * (mN M 15) + i) (M2 17 i))) dX3_walk_172 rfl rfl (by have h9 : mLen 19 = 900 := rfl; omega) rfl ?_
                            refine n_aload_n hC dX3_walk_173 rfl ?_
                            refine m_getA hC 17 dX3_walk_174 rfl rfl ?_
                            refine n_iload_n hC dX3_walk_177 rfl ?_
                            refine n_iconst hC (v := nI 0) dX3_walk_178 (by decide) ?_
                            refine m_astN hC 17 (M2 := mset (mset (mset M2 18 (upd (M2 18) (9 * (mN M 15) + i) (M2 6 i))) 19 (upd (M2 19) (9 * (mN M 15) + i) (M2 17 i))) 17 (upd (M2 17) i (nI 0))) dX3_walk_179 rfl rfl (by have h9 : mLen 17 = 9 := rfl; omega) rfl ?_
                            refine n_iincN hC dX3_walk_180 (j := 1) (c := i + 1) rfl (by decide) rfl ?_
                            refine n_goto hC (tgt := 125) dX3_walk_183 (by decide) ?_
                            exact WN.forget (L' := [some (.ref (na 61)), some (.int (nI z)), some (.int (nI (10 + mN M 15 / 3))), some (.int (nI (i + 1)))]) (⟨Or.inr rfl, Or.inr rfl, Or.inr rfl, Or.inr rfl, trivial⟩) (ih125 _ (by omega) (i + 1) (mset (mset (mset M2 18 (upd (M2 18) (9 * (mN M 15) + i) (M2 6 i))) 19 (upd (M2 19) (9 * (mN M 15) + i) (M2 17 i))) 17 (upd (M2 17) i (nI 0))) rfl (by omega) (mFr.set (by decide) (mFr.set (by decide) (mFr.set (by decide) hF))) (by show upd (M2 18) _ _ = _; rw [w18]; exact blk_u (congrFun (hF 6 (by decide)) i)) (by show upd (M2 19) _ _ = _; rw [w19]; exact blk_u (by rw [w17, fil_ge (Nat.le_refl i)])) (by show upd (M2 17) i _ = _; rw [w17]; exact fil_u rfl))
                      exact WN.forget (L' := [some (.ref (na 61)), some (.int (nI z)), some (.int (nI (10 + mN M 15 / 3))), some (.int (nI 0))]) (⟨Or.inr rfl, Or.inr rfl, Or.inr rfl, Or.inr rfl, trivial⟩) (lp125 _ 0 (mset (mset (mset M 8 (fil (fun p => M 8 p - nI (10 + mN M 15 / 3)) (M 8) (mN M 1))) 6 (tur z (mN M 1) (M 6))) 5 (tur z (mN M 1) (M 5))) rfl (by omega) mFr.rf (by rw [blk_0]; rfl) (by rw [blk_0]; rfl) (by rw [fil_0]; rfl))
                    · skip
                      refine n_aload_n hC dX3_walk_89 rfl ?_
                      refine m_getA hC 8 dX3_walk_90 rfl rfl ?_
                      refine n_iload_n hC dX3_walk_93 rfl ?_
                      refine n_dup2 hC dX3_walk_94 rfl rfl ?_
                      refine m_aldN hC 8 (v := M 8 i) dX3_walk_95 rfl rfl (by have h9 : mLen 8 = 9 := rfl; omega) (by rw [mset_s]; exact fil_ge (Nat.le_refl i)) ?_
                      refine n_iload_n hC dX3_walk_96 rfl ?_
                      refine n_isub hC dX3_walk_97 ?_
                      refine m_astN hC 8 (M2 := mset M 8 (fil (fun p => M 8 p - nI (10 + mN M 15 / 3)) (M 8) (i + 1))) dX3_walk_98 rfl rfl (by have h9 : mLen 8 = 9 := rfl; omega) (by rw [mset_s, mset_ss, fil_u rfl]) ?_
                      refine n_iincN hC dX3_walk_99 (j := 1) (c := i + 1) rfl (by decide) rfl ?_
                      refine n_goto hC (tgt := 81) dX3_walk_102 (by decide) ?_
                      exact WN.forget (L' := [some (.ref (na 61)), some (.int (nI z)), some (.int (nI (10 + mN M 15 / 3))), some (.int (nI (i + 1)))]) (⟨Or.inr rfl, Or.inr rfl, Or.inr rfl, Or.inr rfl, trivial⟩) (ih81 _ (by omega) (i + 1) rfl (by omega))
                rw [show mPut na h M = mPut na h (mset M 8 (fil (fun p => M 8 p - nI (10 + mN M 15 / 3)) (M 8) 0)) by rw [fil_0, mset_id]]
                exact WN.forget (L' := [some (.ref (na 61)), some (.int (nI z)), some (.int (nI (10 + mN M 15 / 3))), some (.int (nI 0))]) (⟨Or.inr rfl, Or.inr rfl, Or.inr rfl, Or.inr rfl, trivial⟩) (lp81 _ 0 rfl (by omega))
              · skip
                refine n_bipush hC (v := (-4)) dX3_walk_76 (by decide) ?_
                exact n_iret hC dX3_walk_78 (by decide) (by decide) (⟨rfl, by simp only [o_walk, c_7, c_17, hzc, Bool.true_eq_false, if_false, o_walkN, hh, c_64, Bool.false_eq_true]; simp [c_73], M, rfl, id (by simp only [o_walk, c_7, c_17, hzc, Bool.true_eq_false, if_false, o_walkN, hh, c_64, Bool.false_eq_true]; simp [c_73])⟩)
          · skip
            refine n_aload_n hC dX3_walk_38 rfl ?_
            refine m_getA hC 8 dX3_walk_39 rfl rfl ?_
            refine n_iload_n hC dX3_walk_42 rfl ?_
            refine m_aldN hC 8 (v := M 8 i) dX3_walk_43 rfl rfl (by have h9 : mLen 8 = 9 := rfl; omega) rfl ?_
            refine n_iload_n hC dX3_walk_44 rfl ?_
            refine n_icmp_ge hC (tgt := 51) dX3_walk_45 (by decide) (fun c_45 => ?_) (fun c_45 => ?_)
            · skip
              refine n_iincN hC dX3_walk_51 (j := 1) (c := i + 1) rfl (by decide) rfl ?_
              refine n_goto hC (tgt := 30) dX3_walk_54 (by decide) ?_
              exact WN.forget (L' := [some (.ref (na 61)), some (.int (nI z)), some (.int (nI (10 + mN M 15 / 3))), some (.int (nI (i + 1)))]) (⟨Or.inr rfl, Or.inr rfl, Or.inr rfl, Or.inr rfl, trivial⟩) (ih30 _ (by omega) (i + 1) rfl (by omega) (lt_s hN (decide_eq_false (Int32.not_lt.mpr (by assumption)))))
            · skip
              refine n_bipush hC (v := (-3)) dX3_walk_48 (by decide) ?_
              exact n_iret hC dX3_walk_50 (by decide) (by decide) (by have hh : anyb (mN M 1) (fun p => decide (M 8 p < nI (10 + mN M 15 / 3))) = true := anyb_t (p := i) (by omega) (decide_eq_true (Int32.not_le.mp (by assumption))); exact ⟨rfl, by simp only [o_walk, c_7, c_17, hzc, Bool.true_eq_false, if_false]; simp [o_walkN, hh], M, rfl, id (by simp only [o_walk, c_7, c_17, hzc, Bool.true_eq_false, if_false]; simp [o_walkN, hh])⟩)
      exact WN.forget (L' := [some (.ref (na 61)), some (.int (nI z)), some (.int (nI (10 + mN M 15 / 3))), some (.int (nI 0))]) (⟨Or.inr rfl, Or.inr rfl, Or.inr rfl, Or.inr rfl, trivial⟩) (lp30 _ 0 rfl (by omega) lt_0)
    · skip
      refine n_bipush hC (v := (-3)) dX3_walk_20 (by decide) ?_
      exact n_iret hC dX3_walk_22 (by decide) (by decide) (⟨rfl, by simp [o_walk, c_7, c_17], M, rfl, id (by simp [o_walk, c_7, c_17])⟩)
  · skip
    refine n_bipush hC (v := (-2)) dX3_walk_10 (by decide) ?_
    exact n_iret hC dX3_walk_12 (by decide) (by decide) (⟨rfl, by simp [o_walk, c_7], M, rfl, id (by simp [o_walk, c_7])⟩)

set_option maxHeartbeats 4000000 in
set_option maxRecDepth 100000 in
theorem mt_X3_topRibbon (na : nA) (h : nH) (M : nMem) {n r p : Nat} (hn : M 1 0 = nI n) (hn9 : n ≤ 9) (hr : r < 100) (hp : p < n) (hc : ∀ q, q < n → M 18 (9 * r + q) = nI (mA M 18 (9 * r + q))) : nM yX3_topRibbon cX3_topRibbon 3 (some .int) (nRm 1 0 0) [.ref (na 61), .int (nI r), .int (nI p)] na (mPut na h M) (nQi (mPure na h M (nI (mTop M n r p)))) 0 0 := by
  refine nM.ofN RX3 rfl (by decide) (by intro v hv; simp only [List.mem_cons, List.not_mem_nil, or_false] at hv; rcases hv with rfl | rfl | rfl <;> rfl) (Nat.le_of_ble_eq_true rfl) (fun K hC hnm => ?_)
  show WN K na (mPut na h M) 0 0 (nE K (nQi (mPure na h M (nI (mTop M n r p)))) 0 0) 0 [some (.ref (na 61)), some (.int (nI r)), some (.int (nI p))] []
  let Q9 : State → Prop := nE K (nQi (mPure na h M (nI (mTop M n r p)))) 0 0
  show WN K na (mPut na h M) 0 0 Q9 0 [some (.ref (na 61)), some (.int (nI r)), some (.int (nI p))] []
  have hq : (p + 1) % n < n := Nat.mod_lt _ (by omega)
  have hb : (p + (n - 1)) % n < n := Nat.mod_lt _ (by omega)
  refine n_aload_n hC dX3_topRibbon_0 rfl ?_
  refine m_getA hC 19 dX3_topRibbon_1 rfl rfl ?_
  refine n_bipush hC (v := nI 9) dX3_topRibbon_4 (by decide) ?_
  refine n_iload_n hC dX3_topRibbon_6 rfl ?_
  refine n_imulN hC dX3_topRibbon_7 rfl ?_
  refine n_iload_n hC dX3_topRibbon_8 rfl ?_
  refine n_iaddN hC dX3_topRibbon_9 rfl ?_
  refine m_aldN hC 19 (v := M 19 (9 * r + p)) dX3_topRibbon_10 rfl rfl (by have h9 : mLen 19 = 900 := rfl; omega) rfl ?_
  refine n_iconst hC (v := nI 1) dX3_topRibbon_11 (by decide) ?_
  refine n_icmp_ne hC (tgt := 52) dX3_topRibbon_12 (by decide) (fun c_12 => ?_) (fun c_12 => ?_)
  · skip
    refine n_aload_n hC dX3_topRibbon_52 rfl ?_
    refine m_getA hC 18 dX3_topRibbon_53 rfl rfl ?_
    refine n_bipush hC (v := nI 9) dX3_topRibbon_56 (by decide) ?_
    refine n_iload_n hC dX3_topRibbon_58 rfl ?_
    refine n_imulN hC dX3_topRibbon_59 rfl ?_
    refine n_iload_n hC dX3_topRibbon_60 rfl ?_
    refine n_iaddN hC dX3_topRibbon_61 rfl ?_
    refine m_aldN hC 18 (v := nI (mA M 18 (9 * r + p))) dX3_topRibbon_62 rfl rfl (by have h9 : mLen 18 = 900 := rfl; omega) (hc _ hp) ?_
    exact n_iret hC dX3_topRibbon_63 (by decide) (by decide) (⟨by unfold mTop; rw [if_neg (fun z => c_12 z.1)], rfl, rfl⟩)
  · skip
    refine n_aload_n hC dX3_topRibbon_15 rfl ?_
    refine m_getA hC 19 dX3_topRibbon_16 rfl rfl ?_
    refine n_bipush hC (v := nI 9) dX3_topRibbon_19 (by decide) ?_
    refine n_iload_n hC dX3_topRibbon_21 rfl ?_
    refine n_imulN hC dX3_topRibbon_22 rfl ?_
    refine n_aload_n hC dX3_topRibbon_23 rfl ?_
    refine n_iload_n hC dX3_topRibbon_24 rfl ?_
    refine n_callV1i hC (mt_X3_ahead na h (M) (p := p) (n := n) hn (by omega) (by omega)) md_X3_ahead q1367 dX3_topRibbon_25 rfl (mPut_o _ _ _) rfl rfl ⟨rfl, rfl, by decide, by decide⟩ rfl (Nat.le_of_ble_eq_true rfl) (by decide) (by decide) (fun r0 na0 h0 hp0 => ?_)
    obtain ⟨rfl, rfl, rfl⟩ := hp0
    refine n_iaddN hC dX3_topRibbon_28 rfl ?_
    refine m_aldN hC 19 (v := M 19 (9 * r + ((p + (n - 1)) % n))) dX3_topRibbon_29 rfl rfl (by have h9 : mLen 19 = 900 := rfl; omega) rfl ?_
    refine n_iconst hC (v := nI 2) dX3_topRibbon_30 (by decide) ?_
    refine n_icmp_eq hC (tgt := 52) dX3_topRibbon_31 (by decide) (fun c_31 => ?_) (fun c_31 => ?_)
    · skip
      refine n_aload_n hC dX3_topRibbon_52 rfl ?_
      refine m_getA hC 18 dX3_topRibbon_53 rfl rfl ?_
      refine n_bipush hC (v := nI 9) dX3_topRibbon_56 (by decide) ?_
      refine n_iload_n hC dX3_topRibbon_58 rfl ?_
      refine n_imulN hC dX3_topRibbon_59 rfl ?_
      refine n_iload_n hC dX3_topRibbon_60 rfl ?_
      refine n_iaddN hC dX3_topRibbon_61 rfl ?_
      refine m_aldN hC 18 (v := nI (mA M 18 (9 * r + p))) dX3_topRibbon_62 rfl rfl (by have h9 : mLen 18 = 900 := rfl; omega) (hc _ hp) ?_
      exact n_iret hC dX3_topRibbon_63 (by decide) (by decide) (⟨by unfold mTop; rw [if_neg (fun z => z.2 c_31)], rfl, rfl⟩)
    · skip
      refine n_aload_n hC dX3_topRibbon_34 rfl ?_
      refine m_getA hC 18 dX3_topRibbon_35 rfl rfl ?_
      refine n_bipush hC (v := nI 9) dX3_topRibbon_38 (by decide) ?_
      refine n_iload_n hC dX3_topRibbon_40 rfl ?_
      refine n_imulN hC dX3_topRibbon_41 rfl ?_
      refine n_aload_n hC dX3_topRibbon_42 rfl ?_
      refine n_iload_n hC dX3_topRibbon_43 rfl ?_
      refine n_callV1i hC (mt_X3_after na h (M) (p := p) (n := n) hn (by omega) (by omega)) md_X3_after q1338 dX3_topRibbon_44 rfl (mPut_o _ _ _) rfl rfl ⟨rfl, rfl, by decide, by decide⟩ rfl (Nat.le_of_ble_eq_true rfl) (by decide) (by decide) (fun r1 na1 h1 hp1 => ?_)
      obtain ⟨rfl, rfl, rfl⟩ := hp1
      refine n_iaddN hC dX3_topRibbon_47 rfl ?_
      refine m_aldN hC 18 (v := nI (mA M 18 (9 * r + (p + 1) % n))) dX3_topRibbon_48 rfl rfl (by have h9 : mLen 18 = 900 := rfl; omega) (hc _ hq) ?_
      refine n_goto hC (tgt := 63) dX3_topRibbon_49 (by decide) ?_
      exact n_iret hC dX3_topRibbon_63 (by decide) (by decide) (⟨by unfold mTop; rw [if_pos ⟨c_12, c_31⟩], rfl, rfl⟩)

theorem mTop_lt {M : nMem} {n r p : Nat} (hp : p < n) (h : ∀ q, q < n → mA M 18 (9 * r + q) < n) : mTop M n r p < n := by
  unfold mTop
  split
  · exact h _ (Nat.mod_lt _ (by omega))
  · exact h _ hp
def o_cloth (r p w : Int32) (M : nMem) : Int32 × nMem :=
  (if nin r (mN M 15) = false then -1 else if nin p (mN M 1) = false then -1 else if nrg w (nI 0) (nI 2) = false then -1
  else if w.toNatClampNeg = 0 then M 18 (9 * r.toNatClampNeg + p.toNatClampNeg) else if w.toNatClampNeg = 1 then M 19 (9 * r.toNatClampNeg + p.toNatClampNeg) else M 10 (mTop M (mN M 1) r.toNatClampNeg p.toNatClampNeg), M)
set_option maxHeartbeats 4000000 in
set_option maxRecDepth 100000 in
theorem mt_X3_cloth (na : nA) (h : nH) (M : nMem) (hI : mInv M) (r p w : Int32) : nM yX3_cloth cX3_cloth 4 (some .int) (nRm 3 0 0) [.ref (na 61), .int r, .int p, .int w] na (mPut na h M) (nQi (mOp na h (o_cloth r p w M))) 0 0 := by
  refine nM.ofN RX3 rfl (by decide) (by intro v hv; simp only [List.mem_cons, List.not_mem_nil, or_false] at hv; rcases hv with rfl | rfl | rfl | rfl <;> rfl) (Nat.le_of_ble_eq_true rfl) (fun K hC hnm => ?_)
  show WN K na (mPut na h M) 0 0 (nE K (nQi (mOp na h (o_cloth r p w M))) 0 0) 0 [some (.ref (na 61)), some (.int r), some (.int p), some (.int w)] []
  let Q9 : State → Prop := nE K (nQi (mOp na h (o_cloth r p w M))) 0 0
  show WN K na (mPut na h M) 0 0 Q9 0 [some (.ref (na 61)), some (.int r), some (.int p), some (.int w)] []
  obtain ⟨⟨h0, b0⟩, ⟨h1, b1a, b1⟩, ⟨h11, b11⟩, ⟨h14, b14⟩, ⟨h15, b15, b15n⟩, ⟨h20, b20⟩, ⟨h26, b26⟩, ⟨h27, b27⟩, ⟨h55, b55⟩, iP, iH, iHi, iHd, iC, iT, iF, iG, iS, iZ⟩ := hI
  refine n_aload_n hC dX3_cloth_0 rfl ?_
  refine n_iload_n hC dX3_cloth_1 rfl ?_
  refine n_iconst hC (v := nI 0) dX3_cloth_2 (by decide) ?_
  refine n_aload_n hC dX3_cloth_3 rfl ?_
  refine m_getI hC 15 (v := nI (mN M 15)) dX3_cloth_4 rfl rfl (by decide) h15 ?_
  refine n_iconst hC (v := nI 1) dX3_cloth_7 (by decide) ?_
  refine n_isub hC dX3_cloth_8 ?_
  refine n_callV3z hC (mt_X3_in na h (M) (r) (nI 0) ((nI (mN M 15)) - (nI 1))) md_X3_in q1293 dX3_cloth_9 rfl (mPut_o _ _ _) rfl rfl ⟨rfl, rfl, by decide, by decide⟩ rfl (Nat.le_of_ble_eq_true rfl) (by decide) (by decide) (fun r0 na0 h0 hp0 => ?_)
  obtain ⟨rfl, rfl, rfl⟩ := hp0
  rw [show nrg r (nI 0) (nI (mN M 15) - nI 1) = nin r (mN M 15) from nrg_in (by omega)]
  refine n_if_eqB hC (tgt := 33) dX3_cloth_12 (by decide) (fun c_12 => ?_) (fun c_12 => ?_)
  · skip
    refine n_iconst hC (v := (-1)) dX3_cloth_33 (by decide) ?_
    exact n_iret hC dX3_cloth_34 (by decide) (by decide) (⟨rfl, by simp [o_cloth, c_12], M, rfl, mEq.of (by simp [o_cloth, c_12])⟩)
  · skip
    refine n_aload_n hC dX3_cloth_15 rfl ?_
    refine n_iload_n hC dX3_cloth_16 rfl ?_
    refine n_callV1z hC (mt_X3_isPlace na h (M) (p) (n := mN M 1) h1 (by omega)) md_X3_isPlace q1305 dX3_cloth_17 rfl (mPut_o _ _ _) rfl rfl ⟨rfl, rfl, by decide, by decide⟩ rfl (Nat.le_of_ble_eq_true rfl) (by decide) (by decide) (fun r1 na1 h1 hp1 => ?_)
    obtain ⟨rfl, rfl, rfl⟩ := hp1
    refine n_if_eqB hC (tgt := 33) dX3_cloth_20 (by decide) (fun c_20 => ?_) (fun c_20 => ?_)
    · skip
      refine n_iconst hC (v := (-1)) dX3_cloth_33 (by decide) ?_
      exact n_iret hC dX3_cloth_34 (by decide) (by decide) (⟨rfl, by simp [o_cloth, c_12, c_20], M, rfl, mEq.of (by simp [o_cloth, c_12, c_20])⟩)
    · skip
      refine n_aload_n hC dX3_cloth_23 rfl ?_
      refine n_iload_n hC dX3_cloth_24 rfl ?_
      refine n_iconst hC (v := nI 0) dX3_cloth_25 (by decide) ?_
      refine n_iconst hC (v := nI 2) dX3_cloth_26 (by decide) ?_
      refine n_callV3z hC (mt_X3_in na h (M) (w) (nI 0) (nI 2)) md_X3_in q1293 dX3_cloth_27 rfl (mPut_o _ _ _) rfl rfl ⟨rfl, rfl, by decide, by decide⟩ rfl (Nat.le_of_ble_eq_true rfl) (by decide) (by decide) (fun r2 na2 h2 hp2 => ?_)
      obtain ⟨rfl, rfl, rfl⟩ := hp2
      refine n_if_neB hC (tgt := 35) dX3_cloth_30 (by decide) (fun c_30 => ?_) (fun c_30 => ?_)
      · skip
        obtain ⟨i, hi, ei⟩ := (nin_t (by omega)).mp c_12
        obtain ⟨j, hj, ej⟩ := (nin_t (by omega)).mp c_20
        obtain ⟨z, -, hz, ez⟩ := (nrg_nn (by decide) (by decide)).mp c_30
        subst ei
        subst ej
        subst ez
        have hic : (nI i).toNatClampNeg = i := nI_clamp (by omega)
        have hjc : (nI j).toNatClampNeg = j := nI_clamp (by omega)
        have hzc : (nI z).toNatClampNeg = z := nI_clamp (by omega)
        have hT := mTop_lt (r := i) hj (fun q hq => (iC i q hi hq).2)
        refine n_iload_n hC dX3_cloth_35 rfl ?_
        refine n_if_neN hC (tgt := 53) dX3_cloth_36 (by decide) (by omega) (fun c_36 => ?_) (fun c_36 => ?_)
        · skip
          refine n_iload_n hC dX3_cloth_53 rfl ?_
          refine n_iconst hC (v := nI 1) dX3_cloth_54 (by decide) ?_
          refine n_icmp_neN hC (tgt := 72) dX3_cloth_55 (by decide) (by omega) (by omega) (fun c_55 => ?_) (fun c_55 => ?_)
          · skip
            refine n_aload_n hC dX3_cloth_72 rfl ?_
            refine m_getA hC 10 dX3_cloth_73 rfl rfl ?_
            refine n_aload_n hC dX3_cloth_76 rfl ?_
            refine n_iload_n hC dX3_cloth_77 rfl ?_
            refine n_iload_n hC dX3_cloth_78 rfl ?_
            refine n_callV2i hC (mt_X3_topRibbon na h (M) (n := mN M 1) (r := i) (p := j) h1 (by omega) (by omega) (by omega) (fun q hq => (iC i q hi hq).1)) md_X3_topRibbon q1363 dX3_cloth_79 rfl (mPut_o _ _ _) rfl rfl ⟨rfl, rfl, by decide, by decide⟩ rfl (Nat.le_of_ble_eq_true rfl) (by decide) (by decide) (fun r3 na3 h3 hp3 => ?_)
            obtain ⟨rfl, rfl, rfl⟩ := hp3
            refine m_aldN hC 10 (v := M 10 (mTop M (mN M 1) i j)) dX3_cloth_82 rfl rfl (by have h9 : mLen 10 = 9 := rfl; omega) rfl ?_
            exact n_iret hC dX3_cloth_83 (by decide) (by decide) (⟨rfl, by simp only [o_cloth, c_12, c_20, c_30, hic, hjc, hzc, Bool.true_eq_false, if_false]; simp [c_36, c_55], M, rfl, mEq.of (by simp [o_cloth])⟩)
          · skip
            refine n_aload_n hC dX3_cloth_58 rfl ?_
            refine m_getA hC 19 dX3_cloth_59 rfl rfl ?_
            refine n_bipush hC (v := nI 9) dX3_cloth_62 (by decide) ?_
            refine n_iload_n hC dX3_cloth_64 rfl ?_
            refine n_imulN hC dX3_cloth_65 rfl ?_
            refine n_iload_n hC dX3_cloth_66 rfl ?_
            refine n_iaddN hC dX3_cloth_67 rfl ?_
            refine m_aldN hC 19 (v := M 19 (9 * i + j)) dX3_cloth_68 rfl rfl (by have h9 : mLen 19 = 900 := rfl; omega) rfl ?_
            refine n_goto hC (tgt := 83) dX3_cloth_69 (by decide) ?_
            exact n_iret hC dX3_cloth_83 (by decide) (by decide) (⟨rfl, by simp only [o_cloth, c_12, c_20, c_30, hic, hjc, hzc, Bool.true_eq_false, if_false]; simp [c_36, c_55], M, rfl, mEq.of (by simp [o_cloth])⟩)
        · skip
          refine n_aload_n hC dX3_cloth_39 rfl ?_
          refine m_getA hC 18 dX3_cloth_40 rfl rfl ?_
          refine n_bipush hC (v := nI 9) dX3_cloth_43 (by decide) ?_
          refine n_iload_n hC dX3_cloth_45 rfl ?_
          refine n_imulN hC dX3_cloth_46 rfl ?_
          refine n_iload_n hC dX3_cloth_47 rfl ?_
          refine n_iaddN hC dX3_cloth_48 rfl ?_
          refine m_aldN hC 18 (v := M 18 (9 * i + j)) dX3_cloth_49 rfl rfl (by have h9 : mLen 18 = 900 := rfl; omega) rfl ?_
          refine n_goto hC (tgt := 83) dX3_cloth_50 (by decide) ?_
          exact n_iret hC dX3_cloth_83 (by decide) (by decide) (⟨rfl, by simp only [o_cloth, c_12, c_20, c_30, hic, hjc, hzc, Bool.true_eq_false, if_false]; simp [c_36], M, rfl, mEq.of (by simp [o_cloth])⟩)
      · skip
        refine n_iconst hC (v := (-1)) dX3_cloth_33 (by decide) ?_
        exact n_iret hC dX3_cloth_34 (by decide) (by decide) (⟨rfl, by simp [o_cloth, c_12, c_20, c_30], M, rfl, mEq.of (by simp [o_cloth, c_12, c_20, c_30])⟩)

set_option maxHeartbeats 4000000 in
set_option maxRecDepth 100000 in
theorem mt_X3_areLike (na : nA) (h : nH) (M : nMem) {n r t : Nat} (hn : M 1 0 = nI n) (hn9 : n ≤ 9) (hr : r < 100) (ht : t < 100) (hcr : ∀ q, q < n → M 18 (9 * r + q) = nI (mA M 18 (9 * r + q)) ∧ mA M 18 (9 * r + q) < n) (hct : ∀ q, q < n → M 18 (9 * t + q) = nI (mA M 18 (9 * t + q)) ∧ mA M 18 (9 * t + q) < n) : nM yX3_areLike cX3_areLike 5 (some .boolean) (nRm 2 0 0) [.ref (na 61), .int (nI r), .int (nI t)] na (mPut na h M) (nQi (mPure na h M (nbo (mLike M n r t)))) 0 0 := by
  refine nM.ofN RX3 rfl (by decide) (by intro v hv; simp only [List.mem_cons, List.not_mem_nil, or_false] at hv; rcases hv with rfl | rfl | rfl <;> rfl) (Nat.le_of_ble_eq_true rfl) (fun K hC hnm => ?_)
  show WN K na (mPut na h M) 0 0 (nE K (nQi (mPure na h M (nbo (mLike M n r t)))) 0 0) 0 [some (.ref (na 61)), some (.int (nI r)), some (.int (nI t)), none, none] []
  let Q9 : State → Prop := nE K (nQi (mPure na h M (nbo (mLike M n r t)))) 0 0
  show WN K na (mPut na h M) 0 0 Q9 0 [some (.ref (na 61)), some (.int (nI r)), some (.int (nI t)), none, none] []
  refine n_iconst hC (v := nbo true) dX3_areLike_0 (by decide) ?_
  refine n_istore_n hC dX3_areLike_1 (Nat.le_of_ble_eq_true rfl) ?_
  refine n_iconst hC (v := nI 0) dX3_areLike_2 (by decide) ?_
  refine n_istore hC dX3_areLike_3 (Nat.le_of_ble_eq_true rfl) ?_
  have lp5 : ∀ d9 : Nat, ∀ (p : Nat) (g : Bool), n - p = d9 → (p ≤ n) → (allb p (fun p => decide (M 10 (mTop M n r p) = M 10 (mTop M n t p))) = g) → WN K na (mPut na h M) 0 0 Q9 5 [some (.ref (na 61)), some (.int (nI r)), some (.int (nI t)), some (.int (nbo g)), some (.int (nI p))] [] := by
    intro d9
    induction d9 using Nat.strongRecOn with
    | _ d9 ih5 =>
      intro p g hd5 hp hg
      refine n_iload hC dX3_areLike_5 rfl ?_
      refine n_aload_n hC dX3_areLike_7 rfl ?_
      refine m_getI hC 1 (v := nI n) dX3_areLike_8 rfl rfl (by decide) hn ?_
      refine n_icmp_geN hC (tgt := 57) dX3_areLike_11 (by decide) (by omega) (by omega) (fun c_11 => ?_) (fun c_11 => ?_)
      · skip
        have hp9 : p = n := by omega
        subst hp9
        refine n_iload_n hC dX3_areLike_57 rfl ?_
        exact n_zret hC dX3_areLike_58 (nbo_nar _) (by decide) (by decide) (⟨by rw [← hg]; rfl, rfl, rfl⟩)
      · skip
        have h1T := mTop_lt (M := M) (r := r) (show p < n by omega) (fun q hq => (hcr q hq).2)
        have h2T := mTop_lt (M := M) (r := t) (show p < n by omega) (fun q hq => (hct q hq).2)
        refine n_iload_n hC dX3_areLike_14 rfl ?_
        refine n_if_eqB hC (tgt := 49) dX3_areLike_15 (by decide) (fun c_15 => ?_) (fun c_15 => ?_)
        · skip
          refine n_iconst hC (v := nbo false) dX3_areLike_49 (by decide) ?_
          refine n_istore_n hC dX3_areLike_50 (Nat.le_of_ble_eq_true rfl) ?_
          refine n_iincN hC dX3_areLike_51 (j := 1) (c := p + 1) rfl (by decide) rfl ?_
          refine n_goto hC (tgt := 5) dX3_areLike_54 (by decide) ?_
          exact WN.forget (L' := [some (.ref (na 61)), some (.int (nI r)), some (.int (nI t)), some (.int (nbo false)), some (.int (nI (p + 1)))]) (⟨Or.inr rfl, Or.inr rfl, Or.inr rfl, Or.inr rfl, Or.inr rfl, trivial⟩) (ih5 _ (by omega) (p + 1) false rfl (by omega) (by show (allb p _ && decide _) = false; first | (rw [hg, c_15]; rfl) | (rw [hg, c_15]; exact decide_eq_false (by assumption))))
        · skip
          refine n_aload_n hC dX3_areLike_18 rfl ?_
          refine m_getA hC 10 dX3_areLike_19 rfl rfl ?_
          refine n_aload_n hC dX3_areLike_22 rfl ?_
          refine n_iload_n hC dX3_areLike_23 rfl ?_
          refine n_iload hC dX3_areLike_24 rfl ?_
          refine n_callV2i hC (mt_X3_topRibbon na h (M) (n := n) (r := r) (p := p) hn (by omega) (by omega) (by omega) (fun q hq => (hcr q hq).1)) md_X3_topRibbon q1363 dX3_areLike_26 rfl (mPut_o _ _ _) rfl rfl ⟨rfl, rfl, by decide, by decide⟩ rfl (Nat.le_of_ble_eq_true rfl) (by decide) (by decide) (fun r0 na0 h0 hp0 => ?_)
          obtain ⟨rfl, rfl, rfl⟩ := hp0
          refine m_aldN hC 10 (v := M 10 (mTop M n r p)) dX3_areLike_29 rfl rfl (by have h9 : mLen 10 = 9 := rfl; omega) rfl ?_
          refine n_aload_n hC dX3_areLike_30 rfl ?_
          refine m_getA hC 10 dX3_areLike_31 rfl rfl ?_
          refine n_aload_n hC dX3_areLike_34 rfl ?_
          refine n_iload_n hC dX3_areLike_35 rfl ?_
          refine n_iload hC dX3_areLike_36 rfl ?_
          refine n_callV2i hC (mt_X3_topRibbon na h (M) (n := n) (r := t) (p := p) hn (by omega) (by omega) (by omega) (fun q hq => (hct q hq).1)) md_X3_topRibbon q1363 dX3_areLike_38 rfl (mPut_o _ _ _) rfl rfl ⟨rfl, rfl, by decide, by decide⟩ rfl (Nat.le_of_ble_eq_true rfl) (by decide) (by decide) (fun r1 na1 h1 hp1 => ?_)
          obtain ⟨rfl, rfl, rfl⟩ := hp1
          refine m_aldN hC 10 (v := M 10 (mTop M n t p)) dX3_areLike_41 rfl rfl (by have h9 : mLen 10 = 9 := rfl; omega) rfl ?_
          refine n_icmp_ne hC (tgt := 49) dX3_areLike_42 (by decide) (fun c_42 => ?_) (fun c_42 => ?_)
          · skip
            refine n_iconst hC (v := nbo false) dX3_areLike_49 (by decide) ?_
            refine n_istore_n hC dX3_areLike_50 (Nat.le_of_ble_eq_true rfl) ?_
            refine n_iincN hC dX3_areLike_51 (j := 1) (c := p + 1) rfl (by decide) rfl ?_
            refine n_goto hC (tgt := 5) dX3_areLike_54 (by decide) ?_
            exact WN.forget (L' := [some (.ref (na 61)), some (.int (nI r)), some (.int (nI t)), some (.int (nbo false)), some (.int (nI (p + 1)))]) (⟨Or.inr rfl, Or.inr rfl, Or.inr rfl, Or.inr rfl, Or.inr rfl, trivial⟩) (ih5 _ (by omega) (p + 1) false rfl (by omega) (by show (allb p _ && decide _) = false; first | (rw [hg, c_15]; rfl) | (rw [hg, c_15]; exact decide_eq_false (by assumption))))
          · skip
            refine n_iconst hC (v := nbo true) dX3_areLike_45 (by decide) ?_
            refine n_goto hC (tgt := 50) dX3_areLike_46 (by decide) ?_
            refine n_istore_n hC dX3_areLike_50 (Nat.le_of_ble_eq_true rfl) ?_
            refine n_iincN hC dX3_areLike_51 (j := 1) (c := p + 1) rfl (by decide) rfl ?_
            refine n_goto hC (tgt := 5) dX3_areLike_54 (by decide) ?_
            exact WN.forget (L' := [some (.ref (na 61)), some (.int (nI r)), some (.int (nI t)), some (.int (nbo true)), some (.int (nI (p + 1)))]) (⟨Or.inr rfl, Or.inr rfl, Or.inr rfl, Or.inr rfl, Or.inr rfl, trivial⟩) (ih5 _ (by omega) (p + 1) true rfl (by omega) (by show (allb p _ && decide _) = true; rw [hg, c_15]; exact decide_eq_true (by assumption)))
  exact WN.forget (L' := [some (.ref (na 61)), some (.int (nI r)), some (.int (nI t)), some (.int (nbo true)), some (.int (nI 0))]) (⟨Or.inr rfl, Or.inr rfl, Or.inr rfl, Or.inr rfl, Or.inr rfl, trivial⟩) (lp5 _ 0 true rfl (by omega) rfl)

/-- whether the cloth beats by b -/
def mBt (M : nMem) (b : Nat) : Bool := allb (mN M 15 - b) (fun i => mLike M (mN M 1) (b + i) i)
def o_beat (M : nMem) : Int32 × nMem := (if mN M 15 = 0 then -3 else nI (fstb (mBt M) (mN M 15 - 1) 1), M)
set_option maxHeartbeats 4000000 in
set_option maxRecDepth 100000 in
theorem mt_X3_beat (na : nA) (h : nH) (M : nMem) (hI : mInv M) : nM yX3_beat cX3_beat 4 (some .int) (nRm 3 0 0) [.ref (na 61)] na (mPut na h M) (nQi (mOp na h (o_beat M))) 0 0 := by
  refine nM.ofN RX3 rfl (by decide) (by intro v hv; simp only [List.mem_cons, List.not_mem_nil, or_false] at hv; subst hv; rfl) (Nat.le_of_ble_eq_true rfl) (fun K hC hnm => ?_)
  show WN K na (mPut na h M) 0 0 (nE K (nQi (mOp na h (o_beat M))) 0 0) 0 [some (.ref (na 61)), none, none, none] []
  let Q9 : State → Prop := nE K (nQi (mOp na h (o_beat M))) 0 0
  show WN K na (mPut na h M) 0 0 Q9 0 [some (.ref (na 61)), none, none, none] []
  obtain ⟨⟨h0, b0⟩, ⟨h1, b1a, b1⟩, ⟨h11, b11⟩, ⟨h14, b14⟩, ⟨h15, b15, b15n⟩, ⟨h20, b20⟩, ⟨h26, b26⟩, ⟨h27, b27⟩, ⟨h55, b55⟩, iP, iH, iHi, iHd, iC, iT, iF, iG, iS, iZ⟩ := hI
  refine n_aload_n hC dX3_beat_0 rfl ?_
  refine m_getI hC 15 (v := nI (mN M 15)) dX3_beat_1 rfl rfl (by decide) h15 ?_
  refine n_if_neN hC (tgt := 10) dX3_beat_4 (by decide) (by omega) (fun c_4 => ?_) (fun c_4 => ?_)
  · skip
    refine n_iconst hC (v := nI 1) dX3_beat_10 (by decide) ?_
    refine n_istore_n hC dX3_beat_11 (Nat.le_of_ble_eq_true rfl) ?_
    have lp12 : ∀ d9 : Nat, ∀ (b : Nat), mN M 15 - b = d9 → (1 ≤ b ∧ b ≤ mN M 15) → (fstb (mBt M) (mN M 15 - b) b = fstb (mBt M) (mN M 15 - 1) 1) → WN K na (mPut na h M) 0 0 Q9 12 [some (.ref (na 61)), some (.int (nI b)), none, none] [] := by
      intro d9
      induction d9 using Nat.strongRecOn with
      | _ d9 ih12 =>
        intro b hd12 hb1 hb2
        refine n_iload_n hC dX3_beat_12 rfl ?_
        refine n_aload_n hC dX3_beat_13 rfl ?_
        refine m_getI hC 15 (v := nI (mN M 15)) dX3_beat_14 rfl rfl (by decide) h15 ?_
        refine n_icmp_geN hC (tgt := 71) dX3_beat_17 (by decide) (by omega) (by omega) (fun c_17 => ?_) (fun c_17 => ?_)
        · skip
          refine n_aload_n hC dX3_beat_71 rfl ?_
          refine m_getI hC 15 (v := nI (mN M 15)) dX3_beat_72 rfl rfl (by decide) h15 ?_
          exact n_iret hC dX3_beat_75 (by decide) (by decide) (⟨rfl, by simp only [o_beat, c_4, if_false]; rw [← hb2, show mN M 15 - b = 0 by omega]; show nI b = _; rw [show b = mN M 15 by omega], M, rfl, mEq.rf⟩)
        · skip
          refine n_iconst hC (v := nbo true) dX3_beat_20 (by decide) ?_
          refine n_istore_n hC dX3_beat_21 (Nat.le_of_ble_eq_true rfl) ?_
          refine n_iload_n hC dX3_beat_22 rfl ?_
          refine n_istore_n hC dX3_beat_23 (Nat.le_of_ble_eq_true rfl) ?_
          have lp24 : ∀ d9 : Nat, ∀ (r : Nat) (g : Bool), mN M 15 - r = d9 → (b ≤ r ∧ r ≤ mN M 15) → (allb (r - b) (fun i => mLike M (mN M 1) (b + i) i) = g) → WN K na (mPut na h M) 0 0 Q9 24 [some (.ref (na 61)), some (.int (nI b)), some (.int (nbo g)), some (.int (nI r))] [] := by
            intro d9
            induction d9 using Nat.strongRecOn with
            | _ d9 ih24 =>
              intro r g hd24 hr hg
              refine n_iload_n hC dX3_beat_24 rfl ?_
              refine n_aload_n hC dX3_beat_25 rfl ?_
              refine m_getI hC 15 (v := nI (mN M 15)) dX3_beat_26 rfl rfl (by decide) h15 ?_
              refine n_icmp_geN hC (tgt := 59) dX3_beat_29 (by decide) (by omega) (by omega) (fun c_29 => ?_) (fun c_29 => ?_)
              · skip
                have hr9 : r = mN M 15 := by omega
                subst hr9
                refine n_iload_n hC dX3_beat_59 rfl ?_
                refine n_if_eqB hC (tgt := 65) dX3_beat_60 (by decide) (fun c_60 => ?_) (fun c_60 => ?_)
                · skip
                  have hB : mBt M b = false := hg.trans c_60
                  refine n_iincN hC dX3_beat_65 (j := 1) (c := b + 1) rfl (by decide) rfl ?_
                  refine n_goto hC (tgt := 12) dX3_beat_68 (by decide) ?_
                  exact WN.forget (L' := [some (.ref (na 61)), some (.int (nI (b + 1))), none, none]) (⟨Or.inr rfl, Or.inr rfl, Or.inl rfl, Or.inl rfl, trivial⟩) (ih12 _ (by omega) (b + 1) rfl (by omega) (by rw [← hb2, show mN M 15 - b = (mN M 15 - (b + 1)) + 1 by omega, fstb_f hB]))
                · skip
                  have hB : mBt M b = true := hg.trans c_60
                  refine n_iload_n hC dX3_beat_63 rfl ?_
                  exact n_iret hC dX3_beat_64 (by decide) (by decide) (⟨rfl, by simp only [o_beat, c_4, if_false]; rw [← hb2, show mN M 15 - b = (mN M 15 - b - 1) + 1 by omega, fstb_t hB], M, rfl, mEq.rf⟩)
              · skip
                refine n_iload_n hC dX3_beat_32 rfl ?_
                refine n_if_eqB hC (tgt := 51) dX3_beat_33 (by decide) (fun c_33 => ?_) (fun c_33 => ?_)
                · skip
                  refine n_iconst hC (v := nbo false) dX3_beat_51 (by decide) ?_
                  refine n_istore_n hC dX3_beat_52 (Nat.le_of_ble_eq_true rfl) ?_
                  refine n_iincN hC dX3_beat_53 (j := 1) (c := r + 1) rfl (by decide) rfl ?_
                  refine n_goto hC (tgt := 24) dX3_beat_56 (by decide) ?_
                  exact WN.forget (L' := [some (.ref (na 61)), some (.int (nI b)), some (.int (nbo false)), some (.int (nI (r + 1)))]) (⟨Or.inr rfl, Or.inr rfl, Or.inr rfl, Or.inr rfl, trivial⟩) (ih24 _ (by omega) (r + 1) false rfl (by omega) (by rw [show r + 1 - b = (r - b) + 1 by omega]; show (allb (r - b) _ && mLike _ _ (b + (r - b)) (r - b)) = false; rw [show b + (r - b) = r by omega]; simp [hg, *]))
                · skip
                  refine n_aload_n hC dX3_beat_36 rfl ?_
                  refine n_iload_n hC dX3_beat_37 rfl ?_
                  refine n_iload_n hC dX3_beat_38 rfl ?_
                  refine n_iload_n hC dX3_beat_39 rfl ?_
                  refine n_isubN hC dX3_beat_40 (by omega) rfl ?_
                  refine n_callV2z hC (mt_X3_areLike na h (M) (n := mN M 1) (r := r) (t := r - b) h1 (by omega) (by omega) (by omega) (fun q hq => iC _ q (by omega) hq) (fun q hq => iC _ q (by omega) hq)) md_X3_areLike q1375 dX3_beat_41 rfl (mPut_o _ _ _) rfl rfl ⟨rfl, rfl, by decide, by decide⟩ rfl (Nat.le_of_ble_eq_true rfl) (by decide) (by decide) (fun r0 na0 h0 hp0 => ?_)
                  obtain ⟨rfl, rfl, rfl⟩ := hp0
                  refine n_if_eqB hC (tgt := 51) dX3_beat_44 (by decide) (fun c_44 => ?_) (fun c_44 => ?_)
                  · skip
                    refine n_iconst hC (v := nbo false) dX3_beat_51 (by decide) ?_
                    refine n_istore_n hC dX3_beat_52 (Nat.le_of_ble_eq_true rfl) ?_
                    refine n_iincN hC dX3_beat_53 (j := 1) (c := r + 1) rfl (by decide) rfl ?_
                    refine n_goto hC (tgt := 24) dX3_beat_56 (by decide) ?_
                    exact WN.forget (L' := [some (.ref (na 61)), some (.int (nI b)), some (.int (nbo false)), some (.int (nI (r + 1)))]) (⟨Or.inr rfl, Or.inr rfl, Or.inr rfl, Or.inr rfl, trivial⟩) (ih24 _ (by omega) (r + 1) false rfl (by omega) (by rw [show r + 1 - b = (r - b) + 1 by omega]; show (allb (r - b) _ && mLike _ _ (b + (r - b)) (r - b)) = false; rw [show b + (r - b) = r by omega]; simp [hg, *]))
                  · skip
                    refine n_iconst hC (v := nbo true) dX3_beat_47 (by decide) ?_
                    refine n_goto hC (tgt := 52) dX3_beat_48 (by decide) ?_
                    refine n_istore_n hC dX3_beat_52 (Nat.le_of_ble_eq_true rfl) ?_
                    refine n_iincN hC dX3_beat_53 (j := 1) (c := r + 1) rfl (by decide) rfl ?_
                    refine n_goto hC (tgt := 24) dX3_beat_56 (by decide) ?_
                    exact WN.forget (L' := [some (.ref (na 61)), some (.int (nI b)), some (.int (nbo true)), some (.int (nI (r + 1)))]) (⟨Or.inr rfl, Or.inr rfl, Or.inr rfl, Or.inr rfl, trivial⟩) (ih24 _ (by omega) (r + 1) true rfl (by omega) (by rw [show r + 1 - b = (r - b) + 1 by omega]; show (allb (r - b) _ && mLike _ _ (b + (r - b)) (r - b)) = true; rw [show b + (r - b) = r by omega]; simp [hg, *]))
          exact WN.forget (L' := [some (.ref (na 61)), some (.int (nI b)), some (.int (nbo true)), some (.int (nI b))]) (⟨Or.inr rfl, Or.inr rfl, Or.inr rfl, Or.inr rfl, trivial⟩) (lp24 _ b true rfl (by omega) (by rw [Nat.sub_self]; rfl))
    exact WN.forget (L' := [some (.ref (na 61)), some (.int (nI 1)), none, none]) (⟨Or.inr rfl, Or.inr rfl, Or.inl rfl, Or.inl rfl, trivial⟩) (lp12 _ 1 rfl (by omega) rfl)
  · skip
    refine n_bipush hC (v := (-3)) dX3_beat_7 (by decide) ?_
    exact n_iret hC dX3_beat_9 (by decide) (by decide) (⟨rfl, by simp [o_beat, c_4], M, rfl, mEq.of (by simp [o_beat, c_4])⟩)

