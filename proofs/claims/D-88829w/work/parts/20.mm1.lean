/-! ===== THE REFERENCE's methods: small ones ===== -/
set_option maxRecDepth 100000
set_option maxHeartbeats 4000000 in
set_option maxRecDepth 100000 in
theorem mt_X3_in (na : nA) (h : nH) (M : nMem) (v lo hi : Int32) : nM yX3_in cX3_in 4 (some .boolean) (nRm 0 0 0) [.ref (na 61), .int v, .int lo, .int hi] na (mPut na h M) (nQi (mPure na h M (nbo (nrg v lo hi)))) 0 0 := by
  refine nM.ofN RX3 rfl (by decide) (by intro v hv; simp only [List.mem_cons, List.not_mem_nil, or_false] at hv; rcases hv with rfl | rfl | rfl | rfl <;> rfl) (Nat.le_of_ble_eq_true rfl) (fun K hC hnm => ?_)
  show WN K na (mPut na h M) 0 0 (nE K (nQi (mPure na h M (nbo (nrg v lo hi)))) 0 0) 0 [some (.ref (na 61)), some (.int v), some (.int lo), some (.int hi)] []
  let Q9 : State → Prop := nE K (nQi (mPure na h M (nbo (nrg v lo hi)))) 0 0
  show WN K na (mPut na h M) 0 0 Q9 0 [some (.ref (na 61)), some (.int v), some (.int lo), some (.int hi)] []
  refine n_iload_n hC dX3_in_0 rfl ?_
  refine n_iload_n hC dX3_in_1 rfl ?_
  refine n_icmp_lt hC (tgt := 14) dX3_in_2 (by decide) (fun c_2 => ?_) (fun c_2 => ?_)
  · skip
    refine n_iconst hC (v := nI 0) dX3_in_14 (by decide) ?_
    exact n_zret hC dX3_in_15 rfl (by decide) (by decide) (⟨nrg_f1 c_2, rfl, rfl⟩)
  · skip
    refine n_iload_n hC dX3_in_5 rfl ?_
    refine n_iload_n hC dX3_in_6 rfl ?_
    refine n_icmp_gt hC (tgt := 14) dX3_in_7 (by decide) (fun c_7 => ?_) (fun c_7 => ?_)
    · skip
      refine n_iconst hC (v := nI 0) dX3_in_14 (by decide) ?_
      exact n_zret hC dX3_in_15 rfl (by decide) (by decide) (⟨nrg_f2 c_7, rfl, rfl⟩)
    · skip
      refine n_iconst hC (v := nI 1) dX3_in_10 (by decide) ?_
      refine n_goto hC (tgt := 15) dX3_in_11 (by decide) ?_
      exact n_zret hC dX3_in_15 rfl (by decide) (by decide) (⟨nrg_t c_2 c_7, rfl, rfl⟩)

set_option maxHeartbeats 4000000 in
set_option maxRecDepth 100000 in
theorem mt_X3_isPerson (na : nA) (h : nH) (M : nMem) (p : Int32) {n : Nat} (hn : M 0 0 = nI n) (hn9 : n < 2 ^ 31) : nM yX3_isPerson cX3_isPerson 2 (some .boolean) (nRm 1 0 0) [.ref (na 61), .int p] na (mPut na h M) (nQi (mPure na h M (nbo (nin p n)))) 0 0 := by
  refine nM.ofN RX3 rfl (by decide) (by intro v hv; simp only [List.mem_cons, List.not_mem_nil, or_false] at hv; rcases hv with rfl | rfl <;> rfl) (Nat.le_of_ble_eq_true rfl) (fun K hC hnm => ?_)
  show WN K na (mPut na h M) 0 0 (nE K (nQi (mPure na h M (nbo (nin p n)))) 0 0) 0 [some (.ref (na 61)), some (.int p)] []
  let Q9 : State → Prop := nE K (nQi (mPure na h M (nbo (nin p n)))) 0 0
  show WN K na (mPut na h M) 0 0 Q9 0 [some (.ref (na 61)), some (.int p)] []
  refine n_aload_n hC dX3_isPerson_0 rfl ?_
  refine n_iload_n hC dX3_isPerson_1 rfl ?_
  refine n_iconst hC (v := nI 0) dX3_isPerson_2 (by decide) ?_
  refine n_aload_n hC dX3_isPerson_3 rfl ?_
  refine m_getI hC 0 (v := nI n) dX3_isPerson_4 rfl rfl (by decide) hn ?_
  refine n_iconst hC (v := nI 1) dX3_isPerson_7 (by decide) ?_
  refine n_isub hC dX3_isPerson_8 ?_
  refine n_callV3z hC (mt_X3_in na h (M) (p) (nI 0) ((nI n) - (nI 1))) md_X3_in q1293 dX3_isPerson_9 rfl (mPut_o _ _ _) rfl rfl ⟨rfl, rfl, by decide, by decide⟩ rfl (Nat.le_of_ble_eq_true rfl) (by decide) (by decide) (fun r0 na0 h0 hp0 => ?_)
  obtain ⟨rfl, rfl, rfl⟩ := hp0
  exact n_zret hC dX3_isPerson_12 (nbo_nar _) (by decide) (by decide) (⟨by rw [← nrg_in hn9], rfl, rfl⟩)

set_option maxHeartbeats 4000000 in
set_option maxRecDepth 100000 in
theorem mt_X3_isPlace (na : nA) (h : nH) (M : nMem) (p : Int32) {n : Nat} (hn : M 1 0 = nI n) (hn9 : n < 2 ^ 31) : nM yX3_isPlace cX3_isPlace 2 (some .boolean) (nRm 1 0 0) [.ref (na 61), .int p] na (mPut na h M) (nQi (mPure na h M (nbo (nin p n)))) 0 0 := by
  refine nM.ofN RX3 rfl (by decide) (by intro v hv; simp only [List.mem_cons, List.not_mem_nil, or_false] at hv; rcases hv with rfl | rfl <;> rfl) (Nat.le_of_ble_eq_true rfl) (fun K hC hnm => ?_)
  show WN K na (mPut na h M) 0 0 (nE K (nQi (mPure na h M (nbo (nin p n)))) 0 0) 0 [some (.ref (na 61)), some (.int p)] []
  let Q9 : State → Prop := nE K (nQi (mPure na h M (nbo (nin p n)))) 0 0
  show WN K na (mPut na h M) 0 0 Q9 0 [some (.ref (na 61)), some (.int p)] []
  refine n_aload_n hC dX3_isPlace_0 rfl ?_
  refine n_iload_n hC dX3_isPlace_1 rfl ?_
  refine n_iconst hC (v := nI 0) dX3_isPlace_2 (by decide) ?_
  refine n_aload_n hC dX3_isPlace_3 rfl ?_
  refine m_getI hC 1 (v := nI n) dX3_isPlace_4 rfl rfl (by decide) hn ?_
  refine n_iconst hC (v := nI 1) dX3_isPlace_7 (by decide) ?_
  refine n_isub hC dX3_isPlace_8 ?_
  refine n_callV3z hC (mt_X3_in na h (M) (p) (nI 0) ((nI n) - (nI 1))) md_X3_in q1293 dX3_isPlace_9 rfl (mPut_o _ _ _) rfl rfl ⟨rfl, rfl, by decide, by decide⟩ rfl (Nat.le_of_ble_eq_true rfl) (by decide) (by decide) (fun r0 na0 h0 hp0 => ?_)
  obtain ⟨rfl, rfl, rfl⟩ := hp0
  exact n_zret hC dX3_isPlace_12 (nbo_nar _) (by decide) (by decide) (⟨by rw [← nrg_in hn9], rfl, rfl⟩)

set_option maxHeartbeats 4000000 in
set_option maxRecDepth 100000 in
theorem mt_X3_isFigure (na : nA) (h : nH) (M : nMem) (p : Int32) {n : Nat} (hn : M 26 0 = nI n) (hn9 : n < 2 ^ 31) : nM yX3_isFigure cX3_isFigure 2 (some .boolean) (nRm 1 0 0) [.ref (na 61), .int p] na (mPut na h M) (nQi (mPure na h M (nbo (nin p n)))) 0 0 := by
  refine nM.ofN RX3 rfl (by decide) (by intro v hv; simp only [List.mem_cons, List.not_mem_nil, or_false] at hv; rcases hv with rfl | rfl <;> rfl) (Nat.le_of_ble_eq_true rfl) (fun K hC hnm => ?_)
  show WN K na (mPut na h M) 0 0 (nE K (nQi (mPure na h M (nbo (nin p n)))) 0 0) 0 [some (.ref (na 61)), some (.int p)] []
  let Q9 : State → Prop := nE K (nQi (mPure na h M (nbo (nin p n)))) 0 0
  show WN K na (mPut na h M) 0 0 Q9 0 [some (.ref (na 61)), some (.int p)] []
  refine n_aload_n hC dX3_isFigure_0 rfl ?_
  refine n_iload_n hC dX3_isFigure_1 rfl ?_
  refine n_iconst hC (v := nI 0) dX3_isFigure_2 (by decide) ?_
  refine n_aload_n hC dX3_isFigure_3 rfl ?_
  refine m_getI hC 26 (v := nI n) dX3_isFigure_4 rfl rfl (by decide) hn ?_
  refine n_iconst hC (v := nI 1) dX3_isFigure_7 (by decide) ?_
  refine n_isub hC dX3_isFigure_8 ?_
  refine n_callV3z hC (mt_X3_in na h (M) (p) (nI 0) ((nI n) - (nI 1))) md_X3_in q1293 dX3_isFigure_9 rfl (mPut_o _ _ _) rfl rfl ⟨rfl, rfl, by decide, by decide⟩ rfl (Nat.le_of_ble_eq_true rfl) (by decide) (by decide) (fun r0 na0 h0 hp0 => ?_)
  obtain ⟨rfl, rfl, rfl⟩ := hp0
  exact n_zret hC dX3_isFigure_12 (nbo_nar _) (by decide) (by decide) (⟨by rw [← nrg_in hn9], rfl, rfl⟩)

set_option maxHeartbeats 4000000 in
set_option maxRecDepth 100000 in
theorem mt_X3_isTape (na : nA) (h : nH) (M : nMem) (t : Int32) : nM yX3_isTape cX3_isTape 2 (some .boolean) (nRm 1 0 0) [.ref (na 61), .int t] na (mPut na h M) (nQi (mPure na h M (nbo (nrg t (nI 0) (nI 5))))) 0 0 := by
  refine nM.ofN RX3 rfl (by decide) (by intro v hv; simp only [List.mem_cons, List.not_mem_nil, or_false] at hv; rcases hv with rfl | rfl <;> rfl) (Nat.le_of_ble_eq_true rfl) (fun K hC hnm => ?_)
  show WN K na (mPut na h M) 0 0 (nE K (nQi (mPure na h M (nbo (nrg t (nI 0) (nI 5))))) 0 0) 0 [some (.ref (na 61)), some (.int t)] []
  let Q9 : State → Prop := nE K (nQi (mPure na h M (nbo (nrg t (nI 0) (nI 5))))) 0 0
  show WN K na (mPut na h M) 0 0 Q9 0 [some (.ref (na 61)), some (.int t)] []
  refine n_aload_n hC dX3_isTape_0 rfl ?_
  refine n_iload_n hC dX3_isTape_1 rfl ?_
  refine n_iconst hC (v := nI 0) dX3_isTape_2 (by decide) ?_
  refine n_iconst hC (v := nI 5) dX3_isTape_3 (by decide) ?_
  refine n_callV3z hC (mt_X3_in na h (M) (t) (nI 0) (nI 5)) md_X3_in q1293 dX3_isTape_4 rfl (mPut_o _ _ _) rfl rfl ⟨rfl, rfl, by decide, by decide⟩ rfl (Nat.le_of_ble_eq_true rfl) (by decide) (by decide) (fun r0 na0 h0 hp0 => ?_)
  obtain ⟨rfl, rfl, rfl⟩ := hp0
  exact n_zret hC dX3_isTape_7 (nbo_nar _) (by decide) (by decide) (⟨rfl, rfl, rfl⟩)

set_option maxHeartbeats 4000000 in
set_option maxRecDepth 100000 in
theorem mt_X3_after (na : nA) (h : nH) (M : nMem) {p n : Nat} (hn : M 1 0 = nI n) (hn9 : n < 2 ^ 30) (hp : p < n) : nM yX3_after cX3_after 2 (some .int) (nRm 0 0 0) [.ref (na 61), .int (nI p)] na (mPut na h M) (nQi (mPure na h M (nI ((p + 1) % n)))) 0 0 := by
  refine nM.ofN RX3 rfl (by decide) (by intro v hv; simp only [List.mem_cons, List.not_mem_nil, or_false] at hv; rcases hv with rfl | rfl <;> rfl) (Nat.le_of_ble_eq_true rfl) (fun K hC hnm => ?_)
  show WN K na (mPut na h M) 0 0 (nE K (nQi (mPure na h M (nI ((p + 1) % n)))) 0 0) 0 [some (.ref (na 61)), some (.int (nI p))] []
  let Q9 : State → Prop := nE K (nQi (mPure na h M (nI ((p + 1) % n)))) 0 0
  show WN K na (mPut na h M) 0 0 Q9 0 [some (.ref (na 61)), some (.int (nI p))] []
  refine n_iload_n hC dX3_after_0 rfl ?_
  refine n_iconst hC (v := nI 1) dX3_after_1 (by decide) ?_
  refine n_iaddN hC dX3_after_2 rfl ?_
  refine n_aload_n hC dX3_after_3 rfl ?_
  refine m_getI hC 1 (v := nI n) dX3_after_4 rfl rfl (by decide) hn ?_
  refine n_icmp_neN hC (tgt := 14) dX3_after_7 (by decide) (by omega) (by omega) (fun c_7 => ?_) (fun c_7 => ?_)
  · skip
    refine n_iload_n hC dX3_after_14 rfl ?_
    refine n_iconst hC (v := nI 1) dX3_after_15 (by decide) ?_
    refine n_iaddN hC dX3_after_16 rfl ?_
    exact n_iret hC dX3_after_17 (by decide) (by decide) (⟨by rw [Nat.mod_eq_of_lt (by omega)], rfl, rfl⟩)
  · skip
    refine n_iconst hC (v := nI 0) dX3_after_10 (by decide) ?_
    refine n_goto hC (tgt := 17) dX3_after_11 (by decide) ?_
    exact n_iret hC dX3_after_17 (by decide) (by decide) (⟨by rw [c_7, Nat.mod_self], rfl, rfl⟩)

set_option maxHeartbeats 4000000 in
set_option maxRecDepth 100000 in
theorem mt_X3_ahead (na : nA) (h : nH) (M : nMem) {p n : Nat} (hn : M 1 0 = nI n) (hn9 : n < 2 ^ 30) (hp : p < n) : nM yX3_ahead cX3_ahead 2 (some .int) (nRm 0 0 0) [.ref (na 61), .int (nI p)] na (mPut na h M) (nQi (mPure na h M (nI ((p + (n - 1)) % n)))) 0 0 := by
  refine nM.ofN RX3 rfl (by decide) (by intro v hv; simp only [List.mem_cons, List.not_mem_nil, or_false] at hv; rcases hv with rfl | rfl <;> rfl) (Nat.le_of_ble_eq_true rfl) (fun K hC hnm => ?_)
  show WN K na (mPut na h M) 0 0 (nE K (nQi (mPure na h M (nI ((p + (n - 1)) % n)))) 0 0) 0 [some (.ref (na 61)), some (.int (nI p))] []
  let Q9 : State → Prop := nE K (nQi (mPure na h M (nI ((p + (n - 1)) % n)))) 0 0
  show WN K na (mPut na h M) 0 0 Q9 0 [some (.ref (na 61)), some (.int (nI p))] []
  refine n_iload_n hC dX3_ahead_0 rfl ?_
  refine n_if_neN hC (tgt := 13) dX3_ahead_1 (by decide) (by omega) (fun c_1 => ?_) (fun c_1 => ?_)
  · skip
    refine n_iload_n hC dX3_ahead_13 rfl ?_
    refine n_iconst hC (v := nI 1) dX3_ahead_14 (by decide) ?_
    refine n_isubN hC dX3_ahead_15 (by omega) rfl ?_
    exact n_iret hC dX3_ahead_16 (by decide) (by decide) (⟨by rw [show p + (n - 1) = (p - 1) + n by omega, Nat.add_mod_right, Nat.mod_eq_of_lt (by omega)], rfl, rfl⟩)
  · skip
    refine n_aload_n hC dX3_ahead_4 rfl ?_
    refine m_getI hC 1 (v := nI n) dX3_ahead_5 rfl rfl (by decide) hn ?_
    refine n_iconst hC (v := nI 1) dX3_ahead_8 (by decide) ?_
    refine n_isubN hC dX3_ahead_9 (by omega) rfl ?_
    refine n_goto hC (tgt := 16) dX3_ahead_10 (by decide) ?_
    exact n_iret hC dX3_ahead_16 (by decide) (by decide) (⟨by rw [c_1, Nat.zero_add, Nat.mod_eq_of_lt (by omega)], rfl, rfl⟩)
