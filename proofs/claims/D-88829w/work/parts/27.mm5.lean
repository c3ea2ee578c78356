/-! ===== THE REFERENCE's methods: acts, tapes, told, dance ===== -/
set_option maxRecDepth 100000
set_option maxHeartbeats 4000000 in
set_option maxRecDepth 100000 in
theorem mt_X3_body (na : nA) (h : nH) (M : nMem) (hr : M 55 0 = nI (mN M 55)) (hr9 : mN M 55 ≤ 980) (b : Nat) : nM yX3_body cX3_body 2 (none) (nRm 0 0 0) [.ref (na 61), .int (nI b)] na (mPut na h M) (nQv (mRelV na h (fun M2 => M2 = bds [b] M))) 0 0 := by
  refine nM.ofN RX3 rfl (by decide) (by intro v hv; simp only [List.mem_cons, List.not_mem_nil, or_false] at hv; rcases hv with rfl | rfl <;> rfl) (Nat.le_of_ble_eq_true rfl) (fun K hC hnm => ?_)
  show WN K na (mPut na h M) 0 0 (nE K (nQv (mRelV na h (fun M2 => M2 = bds [b] M))) 0 0) 0 [some (.ref (na 61)), some (.int (nI b))] []
  let Q9 : State → Prop := nE K (nQv (mRelV na h (fun M2 => M2 = bds [b] M))) 0 0
  show WN K na (mPut na h M) 0 0 Q9 0 [some (.ref (na 61)), some (.int (nI b))] []
  refine n_aload_n hC dX3_body_0 rfl ?_
  refine m_getI hC 55 (v := nI (mN M 55)) dX3_body_1 rfl rfl (by decide) hr ?_
  refine n_bipush hC (v := nI 20) dX3_body_4 (by decide) ?_
  refine n_icmp_geN hC (tgt := 19) dX3_body_6 (by decide) (by omega) (by omega) (fun c_6 => ?_) (fun c_6 => ?_)
  · skip
    refine n_aload_n hC dX3_body_19 rfl ?_
    refine n_dup hC dX3_body_20 rfl ?_
    refine m_getI hC 55 (v := nI (mN M 55)) dX3_body_21 rfl rfl (by decide) hr ?_
    refine n_iconst hC (v := nI 1) dX3_body_24 (by decide) ?_
    refine n_iaddN hC dX3_body_25 rfl ?_
    refine m_putI hC 55 (M2 := mset M 55 (fun _ => nI (mN M 55 + 1))) dX3_body_26 rfl rfl (by decide) rfl rfl rfl rfl rfl ?_
    exact n_vret hC dX3_body_29 (by decide) (by decide) (⟨rfl, _, rfl, by show _ = bd1 M b; unfold bd1; rw [if_neg (by omega), mset_id]⟩)
  · skip
    refine n_aload_n hC dX3_body_9 rfl ?_
    refine m_getA hC 56 dX3_body_10 rfl rfl ?_
    refine n_aload_n hC dX3_body_13 rfl ?_
    refine m_getI hC 55 (v := nI (mN M 55)) dX3_body_14 rfl rfl (by decide) hr ?_
    refine n_iload_n hC dX3_body_17 rfl ?_
    refine m_astN hC 56 (M2 := mset M 56 (upd (M 56) (mN M 55) (nI b))) dX3_body_18 rfl rfl (by have h9 : mLen 56 = 20 := rfl; omega) rfl ?_
    refine n_aload_n hC dX3_body_19 rfl ?_
    refine n_dup hC dX3_body_20 rfl ?_
    refine m_getI hC 55 (v := nI (mN M 55)) dX3_body_21 rfl rfl (by decide) hr ?_
    refine n_iconst hC (v := nI 1) dX3_body_24 (by decide) ?_
    refine n_iaddN hC dX3_body_25 rfl ?_
    refine m_putI hC 55 (M2 := mset (mset M 56 (upd (M 56) (mN M 55) (nI b))) 55 (fun _ => nI (mN M 55 + 1))) dX3_body_26 rfl rfl (by decide) rfl rfl rfl rfl rfl ?_
    exact n_vret hC dX3_body_29 (by decide) (by decide) (⟨rfl, _, rfl, by show _ = bd1 M b; unfold bd1; rw [if_pos c_6]⟩)

set_option maxHeartbeats 4000000 in
set_option maxRecDepth 100000 in
theorem mt_X3_plainGreets (na : nA) (h : nH) (M : nMem) (hr : M 55 0 = nI (mN M 55)) (hr9 : mN M 55 ≤ 970) {i : Nat} (hi : i < 15) (x : Int32) : nM yX3_plainGreets cX3_plainGreets 3 (some .int) (nRm 1 0 0) [.ref (na 61), .int (nI i), .int x] na (mPut na h M) (nQi (mRel na h (fun r M2 => x + M 3 i = r ∧ M2 = bds [10] M))) 0 0 := by
  refine nM.ofN RX3 rfl (by decide) (by intro v hv; simp only [List.mem_cons, List.not_mem_nil, or_false] at hv; rcases hv with rfl | rfl | rfl <;> rfl) (Nat.le_of_ble_eq_true rfl) (fun K hC hnm => ?_)
  show WN K na (mPut na h M) 0 0 (nE K (nQi (mRel na h (fun r M2 => x + M 3 i = r ∧ M2 = bds [10] M))) 0 0) 0 [some (.ref (na 61)), some (.int (nI i)), some (.int x)] []
  let Q9 : State → Prop := nE K (nQi (mRel na h (fun r M2 => x + M 3 i = r ∧ M2 = bds [10] M))) 0 0
  show WN K na (mPut na h M) 0 0 Q9 0 [some (.ref (na 61)), some (.int (nI i)), some (.int x)] []
  refine n_aload_n hC dX3_plainGreets_0 rfl ?_
  refine n_bipush hC (v := nI 10) dX3_plainGreets_1 (by decide) ?_
  refine n_callV1v hC (mt_X3_body na h (M) hr (by omega) 10) md_X3_body q1554 dX3_plainGreets_3 rfl (mPut_o _ _ _) rfl rfl ⟨rfl, rfl, by decide, by decide⟩ rfl (Nat.le_of_ble_eq_true rfl) (by decide) (by decide) (fun na0 h0 hp0 => ?_)
  obtain ⟨rfl, M_0, rfl, rfl⟩ := hp0
  have hq_0 := bds_n (l := [10]) (M := M) hr (by simp; omega)
  have hr_0 := hq_0.2 ▸ hq_0.1
  have hb_0 := hq_0.2
  simp only [List.length_cons, List.length_nil] at hb_0
  refine n_iload_n hC dX3_plainGreets_6 rfl ?_
  refine n_aload_n hC dX3_plainGreets_7 rfl ?_
  refine m_getA hC 3 dX3_plainGreets_8 rfl rfl ?_
  refine n_iload_n hC dX3_plainGreets_11 rfl ?_
  refine m_aldN hC 3 (v := M 3 i) dX3_plainGreets_12 rfl rfl (by have h9 : mLen 3 = 15 := rfl; omega) (congrFun ((bds_fr _ _) 3 (by decide)) i) ?_
  refine n_iadd hC dX3_plainGreets_13 ?_
  exact n_iret hC dX3_plainGreets_14 (by decide) (by decide) (⟨rfl, _, rfl, rfl, rfl⟩)

set_option maxHeartbeats 4000000 in
set_option maxRecDepth 100000 in
theorem mt_X3_greetsOf (na : nA) (h : nH) (M : nMem) (hr : M 55 0 = nI (mN M 55)) (hr9 : mN M 55 ≤ 950) {i k : Nat} (hi : i < 15) (hk : M 2 i = nI k) (hk9 : k ≤ 4) (x : Int32) : nM yX3_greetsOf cX3_greetsOf 3 (some .int) (nRm 2 0 0) [.ref (na 61), .int (nI i), .int x] na (mPut na h M) (nQi (mRel na h (fun r M2 => vG k (M 3 i) x = r ∧ M2 = bds (tG k) M))) 0 0 := by
  refine nM.ofN RX3 rfl (by decide) (by intro v hv; simp only [List.mem_cons, List.not_mem_nil, or_false] at hv; rcases hv with rfl | rfl | rfl <;> rfl) (Nat.le_of_ble_eq_true rfl) (fun K hC hnm => ?_)
  show WN K na (mPut na h M) 0 0 (nE K (nQi (mRel na h (fun r M2 => vG k (M 3 i) x = r ∧ M2 = bds (tG k) M))) 0 0) 0 [some (.ref (na 61)), some (.int (nI i)), some (.int x)] []
  let Q9 : State → Prop := nE K (nQi (mRel na h (fun r M2 => vG k (M 3 i) x = r ∧ M2 = bds (tG k) M))) 0 0
  show WN K na (mPut na h M) 0 0 Q9 0 [some (.ref (na 61)), some (.int (nI i)), some (.int x)] []
  refine n_aload_n hC dX3_greetsOf_0 rfl ?_
  refine m_getA hC 2 dX3_greetsOf_1 rfl rfl ?_
  refine n_iload_n hC dX3_greetsOf_4 rfl ?_
  refine m_aldN hC 2 (v := nI k) dX3_greetsOf_5 rfl rfl (by have h9 : mLen 2 = 15 := rfl; omega) hk ?_
  refine n_iconst hC (v := nI 1) dX3_greetsOf_6 (by decide) ?_
  refine n_icmp_neN hC (tgt := 25) dX3_greetsOf_7 (by decide) (by omega) (by omega) (fun c_7 => ?_) (fun c_7 => ?_)
  · skip
    refine n_aload_n hC dX3_greetsOf_25 rfl ?_
    refine m_getA hC 2 dX3_greetsOf_26 rfl rfl ?_
    refine n_iload_n hC dX3_greetsOf_29 rfl ?_
    refine m_aldN hC 2 (v := nI k) dX3_greetsOf_30 rfl rfl (by have h9 : mLen 2 = 15 := rfl; omega) hk ?_
    refine n_iconst hC (v := nI 3) dX3_greetsOf_31 (by decide) ?_
    refine n_icmp_neN hC (tgt := 50) dX3_greetsOf_32 (by decide) (by omega) (by omega) (fun c_32 => ?_) (fun c_32 => ?_)
    · skip
      refine n_aload_n hC dX3_greetsOf_50 rfl ?_
      refine n_iload_n hC dX3_greetsOf_51 rfl ?_
      refine n_iload_n hC dX3_greetsOf_52 rfl ?_
      refine n_callV2i hC (mt_X3_plainGreets na h (M) hr (by omega) (i := i) hi x) md_X3_plainGreets q1558 dX3_greetsOf_53 rfl (mPut_o _ _ _) rfl rfl ⟨rfl, rfl, by decide, by decide⟩ rfl (Nat.le_of_ble_eq_true rfl) (by decide) (by decide) (fun r0 na0 h0 hp0 => ?_)
      obtain ⟨rfl, M_0, rfl, rfl, rfl⟩ := hp0
      rw [show x + M 3 i = x + M 3 i from rfl]
      exact n_iret hC dX3_greetsOf_56 (by decide) (by decide) (⟨rfl, _, rfl, by unfold vG; rw [if_neg c_7, if_neg c_32], by unfold tG; rw [if_neg c_7, if_neg c_32]⟩)
    · skip
      refine n_aload_n hC dX3_greetsOf_35 rfl ?_
      refine n_bipush hC (v := nI 40) dX3_greetsOf_36 (by decide) ?_
      refine n_callV1v hC (mt_X3_body na h (M) hr (by omega) 40) md_X3_body q1554 dX3_greetsOf_38 rfl (mPut_o _ _ _) rfl rfl ⟨rfl, rfl, by decide, by decide⟩ rfl (Nat.le_of_ble_eq_true rfl) (by decide) (by decide) (fun na1 h1 hp1 => ?_)
      obtain ⟨rfl, M_1, rfl, rfl⟩ := hp1
      have hq_1 := bds_n (l := [40]) (M := M) hr (by simp; omega)
      have hr_1 := hq_1.2 ▸ hq_1.1
      have hb_1 := hq_1.2
      simp only [List.length_cons, List.length_nil] at hb_1
      refine n_aload_n hC dX3_greetsOf_41 rfl ?_
      refine n_iload_n hC dX3_greetsOf_42 rfl ?_
      refine n_iload_n hC dX3_greetsOf_43 rfl ?_
      refine n_iconst hC (v := nI 3) dX3_greetsOf_44 (by decide) ?_
      refine n_imul hC dX3_greetsOf_45 ?_
      refine n_callV2i hC (mt_X3_plainGreets na h ((bds ([40]) M)) hr_1 (by omega) (i := i) hi (x * (nI 3))) md_X3_plainGreets q1558 dX3_greetsOf_46 rfl (mPut_o _ _ _) rfl rfl ⟨rfl, rfl, by decide, by decide⟩ rfl (Nat.le_of_ble_eq_true rfl) (by decide) (by decide) (fun r2 na2 h2 hp2 => ?_)
      obtain ⟨rfl, M_2, rfl, rfl, rfl⟩ := hp2
      rw [show (x * (nI 3)) + (bds ([40]) M) 3 i = (x * (nI 3)) + M 3 i from by rw [congrFun ((bds_fr _ _) 3 (by decide)) i]]
      exact n_iret hC dX3_greetsOf_49 (by decide) (by decide) (⟨rfl, _, rfl, by unfold vG; rw [if_neg c_7, if_pos c_32], by unfold tG; rw [if_neg c_7, if_pos c_32]; rfl⟩)
  · skip
    refine n_aload_n hC dX3_greetsOf_10 rfl ?_
    refine n_bipush hC (v := nI 20) dX3_greetsOf_11 (by decide) ?_
    refine n_callV1v hC (mt_X3_body na h (M) hr (by omega) 20) md_X3_body q1554 dX3_greetsOf_13 rfl (mPut_o _ _ _) rfl rfl ⟨rfl, rfl, by decide, by decide⟩ rfl (Nat.le_of_ble_eq_true rfl) (by decide) (by decide) (fun na3 h3 hp3 => ?_)
    obtain ⟨rfl, M_3, rfl, rfl⟩ := hp3
    have hq_3 := bds_n (l := [20]) (M := M) hr (by simp; omega)
    have hr_3 := hq_3.2 ▸ hq_3.1
    have hb_3 := hq_3.2
    simp only [List.length_cons, List.length_nil] at hb_3
    refine n_aload_n hC dX3_greetsOf_16 rfl ?_
    refine n_iload_n hC dX3_greetsOf_17 rfl ?_
    refine n_iload_n hC dX3_greetsOf_18 rfl ?_
    refine n_callV2i hC (mt_X3_plainGreets na h ((bds ([20]) M)) hr_3 (by omega) (i := i) hi x) md_X3_plainGreets q1558 dX3_greetsOf_19 rfl (mPut_o _ _ _) rfl rfl ⟨rfl, rfl, by decide, by decide⟩ rfl (Nat.le_of_ble_eq_true rfl) (by decide) (by decide) (fun r4 na4 h4 hp4 => ?_)
    obtain ⟨rfl, M_4, rfl, rfl, rfl⟩ := hp4
    rw [show x + (bds ([20]) M) 3 i = x + M 3 i from by rw [congrFun ((bds_fr _ _) 3 (by decide)) i]]
    refine n_iconst hC (v := nI 4) dX3_greetsOf_22 (by decide) ?_
    refine n_isub hC dX3_greetsOf_23 ?_
    exact n_iret hC dX3_greetsOf_24 (by decide) (by decide) (⟨rfl, _, rfl, by unfold vG; rw [if_pos c_7], by unfold tG; rw [if_pos c_7]; rfl⟩)

set_option maxHeartbeats 4000000 in
set_option maxRecDepth 100000 in
theorem mt_X3_plainLeads (na : nA) (h : nH) (M : nMem) (hr : M 55 0 = nI (mN M 55)) (hr9 : mN M 55 ≤ 930) {i k : Nat} (hi : i < 15) (hk : M 2 i = nI k) (hk9 : k ≤ 4) (x : Int32) : nM yX3_plainLeads cX3_plainLeads 3 (some .int) (nRm 3 0 0) [.ref (na 61), .int (nI i), .int x] na (mPut na h M) (nQi (mRel na h (fun r M2 => vPL k (M 3 i) (M 4 i) x = r ∧ M2 = bds (tPL k) M))) 0 0 := by
  refine nM.ofN RX3 rfl (by decide) (by intro v hv; simp only [List.mem_cons, List.not_mem_nil, or_false] at hv; rcases hv with rfl | rfl | rfl <;> rfl) (Nat.le_of_ble_eq_true rfl) (fun K hC hnm => ?_)
  show WN K na (mPut na h M) 0 0 (nE K (nQi (mRel na h (fun r M2 => vPL k (M 3 i) (M 4 i) x = r ∧ M2 = bds (tPL k) M))) 0 0) 0 [some (.ref (na 61)), some (.int (nI i)), some (.int x)] []
  let Q9 : State → Prop := nE K (nQi (mRel na h (fun r M2 => vPL k (M 3 i) (M 4 i) x = r ∧ M2 = bds (tPL k) M))) 0 0
  show WN K na (mPut na h M) 0 0 Q9 0 [some (.ref (na 61)), some (.int (nI i)), some (.int x)] []
  refine n_aload_n hC dX3_plainLeads_0 rfl ?_
  refine n_bipush hC (v := nI 11) dX3_plainLeads_1 (by decide) ?_
  refine n_callV1v hC (mt_X3_body na h (M) hr (by omega) 11) md_X3_body q1554 dX3_plainLeads_3 rfl (mPut_o _ _ _) rfl rfl ⟨rfl, rfl, by decide, by decide⟩ rfl (Nat.le_of_ble_eq_true rfl) (by decide) (by decide) (fun na0 h0 hp0 => ?_)
  obtain ⟨rfl, M_0, rfl, rfl⟩ := hp0
  have hq_0 := bds_n (l := [11]) (M := M) hr (by simp; omega)
  have hr_0 := hq_0.2 ▸ hq_0.1
  have hb_0 := hq_0.2
  simp only [List.length_cons, List.length_nil] at hb_0
  refine n_aload_n hC dX3_plainLeads_6 rfl ?_
  refine n_iload_n hC dX3_plainLeads_7 rfl ?_
  refine n_iload_n hC dX3_plainLeads_8 rfl ?_
  refine n_callV2i hC (mt_X3_greetsOf na h ((bds ([11]) M)) hr_0 (by omega) (i := i) (k := k) hi ((congrFun ((bds_fr _ _) 2 (by decide)) i).trans hk) hk9 x) md_X3_greetsOf q1550 dX3_plainLeads_9 rfl (mPut_o _ _ _) rfl rfl ⟨rfl, rfl, by decide, by decide⟩ rfl (Nat.le_of_ble_eq_true rfl) (by decide) (by decide) (fun r1 na1 h1 hp1 => ?_)
  obtain ⟨rfl, M_1, rfl, rfl, rfl⟩ := hp1
  have hl_1 := tG_len k
  have hq_1 := bds_n (l := tG k) (M := (bds ([11]) M)) hr_0 (by omega)
  have hr_1 := hq_1.2 ▸ hq_1.1
  have hb_1 := hq_1.2
  rw [show vG k ((bds ([11]) M) 3 i) x = vG k (M 3 i) x from by rw [congrFun ((bds_fr _ _) 3 (by decide)) i]]
  refine n_aload_n hC dX3_plainLeads_12 rfl ?_
  refine m_getA hC 4 dX3_plainLeads_13 rfl rfl ?_
  refine n_iload_n hC dX3_plainLeads_16 rfl ?_
  refine m_aldN hC 4 (v := M 4 i) dX3_plainLeads_17 rfl rfl (by have h9 : mLen 4 = 15 := rfl; omega) (congrFun ((mFr.trans (fun _ h => h) (bds_fr _ _) (bds_fr _ _)) 4 (by decide)) i) ?_
  refine n_isub hC dX3_plainLeads_18 ?_
  exact n_iret hC dX3_plainLeads_19 (by decide) (by decide) (⟨rfl, _, rfl, rfl, rfl⟩)

set_option maxHeartbeats 4000000 in
set_option maxRecDepth 100000 in
theorem mt_X3_leaderLeads (na : nA) (h : nH) (M : nMem) (hr : M 55 0 = nI (mN M 55)) (hr9 : mN M 55 ≤ 900) {i k : Nat} (hi : i < 15) (hk : M 2 i = nI k) (hk9 : k ≤ 4) (x : Int32) : nM yX3_leaderLeads cX3_leaderLeads 4 (some .int) (nRm 4 0 0) [.ref (na 61), .int (nI i), .int x] na (mPut na h M) (nQi (mRel na h (fun r M2 => vLL k (M 3 i) (M 4 i) x = r ∧ M2 = bds (tLL k) M))) 0 0 := by
  refine nM.ofN RX3 rfl (by decide) (by intro v hv; simp only [List.mem_cons, List.not_mem_nil, or_false] at hv; rcases hv with rfl | rfl | rfl <;> rfl) (Nat.le_of_ble_eq_true rfl) (fun K hC hnm => ?_)
  show WN K na (mPut na h M) 0 0 (nE K (nQi (mRel na h (fun r M2 => vLL k (M 3 i) (M 4 i) x = r ∧ M2 = bds (tLL k) M))) 0 0) 0 [some (.ref (na 61)), some (.int (nI i)), some (.int x), none] []
  let Q9 : State → Prop := nE K (nQi (mRel na h (fun r M2 => vLL k (M 3 i) (M 4 i) x = r ∧ M2 = bds (tLL k) M))) 0 0
  show WN K na (mPut na h M) 0 0 Q9 0 [some (.ref (na 61)), some (.int (nI i)), some (.int x), none] []
  refine n_aload_n hC dX3_leaderLeads_0 rfl ?_
  refine n_bipush hC (v := nI 30) dX3_leaderLeads_1 (by decide) ?_
  refine n_callV1v hC (mt_X3_body na h (M) hr (by omega) 30) md_X3_body q1554 dX3_leaderLeads_3 rfl (mPut_o _ _ _) rfl rfl ⟨rfl, rfl, by decide, by decide⟩ rfl (Nat.le_of_ble_eq_true rfl) (by decide) (by decide) (fun na0 h0 hp0 => ?_)
  obtain ⟨rfl, M_0, rfl, rfl⟩ := hp0
  have hq_0 := bds_n (l := [30]) (M := M) hr (by simp; omega)
  have hr_0 := hq_0.2 ▸ hq_0.1
  have hb_0 := hq_0.2
  simp only [List.length_cons, List.length_nil] at hb_0
  refine n_aload_n hC dX3_leaderLeads_6 rfl ?_
  refine n_iload_n hC dX3_leaderLeads_7 rfl ?_
  refine n_iload_n hC dX3_leaderLeads_8 rfl ?_
  refine n_callV2i hC (mt_X3_plainLeads na h ((bds ([30]) M)) hr_0 (by omega) (i := i) (k := k) hi ((congrFun ((bds_fr _ _) 2 (by decide)) i).trans hk) hk9 x) md_X3_plainLeads q1570 dX3_leaderLeads_9 rfl (mPut_o _ _ _) rfl rfl ⟨rfl, rfl, by decide, by decide⟩ rfl (Nat.le_of_ble_eq_true rfl) (by decide) (by decide) (fun r1 na1 h1 hp1 => ?_)
  obtain ⟨rfl, M_1, rfl, rfl, rfl⟩ := hp1
  have hl_1 := tPL_len k
  have hq_1 := bds_n (l := tPL k) (M := (bds ([30]) M)) hr_0 (by omega)
  have hr_1 := hq_1.2 ▸ hq_1.1
  have hb_1 := hq_1.2
  rw [show vPL k ((bds ([30]) M) 3 i) ((bds ([30]) M) 4 i) x = vPL k (M 3 i) (M 4 i) x from by rw [congrFun ((bds_fr _ _) 3 (by decide)) i, congrFun ((bds_fr _ _) 4 (by decide)) i]]
  refine n_istore_n hC dX3_leaderLeads_12 (Nat.le_of_ble_eq_true rfl) ?_
  refine n_iload_n hC dX3_leaderLeads_13 rfl ?_
  refine n_aload_n hC dX3_leaderLeads_14 rfl ?_
  refine n_iload_n hC dX3_leaderLeads_15 rfl ?_
  refine n_iload_n hC dX3_leaderLeads_16 rfl ?_
  refine n_callV2i hC (mt_X3_greetsOf na h ((bds (tPL k) (bds ([30]) M))) hr_1 (by omega) (i := i) (k := k) hi ((congrFun ((mFr.trans (fun _ h => h) (bds_fr _ _) (bds_fr _ _)) 2 (by decide)) i).trans hk) hk9 x) md_X3_greetsOf q1550 dX3_leaderLeads_17 rfl (mPut_o _ _ _) rfl rfl ⟨rfl, rfl, by decide, by decide⟩ rfl (Nat.le_of_ble_eq_true rfl) (by decide) (by decide) (fun r2 na2 h2 hp2 => ?_)
  obtain ⟨rfl, M_2, rfl, rfl, rfl⟩ := hp2
  have hl_2 := tG_len k
  have hq_2 := bds_n (l := tG k) (M := (bds (tPL k) (bds ([30]) M))) hr_1 (by omega)
  have hr_2 := hq_2.2 ▸ hq_2.1
  have hb_2 := hq_2.2
  rw [show vG k ((bds (tPL k) (bds ([30]) M)) 3 i) x = vG k (M 3 i) x from by rw [congrFun ((mFr.trans (fun _ h => h) (bds_fr _ _) (bds_fr _ _)) 3 (by decide)) i]]
  refine n_iadd hC dX3_leaderLeads_20 ?_
  exact n_iret hC dX3_leaderLeads_21 (by decide) (by decide) (⟨rfl, _, rfl, rfl, by show _ = bds ([30] ++ (tPL k ++ tG k)) M; rw [bds_app, bds_app]⟩)

set_option maxHeartbeats 4000000 in
set_option maxRecDepth 100000 in
theorem mt_X3_leadsOf (na : nA) (h : nH) (M : nMem) (hr : M 55 0 = nI (mN M 55)) (hr9 : mN M 55 ≤ 880) {i k : Nat} (hi : i < 15) (hk : M 2 i = nI k) (hk9 : k ≤ 4) (x : Int32) : nM yX3_leadsOf cX3_leadsOf 3 (some .int) (nRm 5 0 0) [.ref (na 61), .int (nI i), .int x] na (mPut na h M) (nQi (mRel na h (fun r M2 => vL k (M 3 i) (M 4 i) x = r ∧ M2 = bds (tL k) M))) 0 0 := by
  refine nM.ofN RX3 rfl (by decide) (by intro v hv; simp only [List.mem_cons, List.not_mem_nil, or_false] at hv; rcases hv with rfl | rfl | rfl <;> rfl) (Nat.le_of_ble_eq_true rfl) (fun K hC hnm => ?_)
  show WN K na (mPut na h M) 0 0 (nE K (nQi (mRel na h (fun r M2 => vL k (M 3 i) (M 4 i) x = r ∧ M2 = bds (tL k) M))) 0 0) 0 [some (.ref (na 61)), some (.int (nI i)), some (.int x)] []
  let Q9 : State → Prop := nE K (nQi (mRel na h (fun r M2 => vL k (M 3 i) (M 4 i) x = r ∧ M2 = bds (tL k) M))) 0 0
  show WN K na (mPut na h M) 0 0 Q9 0 [some (.ref (na 61)), some (.int (nI i)), some (.int x)] []
  refine n_aload_n hC dX3_leadsOf_0 rfl ?_
  refine m_getA hC 2 dX3_leadsOf_1 rfl rfl ?_
  refine n_iload_n hC dX3_leadsOf_4 rfl ?_
  refine m_aldN hC 2 (v := nI k) dX3_leadsOf_5 rfl rfl (by have h9 : mLen 2 = 15 := rfl; omega) hk ?_
  refine n_iconst hC (v := nI 2) dX3_leadsOf_6 (by decide) ?_
  refine n_icmp_neN hC (tgt := 17) dX3_leadsOf_7 (by decide) (by omega) (by omega) (fun c_7 => ?_) (fun c_7 => ?_)
  · skip
    refine n_aload_n hC dX3_leadsOf_17 rfl ?_
    refine m_getA hC 2 dX3_leadsOf_18 rfl rfl ?_
    refine n_iload_n hC dX3_leadsOf_21 rfl ?_
    refine m_aldN hC 2 (v := nI k) dX3_leadsOf_22 rfl rfl (by have h9 : mLen 2 = 15 := rfl; omega) hk ?_
    refine n_iconst hC (v := nI 3) dX3_leadsOf_23 (by decide) ?_
    refine n_icmp_neN hC (tgt := 41) dX3_leadsOf_24 (by decide) (by omega) (by omega) (fun c_24 => ?_) (fun c_24 => ?_)
    · skip
      refine n_aload_n hC dX3_leadsOf_41 rfl ?_
      refine n_iload_n hC dX3_leadsOf_42 rfl ?_
      refine n_iload_n hC dX3_leadsOf_43 rfl ?_
      refine n_callV2i hC (mt_X3_plainLeads na h (M) hr (by omega) (i := i) (k := k) hi hk hk9 x) md_X3_plainLeads q1570 dX3_leadsOf_44 rfl (mPut_o _ _ _) rfl rfl ⟨rfl, rfl, by decide, by decide⟩ rfl (Nat.le_of_ble_eq_true rfl) (by decide) (by decide) (fun r0 na0 h0 hp0 => ?_)
      obtain ⟨rfl, M_0, rfl, rfl, rfl⟩ := hp0
      have hl_0 := tPL_len k
      have hq_0 := bds_n (l := tPL k) (M := M) hr (by omega)
      have hr_0 := hq_0.2 ▸ hq_0.1
      have hb_0 := hq_0.2
      rw [show vPL k (M 3 i) (M 4 i) x = vPL k (M 3 i) (M 4 i) x from rfl]
      exact n_iret hC dX3_leadsOf_47 (by decide) (by decide) (⟨rfl, _, rfl, by unfold vL; rw [if_neg c_7, if_neg c_24], by unfold tL; rw [if_neg c_7, if_neg c_24]⟩)
    · skip
      refine n_aload_n hC dX3_leadsOf_27 rfl ?_
      refine n_bipush hC (v := nI 41) dX3_leadsOf_28 (by decide) ?_
      refine n_callV1v hC (mt_X3_body na h (M) hr (by omega) 41) md_X3_body q1554 dX3_leadsOf_30 rfl (mPut_o _ _ _) rfl rfl ⟨rfl, rfl, by decide, by decide⟩ rfl (Nat.le_of_ble_eq_true rfl) (by decide) (by decide) (fun na1 h1 hp1 => ?_)
      obtain ⟨rfl, M_1, rfl, rfl⟩ := hp1
      have hq_1 := bds_n (l := [41]) (M := M) hr (by simp; omega)
      have hr_1 := hq_1.2 ▸ hq_1.1
      have hb_1 := hq_1.2
      simp only [List.length_cons, List.length_nil] at hb_1
      refine n_aload_n hC dX3_leadsOf_33 rfl ?_
      refine n_iload_n hC dX3_leadsOf_34 rfl ?_
      refine n_iload_n hC dX3_leadsOf_35 rfl ?_
      refine n_callV2i hC (mt_X3_leaderLeads na h ((bds ([41]) M)) hr_1 (by omega) (i := i) (k := k) hi ((congrFun ((bds_fr _ _) 2 (by decide)) i).trans hk) hk9 x) md_X3_leaderLeads q1566 dX3_leadsOf_36 rfl (mPut_o _ _ _) rfl rfl ⟨rfl, rfl, by decide, by decide⟩ rfl (Nat.le_of_ble_eq_true rfl) (by decide) (by decide) (fun r2 na2 h2 hp2 => ?_)
      obtain ⟨rfl, M_2, rfl, rfl, rfl⟩ := hp2
      have hl_2 := tLL_len k
      have hq_2 := bds_n (l := tLL k) (M := (bds ([41]) M)) hr_1 (by omega)
      have hr_2 := hq_2.2 ▸ hq_2.1
      have hb_2 := hq_2.2
      rw [show vLL k ((bds ([41]) M) 3 i) ((bds ([41]) M) 4 i) x = vLL k (M 3 i) (M 4 i) x from by rw [congrFun ((bds_fr _ _) 3 (by decide)) i, congrFun ((bds_fr _ _) 4 (by decide)) i]]
      refine n_ineg hC dX3_leadsOf_39 ?_
      exact n_iret hC dX3_leadsOf_40 (by decide) (by decide) (⟨rfl, _, rfl, by unfold vL; rw [if_neg c_7, if_pos c_24], by unfold tL; rw [if_neg c_7, if_pos c_24]; rfl⟩)
  · skip
    refine n_aload_n hC dX3_leadsOf_10 rfl ?_
    refine n_iload_n hC dX3_leadsOf_11 rfl ?_
    refine n_iload_n hC dX3_leadsOf_12 rfl ?_
    refine n_callV2i hC (mt_X3_leaderLeads na h (M) hr (by omega) (i := i) (k := k) hi hk hk9 x) md_X3_leaderLeads q1566 dX3_leadsOf_13 rfl (mPut_o _ _ _) rfl rfl ⟨rfl, rfl, by decide, by decide⟩ rfl (Nat.le_of_ble_eq_true rfl) (by decide) (by decide) (fun r3 na3 h3 hp3 => ?_)
    obtain ⟨rfl, M_3, rfl, rfl, rfl⟩ := hp3
    have hl_3 := tLL_len k
    have hq_3 := bds_n (l := tLL k) (M := M) hr (by omega)
    have hr_3 := hq_3.2 ▸ hq_3.1
    have hb_3 := hq_3.2
    rw [show vLL k (M 3 i) (M 4 i) x = vLL k (M 3 i) (M 4 i) x from rfl]
    exact n_iret hC dX3_leadsOf_16 (by decide) (by decide) (⟨rfl, _, rfl, by unfold vL; rw [if_pos c_7], by unfold tL; rw [if_pos c_7]⟩)

set_option maxHeartbeats 4000000 in
set_option maxRecDepth 100000 in
theorem mt_X3_plainRests (na : nA) (h : nH) (M : nMem) (hr : M 55 0 = nI (mN M 55)) (hr9 : mN M 55 ≤ 860) {i k : Nat} (hi : i < 15) (hk : M 2 i = nI k) (hk9 : k ≤ 4) (x : Int32) : nM yX3_plainRests cX3_plainRests 3 (some .int) (nRm 6 0 0) [.ref (na 61), .int (nI i), .int x] na (mPut na h M) (nQi (mRel na h (fun r M2 => vPR k i (M 3 i) (M 4 i) x = r ∧ M2 = bds (tPR k) M))) 0 0 := by
  refine nM.ofN RX3 rfl (by decide) (by intro v hv; simp only [List.mem_cons, List.not_mem_nil, or_false] at hv; rcases hv with rfl | rfl | rfl <;> rfl) (Nat.le_of_ble_eq_true rfl) (fun K hC hnm => ?_)
  show WN K na (mPut na h M) 0 0 (nE K (nQi (mRel na h (fun r M2 => vPR k i (M 3 i) (M 4 i) x = r ∧ M2 = bds (tPR k) M))) 0 0) 0 [some (.ref (na 61)), some (.int (nI i)), some (.int x)] []
  let Q9 : State → Prop := nE K (nQi (mRel na h (fun r M2 => vPR k i (M 3 i) (M 4 i) x = r ∧ M2 = bds (tPR k) M))) 0 0
  show WN K na (mPut na h M) 0 0 Q9 0 [some (.ref (na 61)), some (.int (nI i)), some (.int x)] []
  refine n_aload_n hC dX3_plainRests_0 rfl ?_
  refine n_bipush hC (v := nI 12) dX3_plainRests_1 (by decide) ?_
  refine n_callV1v hC (mt_X3_body na h (M) hr (by omega) 12) md_X3_body q1554 dX3_plainRests_3 rfl (mPut_o _ _ _) rfl rfl ⟨rfl, rfl, by decide, by decide⟩ rfl (Nat.le_of_ble_eq_true rfl) (by decide) (by decide) (fun na0 h0 hp0 => ?_)
  obtain ⟨rfl, M_0, rfl, rfl⟩ := hp0
  have hq_0 := bds_n (l := [12]) (M := M) hr (by simp; omega)
  have hr_0 := hq_0.2 ▸ hq_0.1
  have hb_0 := hq_0.2
  simp only [List.length_cons, List.length_nil] at hb_0
  refine n_aload_n hC dX3_plainRests_6 rfl ?_
  refine n_iload_n hC dX3_plainRests_7 rfl ?_
  refine n_iload_n hC dX3_plainRests_8 rfl ?_
  refine n_callV2i hC (mt_X3_leadsOf na h ((bds ([12]) M)) hr_0 (by omega) (i := i) (k := k) hi ((congrFun ((bds_fr _ _) 2 (by decide)) i).trans hk) hk9 x) md_X3_leadsOf q1562 dX3_plainRests_9 rfl (mPut_o _ _ _) rfl rfl ⟨rfl, rfl, by decide, by decide⟩ rfl (Nat.le_of_ble_eq_true rfl) (by decide) (by decide) (fun r1 na1 h1 hp1 => ?_)
  obtain ⟨rfl, M_1, rfl, rfl, rfl⟩ := hp1
  have hl_1 := tL_len k
  have hq_1 := bds_n (l := tL k) (M := (bds ([12]) M)) hr_0 (by omega)
  have hr_1 := hq_1.2 ▸ hq_1.1
  have hb_1 := hq_1.2
  rw [show vL k ((bds ([12]) M) 3 i) ((bds ([12]) M) 4 i) x = vL k (M 3 i) (M 4 i) x from by rw [congrFun ((bds_fr _ _) 3 (by decide)) i, congrFun ((bds_fr _ _) 4 (by decide)) i]]
  refine n_iload_n hC dX3_plainRests_12 rfl ?_
  refine n_ixor hC dX3_plainRests_13 ?_
  exact n_iret hC dX3_plainRests_14 (by decide) (by decide) (⟨rfl, _, rfl, rfl, rfl⟩)

set_option maxHeartbeats 4000000 in
set_option maxRecDepth 100000 in
theorem mt_X3_restsOf (na : nA) (h : nH) (M : nMem) (hr : M 55 0 = nI (mN M 55)) (hr9 : mN M 55 ≤ 800) {i k : Nat} (hi : i < 15) (hk : M 2 i = nI k) (hk9 : k ≤ 4) (x : Int32) : nM yX3_restsOf cX3_restsOf 4 (some .int) (nRm 7 0 0) [.ref (na 61), .int (nI i), .int x] na (mPut na h M) (nQi (mRel na h (fun r M2 => vR k i (M 3 i) (M 4 i) x = r ∧ M2 = bds (tR k) M))) 0 0 := by
  refine nM.ofN RX3 rfl (by decide) (by intro v hv; simp only [List.mem_cons, List.not_mem_nil, or_false] at hv; rcases hv with rfl | rfl | rfl <;> rfl) (Nat.le_of_ble_eq_true rfl) (fun K hC hnm => ?_)
  show WN K na (mPut na h M) 0 0 (nE K (nQi (mRel na h (fun r M2 => vR k i (M 3 i) (M 4 i) x = r ∧ M2 = bds (tR k) M))) 0 0) 0 [some (.ref (na 61)), some (.int (nI i)), some (.int x), none] []
  let Q9 : State → Prop := nE K (nQi (mRel na h (fun r M2 => vR k i (M 3 i) (M 4 i) x = r ∧ M2 = bds (tR k) M))) 0 0
  show WN K na (mPut na h M) 0 0 Q9 0 [some (.ref (na 61)), some (.int (nI i)), some (.int x), none] []
  refine n_aload_n hC dX3_restsOf_0 rfl ?_
  refine m_getA hC 2 dX3_restsOf_1 rfl rfl ?_
  refine n_iload_n hC dX3_restsOf_4 rfl ?_
  refine m_aldN hC 2 (v := nI k) dX3_restsOf_5 rfl rfl (by have h9 : mLen 2 = 15 := rfl; omega) hk ?_
  refine n_iconst hC (v := nI 4) dX3_restsOf_6 (by decide) ?_
  refine n_icmp_eqN hC (tgt := 17) dX3_restsOf_7 (by decide) (by omega) (by omega) (fun c_7 => ?_) (fun c_7 => ?_)
  · skip
    refine n_aload_n hC dX3_restsOf_17 rfl ?_
    refine n_bipush hC (v := nI 50) dX3_restsOf_18 (by decide) ?_
    refine n_callV1v hC (mt_X3_body na h (M) hr (by omega) 50) md_X3_body q1554 dX3_restsOf_20 rfl (mPut_o _ _ _) rfl rfl ⟨rfl, rfl, by decide, by decide⟩ rfl (Nat.le_of_ble_eq_true rfl) (by decide) (by decide) (fun na0 h0 hp0 => ?_)
    obtain ⟨rfl, M_0, rfl, rfl⟩ := hp0
    have hq_0 := bds_n (l := [50]) (M := M) hr (by simp; omega)
    have hr_0 := hq_0.2 ▸ hq_0.1
    have hb_0 := hq_0.2
    simp only [List.length_cons, List.length_nil] at hb_0
    refine n_aload_n hC dX3_restsOf_23 rfl ?_
    refine n_iload_n hC dX3_restsOf_24 rfl ?_
    refine n_iload_n hC dX3_restsOf_25 rfl ?_
    refine n_callV2i hC (mt_X3_leadsOf na h ((bds ([50]) M)) hr_0 (by omega) (i := i) (k := k) hi ((congrFun ((bds_fr _ _) 2 (by decide)) i).trans hk) hk9 x) md_X3_leadsOf q1562 dX3_restsOf_26 rfl (mPut_o _ _ _) rfl rfl ⟨rfl, rfl, by decide, by decide⟩ rfl (Nat.le_of_ble_eq_true rfl) (by decide) (by decide) (fun r1 na1 h1 hp1 => ?_)
    obtain ⟨rfl, M_1, rfl, rfl, rfl⟩ := hp1
    have hl_1 := tL_len k
    have hq_1 := bds_n (l := tL k) (M := (bds ([50]) M)) hr_0 (by omega)
    have hr_1 := hq_1.2 ▸ hq_1.1
    have hb_1 := hq_1.2
    rw [show vL k ((bds ([50]) M) 3 i) ((bds ([50]) M) 4 i) x = vL k (M 3 i) (M 4 i) x from by rw [congrFun ((bds_fr _ _) 3 (by decide)) i, congrFun ((bds_fr _ _) 4 (by decide)) i]]
    refine n_istore_n hC dX3_restsOf_29 (Nat.le_of_ble_eq_true rfl) ?_
    refine n_iload_n hC dX3_restsOf_30 rfl ?_
    refine n_aload_n hC dX3_restsOf_31 rfl ?_
    refine n_iload_n hC dX3_restsOf_32 rfl ?_
    refine n_iload_n hC dX3_restsOf_33 rfl ?_
    refine n_iconst hC (v := nI 1) dX3_restsOf_34 (by decide) ?_
    refine n_isub hC dX3_restsOf_35 ?_
    refine n_callV2i hC (mt_X3_plainRests na h ((bds (tL k) (bds ([50]) M))) hr_1 (by omega) (i := i) (k := k) hi ((congrFun ((mFr.trans (fun _ h => h) (bds_fr _ _) (bds_fr _ _)) 2 (by decide)) i).trans hk) hk9 (x - (nI 1))) md_X3_plainRests q1578 dX3_restsOf_36 rfl (mPut_o _ _ _) rfl rfl ⟨rfl, rfl, by decide, by decide⟩ rfl (Nat.le_of_ble_eq_true rfl) (by decide) (by decide) (fun r2 na2 h2 hp2 => ?_)
    obtain ⟨rfl, M_2, rfl, rfl, rfl⟩ := hp2
    have hl_2 := tPR_len k
    have hq_2 := bds_n (l := tPR k) (M := (bds (tL k) (bds ([50]) M))) hr_1 (by omega)
    have hr_2 := hq_2.2 ▸ hq_2.1
    have hb_2 := hq_2.2
    rw [show vPR k i ((bds (tL k) (bds ([50]) M)) 3 i) ((bds (tL k) (bds ([50]) M)) 4 i) (x - (nI 1)) = vPR k i (M 3 i) (M 4 i) (x - (nI 1)) from by rw [congrFun ((mFr.trans (fun _ h => h) (bds_fr _ _) (bds_fr _ _)) 3 (by decide)) i, congrFun ((mFr.trans (fun _ h => h) (bds_fr _ _) (bds_fr _ _)) 4 (by decide)) i]]
    refine n_iadd hC dX3_restsOf_39 ?_
    exact n_iret hC dX3_restsOf_40 (by decide) (by decide) (⟨rfl, _, rfl, by unfold vR; rw [if_pos c_7], by unfold tR; rw [if_pos c_7]; show _ = bds ([50] ++ (tL k ++ tPR k)) M; rw [bds_app, bds_app]⟩)
  · skip
    refine n_aload_n hC dX3_restsOf_10 rfl ?_
    refine n_iload_n hC dX3_restsOf_11 rfl ?_
    refine n_iload_n hC dX3_restsOf_12 rfl ?_
    refine n_callV2i hC (mt_X3_plainRests na h (M) hr (by omega) (i := i) (k := k) hi hk hk9 x) md_X3_plainRests q1578 dX3_restsOf_13 rfl (mPut_o _ _ _) rfl rfl ⟨rfl, rfl, by decide, by decide⟩ rfl (Nat.le_of_ble_eq_true rfl) (by decide) (by decide) (fun r3 na3 h3 hp3 => ?_)
    obtain ⟨rfl, M_3, rfl, rfl, rfl⟩ := hp3
    have hl_3 := tPR_len k
    have hq_3 := bds_n (l := tPR k) (M := M) hr (by omega)
    have hr_3 := hq_3.2 ▸ hq_3.1
    have hb_3 := hq_3.2
    rw [show vPR k i (M 3 i) (M 4 i) x = vPR k i (M 3 i) (M 4 i) x from rfl]
    exact n_iret hC dX3_restsOf_16 (by decide) (by decide) (⟨rfl, _, rfl, by unfold vR; rw [if_neg c_7], by unfold tR; rw [if_neg c_7]⟩)

set_option maxHeartbeats 4000000 in
set_option maxRecDepth 100000 in
theorem mt_X3_act (na : nA) (h : nH) (M : nMem) (hI : mInv M) (i a x : Int32) : nM yX3_act cX3_act 4 (some .int) (nRm 9 0 0) [.ref (na 61), .int i, .int a, .int x] na (mPut na h M) (nQi (mOp na h (o_act i a x M))) 0 0 := by
  refine nM.ofN RX3 rfl (by decide) (by intro v hv; simp only [List.mem_cons, List.not_mem_nil, or_false] at hv; rcases hv with rfl | rfl | rfl | rfl <;> rfl) (Nat.le_of_ble_eq_true rfl) (fun K hC hnm => ?_)
  show WN K na (mPut na h M) 0 0 (nE K (nQi (mOp na h (o_act i a x M))) 0 0) 0 [some (.ref (na 61)), some (.int i), some (.int a), some (.int x)] []
  let Q9 : State → Prop := nE K (nQi (mOp na h (o_act i a x M))) 0 0
  show WN K na (mPut na h M) 0 0 Q9 0 [some (.ref (na 61)), some (.int i), some (.int a), some (.int x)] []
  obtain ⟨⟨h0, b0⟩, ⟨h1, b1a, b1⟩, ⟨h11, b11⟩, ⟨h14, b14⟩, ⟨h15, b15, b15n⟩, ⟨h20, b20⟩, ⟨h26, b26⟩, ⟨h27, b27⟩, ⟨h55, b55⟩, iP, iH, iHi, iHd, iC, iT, iF, iG, iS, iZ⟩ := hI
  refine n_aload_n hC dX3_act_0 rfl ?_
  refine n_iconst hC (v := nI 0) dX3_act_1 (by decide) ?_
  refine m_putI hC 55 (M2 := mset M 55 (fun _ => nI 0)) dX3_act_2 rfl rfl (by decide) rfl rfl rfl rfl rfl ?_
  refine n_aload_n hC dX3_act_5 rfl ?_
  refine n_iload_n hC dX3_act_6 rfl ?_
  refine n_callV1z hC (mt_X3_isPerson na h (mset M 55 (fun _ => nI 0)) (i) (n := mN M 0) h0 (by omega)) md_X3_isPerson q1309 dX3_act_7 rfl (mPut_o _ _ _) rfl rfl ⟨rfl, rfl, by decide, by decide⟩ rfl (Nat.le_of_ble_eq_true rfl) (by decide) (by decide) (fun r0 na0 h0 hp0 => ?_)
  obtain ⟨rfl, rfl, rfl⟩ := hp0
  refine n_if_eqB hC (tgt := 23) dX3_act_10 (by decide) (fun c_10 => ?_) (fun c_10 => ?_)
  · skip
    refine n_iconst hC (v := nI 0) dX3_act_23 (by decide) ?_
    exact n_iret hC dX3_act_24 (by decide) (by decide) (⟨rfl, by simp [o_act, c_10]; rfl, _, rfl, mEq.of (by simp [o_act, c_10])⟩)
  · skip
    refine n_aload_n hC dX3_act_13 rfl ?_
    refine n_iload_n hC dX3_act_14 rfl ?_
    refine n_iconst hC (v := nI 0) dX3_act_15 (by decide) ?_
    refine n_iconst hC (v := nI 2) dX3_act_16 (by decide) ?_
    refine n_callV3z hC (mt_X3_in na h (mset M 55 (fun _ => nI 0)) (a) (nI 0) (nI 2)) md_X3_in q1293 dX3_act_17 rfl (mPut_o _ _ _) rfl rfl ⟨rfl, rfl, by decide, by decide⟩ rfl (Nat.le_of_ble_eq_true rfl) (by decide) (by decide) (fun r1 na1 h1 hp1 => ?_)
    obtain ⟨rfl, rfl, rfl⟩ := hp1
    refine n_if_neB hC (tgt := 25) dX3_act_20 (by decide) (fun c_20 => ?_) (fun c_20 => ?_)
    · skip
      obtain ⟨j, hj, ej⟩ := (nin_t (by omega)).mp c_10
      obtain ⟨z, -, hz, ez⟩ := (nrg_nn (by decide) (by decide)).mp c_20
      subst ej
      subst ez
      have hjc : (nI j).toNatClampNeg = j := nI_clamp (by omega)
      have hzc : (nI z).toNatClampNeg = z := nI_clamp (by omega)
      have hkj := (iP j hj).1.1
      have hk9 := (iP j hj).1.2
      refine n_iload_n hC dX3_act_25 rfl ?_
      refine n_if_neN hC (tgt := 38) dX3_act_26 (by decide) (by omega) (fun c_26 => ?_) (fun c_26 => ?_)
      · skip
        refine n_iload_n hC dX3_act_38 rfl ?_
        refine n_iconst hC (v := nI 1) dX3_act_39 (by decide) ?_
        refine n_icmp_neN hC (tgt := 52) dX3_act_40 (by decide) (by omega) (by omega) (fun c_40 => ?_) (fun c_40 => ?_)
        · skip
          refine n_aload_n hC dX3_act_52 rfl ?_
          refine n_iload_n hC dX3_act_53 rfl ?_
          refine n_iload_n hC dX3_act_54 rfl ?_
          refine n_callV2i hC (mt_X3_restsOf na h (mset M 55 (fun _ => nI 0)) rfl (by show (nI 0).toNatClampNeg ≤ _; decide) (i := j) (k := mA M 2 j) (by omega) hkj hk9 x) md_X3_restsOf q1574 dX3_act_55 rfl (mPut_o _ _ _) rfl rfl ⟨rfl, rfl, by decide, by decide⟩ rfl (Nat.le_of_ble_eq_true rfl) (by decide) (by decide) (fun r2 na2 h2 hp2 => ?_)
          obtain ⟨rfl, M_2, rfl, rfl, rfl⟩ := hp2
          exact n_iret hC dX3_act_58 (by decide) (by decide) (⟨rfl, by simp only [o_act, c_10, c_20, hjc, hzc, Bool.true_eq_false, if_false]; simp [c_26, c_40]; try rfl, _, rfl, mEq.of (by simp only [o_act, c_10, c_20, hjc, hzc, Bool.true_eq_false, if_false]; simp [c_26, c_40])⟩)
        · skip
          refine n_aload_n hC dX3_act_43 rfl ?_
          refine n_iload_n hC dX3_act_44 rfl ?_
          refine n_iload_n hC dX3_act_45 rfl ?_
          refine n_callV2i hC (mt_X3_leadsOf na h (mset M 55 (fun _ => nI 0)) rfl (by show (nI 0).toNatClampNeg ≤ _; decide) (i := j) (k := mA M 2 j) (by omega) hkj hk9 x) md_X3_leadsOf q1562 dX3_act_46 rfl (mPut_o _ _ _) rfl rfl ⟨rfl, rfl, by decide, by decide⟩ rfl (Nat.le_of_ble_eq_true rfl) (by decide) (by decide) (fun r3 na3 h3 hp3 => ?_)
          obtain ⟨rfl, M_3, rfl, rfl, rfl⟩ := hp3
          refine n_goto hC (tgt := 58) dX3_act_49 (by decide) ?_
          exact n_iret hC dX3_act_58 (by decide) (by decide) (⟨rfl, by simp only [o_act, c_10, c_20, hjc, hzc, Bool.true_eq_false, if_false]; simp [c_26, c_40]; try rfl, _, rfl, mEq.of (by simp only [o_act, c_10, c_20, hjc, hzc, Bool.true_eq_false, if_false]; simp [c_26, c_40])⟩)
      · skip
        refine n_aload_n hC dX3_act_29 rfl ?_
        refine n_iload_n hC dX3_act_30 rfl ?_
        refine n_iload_n hC dX3_act_31 rfl ?_
        refine n_callV2i hC (mt_X3_greetsOf na h (mset M 55 (fun _ => nI 0)) rfl (by show (nI 0).toNatClampNeg ≤ _; decide) (i := j) (k := mA M 2 j) (by omega) hkj hk9 x) md_X3_greetsOf q1550 dX3_act_32 rfl (mPut_o _ _ _) rfl rfl ⟨rfl, rfl, by decide, by decide⟩ rfl (Nat.le_of_ble_eq_true rfl) (by decide) (by decide) (fun r4 na4 h4 hp4 => ?_)
        obtain ⟨rfl, M_4, rfl, rfl, rfl⟩ := hp4
        refine n_goto hC (tgt := 58) dX3_act_35 (by decide) ?_
        exact n_iret hC dX3_act_58 (by decide) (by decide) (⟨rfl, by simp only [o_act, c_10, c_20, hjc, hzc, Bool.true_eq_false, if_false]; simp [c_26]; try rfl, _, rfl, mEq.of (by simp only [o_act, c_10, c_20, hjc, hzc, Bool.true_eq_false, if_false]; simp [c_26])⟩)
    · skip
      refine n_iconst hC (v := nI 0) dX3_act_23 (by decide) ?_
      exact n_iret hC dX3_act_24 (by decide) (by decide) (⟨rfl, by simp [o_act, c_10, c_20]; rfl, _, rfl, mEq.of (by simp [o_act, c_10, c_20])⟩)

set_option maxHeartbeats 4000000 in
set_option maxRecDepth 100000 in
theorem mt_X3_trace (na : nA) (h : nH) (M : nMem) (hI : mInv M) (i : Int32) : nM yX3_trace cX3_trace 2 (some .int) (nRm 9 0 0) [.ref (na 61), .int i] na (mPut na h M) (nQi (mOp na h (o_trace i M))) 0 0 := by
  refine nM.ofN RX3 rfl (by decide) (by intro v hv; simp only [List.mem_cons, List.not_mem_nil, or_false] at hv; rcases hv with rfl | rfl <;> rfl) (Nat.le_of_ble_eq_true rfl) (fun K hC hnm => ?_)
  show WN K na (mPut na h M) 0 0 (nE K (nQi (mOp na h (o_trace i M))) 0 0) 0 [some (.ref (na 61)), some (.int i)] []
  let Q9 : State → Prop := nE K (nQi (mOp na h (o_trace i M))) 0 0
  show WN K na (mPut na h M) 0 0 Q9 0 [some (.ref (na 61)), some (.int i)] []
  obtain ⟨⟨h0, b0⟩, ⟨h1, b1a, b1⟩, ⟨h11, b11⟩, ⟨h14, b14⟩, ⟨h15, b15, b15n⟩, ⟨h20, b20⟩, ⟨h26, b26⟩, ⟨h27, b27⟩, ⟨h55, b55⟩, iP, iH, iHi, iHd, iC, iT, iF, iG, iS, iZ⟩ := hI
  refine n_aload_n hC dX3_trace_0 rfl ?_
  refine n_iload_n hC dX3_trace_1 rfl ?_
  refine n_iconst hC (v := nI 0) dX3_trace_2 (by decide) ?_
  refine n_bipush hC (v := nI 19) dX3_trace_3 (by decide) ?_
  refine n_callV3z hC (mt_X3_in na h (M) (i) (nI 0) (nI 19)) md_X3_in q1293 dX3_trace_5 rfl (mPut_o _ _ _) rfl rfl ⟨rfl, rfl, by decide, by decide⟩ rfl (Nat.le_of_ble_eq_true rfl) (by decide) (by decide) (fun r0 na0 h0 hp0 => ?_)
  obtain ⟨rfl, rfl, rfl⟩ := hp0
  refine n_if_eqB hC (tgt := 28) dX3_trace_8 (by decide) (fun c_8 => ?_) (fun c_8 => ?_)
  · skip
    refine n_iconst hC (v := (-1)) dX3_trace_28 (by decide) ?_
    exact n_iret hC dX3_trace_29 (by decide) (by decide) (⟨rfl, by simp [o_trace, c_8], M, rfl, mEq.of (by simp [o_trace, c_8])⟩)
  · skip
    obtain ⟨j, -, hj, ej⟩ := (nrg_nn (by decide) (by decide)).mp c_8
    subst ej
    refine n_iload_n hC dX3_trace_11 rfl ?_
    refine n_aload_n hC dX3_trace_12 rfl ?_
    refine m_getI hC 55 (v := nI (mN M 55)) dX3_trace_13 rfl rfl (by decide) h55 ?_
    refine n_icmp_ge hC (tgt := 28) dX3_trace_16 (by decide) (fun c_16 => ?_) (fun c_16 => ?_)
    · skip
      have c_16 := Int32.not_lt.mpr c_16
      refine n_iconst hC (v := (-1)) dX3_trace_28 (by decide) ?_
      exact n_iret hC dX3_trace_29 (by decide) (by decide) (⟨rfl, by simp [o_trace, c_8, c_16], M, rfl, mEq.of (by simp [o_trace, c_8, c_16])⟩)
    · skip
      have c_16 := Int32.not_le.mp c_16
      refine n_aload_n hC dX3_trace_19 rfl ?_
      refine m_getA hC 56 dX3_trace_20 rfl rfl ?_
      refine n_iload_n hC dX3_trace_23 rfl ?_
      refine m_aldN hC 56 (v := M 56 j) dX3_trace_24 rfl rfl (by have h9 : mLen 56 = 20 := rfl; omega) rfl ?_
      refine n_goto hC (tgt := 29) dX3_trace_25 (by decide) ?_
      exact n_iret hC dX3_trace_29 (by decide) (by decide) (⟨rfl, by simp [o_trace, c_8, c_16, nI_clamp (show j < 2 ^ 31 by omega)], M, rfl, mEq.of (by simp [o_trace, c_8, c_16, nI_clamp (show j < 2 ^ 31 by omega)])⟩)

set_option maxHeartbeats 4000000 in
set_option maxRecDepth 100000 in
theorem mt_X3_taken (na : nA) (h : nH) (M : nMem) (hI : mInv M) (i k : Int32) : nM yX3_taken cX3_taken 3 (some .int) (nRm 9 0 0) [.ref (na 61), .int i, .int k] na (mPut na h M) (nQi (mOp na h (o_taken i k M))) 0 0 := by
  refine nM.ofN RX3 rfl (by decide) (by intro v hv; simp only [List.mem_cons, List.not_mem_nil, or_false] at hv; rcases hv with rfl | rfl | rfl <;> rfl) (Nat.le_of_ble_eq_true rfl) (fun K hC hnm => ?_)
  show WN K na (mPut na h M) 0 0 (nE K (nQi (mOp na h (o_taken i k M))) 0 0) 0 [some (.ref (na 61)), some (.int i), some (.int k)] []
  let Q9 : State → Prop := nE K (nQi (mOp na h (o_taken i k M))) 0 0
  show WN K na (mPut na h M) 0 0 Q9 0 [some (.ref (na 61)), some (.int i), some (.int k)] []
  obtain ⟨⟨h0, b0⟩, ⟨h1, b1a, b1⟩, ⟨h11, b11⟩, ⟨h14, b14⟩, ⟨h15, b15, b15n⟩, ⟨h20, b20⟩, ⟨h26, b26⟩, ⟨h27, b27⟩, ⟨h55, b55⟩, iP, iH, iHi, iHd, iC, iT, iF, iG, iS, iZ⟩ := hI
  refine n_aload_n hC dX3_taken_0 rfl ?_
  refine n_iload_n hC dX3_taken_1 rfl ?_
  refine n_iconst hC (v := nI 0) dX3_taken_2 (by decide) ?_
  refine n_iconst hC (v := nI 4) dX3_taken_3 (by decide) ?_
  refine n_callV3z hC (mt_X3_in na h (M) (k) (nI 0) (nI 4)) md_X3_in q1293 dX3_taken_4 rfl (mPut_o _ _ _) rfl rfl ⟨rfl, rfl, by decide, by decide⟩ rfl (Nat.le_of_ble_eq_true rfl) (by decide) (by decide) (fun r0 na0 h0 hp0 => ?_)
  obtain ⟨rfl, rfl, rfl⟩ := hp0
  refine n_if_neB hC (tgt := 13) dX3_taken_7 (by decide) (fun c_7 => ?_) (fun c_7 => ?_)
  · skip
    refine n_aload_n hC dX3_taken_13 rfl ?_
    refine n_iload_n hC dX3_taken_14 rfl ?_
    refine n_callV1z hC (mt_X3_isPerson na h (M) (i) (n := mN M 0) h0 (by omega)) md_X3_isPerson q1309 dX3_taken_15 rfl (mPut_o _ _ _) rfl rfl ⟨rfl, rfl, by decide, by decide⟩ rfl (Nat.le_of_ble_eq_true rfl) (by decide) (by decide) (fun r1 na1 h1 hp1 => ?_)
    obtain ⟨rfl, rfl, rfl⟩ := hp1
    refine n_if_neB hC (tgt := 24) dX3_taken_18 (by decide) (fun c_18 => ?_) (fun c_18 => ?_)
    · skip
      obtain ⟨j, hj, ej⟩ := (nin_t (by omega)).mp c_18
      obtain ⟨z, -, hz, ez⟩ := (nrg_nn (by decide) (by decide)).mp c_7
      subst ej
      subst ez
      have hjc : (nI j).toNatClampNeg = j := nI_clamp (by omega)
      have hzc : (nI z).toNatClampNeg = z := nI_clamp (by omega)
      have hkj := (iP j hj).1.1
      have hk9 := (iP j hj).1.2
      refine n_iload_n hC dX3_taken_24 rfl ?_
      refine n_if_eqN hC (tgt := 53) dX3_taken_25 (by decide) (by omega) (fun c_25 => ?_) (fun c_25 => ?_)
      · skip
        refine n_aload_n hC dX3_taken_53 rfl ?_
        refine m_getA hC 2 dX3_taken_54 rfl rfl ?_
        refine n_iload_n hC dX3_taken_57 rfl ?_
        refine m_aldN hC 2 (v := nI (mA M 2 j)) dX3_taken_58 rfl rfl (by have h9 : mLen 2 = 15 := rfl; omega) hkj ?_
        refine n_goto hC (tgt := 64) dX3_taken_59 (by decide) ?_
        exact n_iret hC dX3_taken_64 (by decide) (by decide) (⟨rfl, by simp only [o_taken, c_7, c_18, hjc, hzc, Bool.true_eq_false, if_false]; rw [if_pos (Or.inl c_25)], M, rfl, mEq.rf⟩)
      · skip
        refine n_aload_n hC dX3_taken_28 rfl ?_
        refine m_getA hC 2 dX3_taken_29 rfl rfl ?_
        refine n_iload_n hC dX3_taken_32 rfl ?_
        refine m_aldN hC 2 (v := nI (mA M 2 j)) dX3_taken_33 rfl rfl (by have h9 : mLen 2 = 15 := rfl; omega) hkj ?_
        refine n_iload_n hC dX3_taken_34 rfl ?_
        refine n_icmp_eqN hC (tgt := 53) dX3_taken_35 (by decide) (by omega) (by omega) (fun c_35 => ?_) (fun c_35 => ?_)
        · skip
          refine n_aload_n hC dX3_taken_53 rfl ?_
          refine m_getA hC 2 dX3_taken_54 rfl rfl ?_
          refine n_iload_n hC dX3_taken_57 rfl ?_
          refine m_aldN hC 2 (v := nI (mA M 2 j)) dX3_taken_58 rfl rfl (by have h9 : mLen 2 = 15 := rfl; omega) hkj ?_
          refine n_goto hC (tgt := 64) dX3_taken_59 (by decide) ?_
          exact n_iret hC dX3_taken_64 (by decide) (by decide) (⟨rfl, by simp only [o_taken, c_7, c_18, hjc, hzc, Bool.true_eq_false, if_false]; rw [if_pos (Or.inr (Or.inl c_35))], M, rfl, mEq.rf⟩)
        · skip
          refine n_iload_n hC dX3_taken_38 rfl ?_
          refine n_iconst hC (v := nI 2) dX3_taken_39 (by decide) ?_
          refine n_icmp_neN hC (tgt := 62) dX3_taken_40 (by decide) (by omega) (by omega) (fun c_40 => ?_) (fun c_40 => ?_)
          · skip
            refine n_bipush hC (v := (-12)) dX3_taken_62 (by decide) ?_
            exact n_iret hC dX3_taken_64 (by decide) (by decide) (⟨rfl, by simp only [o_taken, c_7, c_18, hjc, hzc, Bool.true_eq_false, if_false]; rw [if_neg (by omega)], M, rfl, mEq.rf⟩)
          · skip
            refine n_aload_n hC dX3_taken_43 rfl ?_
            refine m_getA hC 2 dX3_taken_44 rfl rfl ?_
            refine n_iload_n hC dX3_taken_47 rfl ?_
            refine m_aldN hC 2 (v := nI (mA M 2 j)) dX3_taken_48 rfl rfl (by have h9 : mLen 2 = 15 := rfl; omega) hkj ?_
            refine n_iconst hC (v := nI 3) dX3_taken_49 (by decide) ?_
            refine n_icmp_neN hC (tgt := 62) dX3_taken_50 (by decide) (by omega) (by omega) (fun c_50 => ?_) (fun c_50 => ?_)
            · skip
              refine n_bipush hC (v := (-12)) dX3_taken_62 (by decide) ?_
              exact n_iret hC dX3_taken_64 (by decide) (by decide) (⟨rfl, by simp only [o_taken, c_7, c_18, hjc, hzc, Bool.true_eq_false, if_false]; rw [if_neg (by omega)], M, rfl, mEq.rf⟩)
            · skip
              refine n_aload_n hC dX3_taken_53 rfl ?_
              refine m_getA hC 2 dX3_taken_54 rfl rfl ?_
              refine n_iload_n hC dX3_taken_57 rfl ?_
              refine m_aldN hC 2 (v := nI (mA M 2 j)) dX3_taken_58 rfl rfl (by have h9 : mLen 2 = 15 := rfl; omega) hkj ?_
              refine n_goto hC (tgt := 64) dX3_taken_59 (by decide) ?_
              exact n_iret hC dX3_taken_64 (by decide) (by decide) (⟨rfl, by simp only [o_taken, c_7, c_18, hjc, hzc, Bool.true_eq_false, if_false]; rw [if_pos (Or.inr (Or.inr ⟨c_40, c_50⟩))], M, rfl, mEq.rf⟩)
    · skip
      refine n_bipush hC (v := (-11)) dX3_taken_21 (by decide) ?_
      exact n_iret hC dX3_taken_23 (by decide) (by decide) (⟨rfl, by simp [o_taken, c_7, c_18], M, rfl, mEq.of (by simp [o_taken, c_7, c_18])⟩)
  · skip
    refine n_bipush hC (v := (-2)) dX3_taken_10 (by decide) ?_
    exact n_iret hC dX3_taken_12 (by decide) (by decide) (⟨rfl, by simp [o_taken, c_7], M, rfl, mEq.of (by simp [o_taken, c_7])⟩)

set_option maxHeartbeats 4000000 in
set_option maxRecDepth 100000 in
theorem mt_X3_count (na : nA) (h : nH) (M : nMem) (hI : mInv M) (w : Int32) : nM yX3_count cX3_count 2 (some .int) (nRm 9 0 0) [.ref (na 61), .int w] na (mPut na h M) (nQi (mOp na h (o_count w M))) 0 0 := by
  refine nM.ofN RX3 rfl (by decide) (by intro v hv; simp only [List.mem_cons, List.not_mem_nil, or_false] at hv; rcases hv with rfl | rfl <;> rfl) (Nat.le_of_ble_eq_true rfl) (fun K hC hnm => ?_)
  show WN K na (mPut na h M) 0 0 (nE K (nQi (mOp na h (o_count w M))) 0 0) 0 [some (.ref (na 61)), some (.int w)] []
  let Q9 : State → Prop := nE K (nQi (mOp na h (o_count w M))) 0 0
  show WN K na (mPut na h M) 0 0 Q9 0 [some (.ref (na 61)), some (.int w)] []
  obtain ⟨⟨h0, b0⟩, ⟨h1, b1a, b1⟩, ⟨h11, b11⟩, ⟨h14, b14⟩, ⟨h15, b15, b15n⟩, ⟨h20, b20⟩, ⟨h26, b26⟩, ⟨h27, b27⟩, ⟨h55, b55⟩, iP, iH, iHi, iHd, iC, iT, iF, iG, iS, iZ⟩ := hI
  refine n_iload_n hC dX3_count_0 rfl ?_
  by_cases s_1 : (w).toInt < 0 ∨ (7 : Int) < (w).toInt
  · refine n_tableOut hC (tgt := 96) dX3_count_1 s_1 (by decide) ?_
    have hd : ∀ z, z ≤ 7 → ¬ w = nI z := fun z hz e => by subst e; rw [nI_toInt (by omega)] at s_1; omega
    refine n_bipush hC (v := (-2)) dX3_count_96 (by decide) ?_
    exact n_iret hC dX3_count_98 (by decide) (by decide) (⟨rfl, by simp only [o_count, hd 0 (by decide), hd 1 (by decide), hd 2 (by decide), hd 3 (by decide), hd 4 (by decide), hd 5 (by decide), hd 6 (by decide), hd 7 (by decide), if_false], M, rfl, mEq.rf⟩)
  · obtain ⟨j_1, hj_1, ej_1⟩ := sw_c (n := 7) s_1
    rcases (show j_1 = 0 ∨ j_1 = 1 ∨ j_1 = 2 ∨ j_1 = 3 ∨ j_1 = 4 ∨ j_1 = 5 ∨ j_1 = 6 ∨ j_1 = 7 by omega) with rfl | rfl | rfl | rfl | rfl | rfl | rfl | rfl
    · subst ej_1
      refine n_tableIn hC (off := 47) (tgt := 48) dX3_count_1 (by decide) (by decide) (by decide) (by decide) ?_
      refine n_aload_n hC dX3_count_48 rfl ?_
      refine m_getI hC 0 (v := nI (mN M 0)) dX3_count_49 rfl rfl (by decide) h0 ?_
      exact n_iret hC dX3_count_52 (by decide) (by decide) (⟨rfl, rfl, M, rfl, mEq.rf⟩)
    · subst ej_1
      refine n_tableIn hC (off := 52) (tgt := 53) dX3_count_1 (by decide) (by decide) (by decide) (by decide) ?_
      refine n_aload_n hC dX3_count_53 rfl ?_
      refine m_getI hC 1 (v := nI (mN M 1)) dX3_count_54 rfl rfl (by decide) h1 ?_
      exact n_iret hC dX3_count_57 (by decide) (by decide) (⟨rfl, rfl, M, rfl, mEq.rf⟩)
    · subst ej_1
      refine n_tableIn hC (off := 57) (tgt := 58) dX3_count_1 (by decide) (by decide) (by decide) (by decide) ?_
      refine n_aload_n hC dX3_count_58 rfl ?_
      refine m_getI hC 14 (v := nI (mN M 14)) dX3_count_59 rfl rfl (by decide) h14 ?_
      exact n_iret hC dX3_count_62 (by decide) (by decide) (⟨rfl, rfl, M, rfl, mEq.rf⟩)
    · subst ej_1
      refine n_tableIn hC (off := 62) (tgt := 63) dX3_count_1 (by decide) (by decide) (by decide) (by decide) ?_
      refine n_aload_n hC dX3_count_63 rfl ?_
      refine m_getI hC 26 (v := nI (mN M 26)) dX3_count_64 rfl rfl (by decide) h26 ?_
      exact n_iret hC dX3_count_67 (by decide) (by decide) (⟨rfl, rfl, M, rfl, mEq.rf⟩)
    · subst ej_1
      refine n_tableIn hC (off := 67) (tgt := 68) dX3_count_1 (by decide) (by decide) (by decide) (by decide) ?_
      refine n_aload_n hC dX3_count_68 rfl ?_
      refine m_getI hC 27 (v := nI (mN M 27)) dX3_count_69 rfl rfl (by decide) h27 ?_
      exact n_iret hC dX3_count_72 (by decide) (by decide) (⟨rfl, rfl, M, rfl, mEq.rf⟩)
    · subst ej_1
      refine n_tableIn hC (off := 72) (tgt := 73) dX3_count_1 (by decide) (by decide) (by decide) (by decide) ?_
      refine n_aload_n hC dX3_count_73 rfl ?_
      refine m_getI hC 20 (v := nI (mN M 20)) dX3_count_74 rfl rfl (by decide) h20 ?_
      exact n_iret hC dX3_count_77 (by decide) (by decide) (⟨rfl, rfl, M, rfl, mEq.rf⟩)
    · subst ej_1
      refine n_tableIn hC (off := 77) (tgt := 78) dX3_count_1 (by decide) (by decide) (by decide) (by decide) ?_
      refine n_aload_n hC dX3_count_78 rfl ?_
      refine m_getI hC 11 (v := nbo (mB M 11)) dX3_count_79 rfl rfl (by decide) h11 ?_
      refine n_if_eqB hC (tgt := 89) dX3_count_82 (by decide) (fun c_82 => ?_) (fun c_82 => ?_)
      · skip
        refine n_iconst hC (v := nI 0) dX3_count_89 (by decide) ?_
        exact n_iret hC dX3_count_90 (by decide) (by decide) (⟨rfl, by show nbo (mB M 11) = _; rw [c_82]; rfl, M, rfl, mEq.rf⟩)
      · skip
        refine n_iconst hC (v := nI 1) dX3_count_85 (by decide) ?_
        refine n_goto hC (tgt := 90) dX3_count_86 (by decide) ?_
        exact n_iret hC dX3_count_90 (by decide) (by decide) (⟨rfl, by show nbo (mB M 11) = _; rw [c_82]; rfl, M, rfl, mEq.rf⟩)
    · subst ej_1
      refine n_tableIn hC (off := 90) (tgt := 91) dX3_count_1 (by decide) (by decide) (by decide) (by decide) ?_
      refine n_aload_n hC dX3_count_91 rfl ?_
      refine m_getI hC 55 (v := nI (mN M 55)) dX3_count_92 rfl rfl (by decide) h55 ?_
      exact n_iret hC dX3_count_95 (by decide) (by decide) (⟨rfl, rfl, M, rfl, mEq.rf⟩)

def o_tape (t s m : Int32) (M : nMem) : Int32 × nMem :=
  if nrg t (nI 0) (nI 5) = false then (-1, M) else if nrg s (-1) (nI 4) = false then (-2, M) else if s = -1 then
    (nI 1, mset (mset (mset M 57 (upd (M 57) t.toNatClampNeg (-1))) 58 (upd (M 58) t.toNatClampNeg (nI 0))) 59 (blk (M 59) (60 * t.toNatClampNeg) 60 (fun _ => nI 0)))
  else if nI 60 < m then (-2, M) else if m < 0 then (-14, M)
  else (nI 1, mset (mset (mset M 57 (upd (M 57) t.toNatClampNeg s)) 58 (upd (M 58) t.toNatClampNeg m)) 59 (blk (M 59) (60 * t.toNatClampNeg) 60 (fun _ => nI 0)))
/-- what a row of the sort c keeps of v -/
def nrw (c : Nat) (v : Int32) : Int32 := if c = 0 then v.toInt8.toInt32 else if c = 1 then v.toInt16.toInt32 else if c = 3 then (if v = 0 then nI 0 else nI 1) else if c = 4 then v &&& 65535 else v
def o_item (t i v : Int32) (M : nMem) : Int32 × nMem :=
  let z := t.toNatClampNeg
  if nrg t (nI 0) (nI 5) = false then (-1, M) else if M 57 z = -1 then (-11, M) else if nin i (mA M 58 z) = false then (-13, M)
  else (nI 1, mset M 59 (upd (M 59) (60 * z + i.toNatClampNeg) (nrw (mA M 57 z) v)))
def o_read (t i : Int32) (M : nMem) : Int32 × nMem :=
  let z := t.toNatClampNeg
  (if nrg t (nI 0) (nI 5) = false then -1000000000 else if M 57 z = -1 then -1000000000 else if nin i (mA M 58 z) = false then -1000000000 else M 59 (60 * z + i.toNatClampNeg), M)
def o_shift (t i o j m : Int32) (M : nMem) : Int32 × nMem :=
  let z := t.toNatClampNeg
  let y := o.toNatClampNeg
  if nrg t (nI 0) (nI 5) = false then (-1, M) else if nrg o (nI 0) (nI 5) = false then (-1, M) else if M 57 z = -1 then (-11, M) else if M 57 y = -1 then (-11, M)
  else if M 57 z ≠ M 57 y then (-12, M) else if m < 0 ∨ i < 0 ∨ j < 0 then (-13, M)
  else if mA M 58 z < i.toNatClampNeg + m.toNatClampNeg ∨ mA M 58 y < j.toNatClampNeg + m.toNatClampNeg then (-13, M)
  else (m, mset M 59 (blk (M 59) (60 * y + j.toNatClampNeg) m.toNatClampNeg (fun k => M 59 (60 * z + i.toNatClampNeg + k))))
set_option maxHeartbeats 4000000 in
set_option maxRecDepth 100000 in
theorem mt_X3_tape (na : nA) (h : nH) (M : nMem) (hI : mInv M) (t s m : Int32) : nM yX3_tape cX3_tape 5 (some .int) (nRm 9 0 0) [.ref (na 61), .int t, .int s, .int m] na (mPut na h M) (nQi (mOp na h (o_tape t s m M))) 0 0 := by
  refine nM.ofN RX3 rfl (by decide) (by intro v hv; simp only [List.mem_cons, List.not_mem_nil, or_false] at hv; rcases hv with rfl | rfl | rfl | rfl <;> rfl) (Nat.le_of_ble_eq_true rfl) (fun K hC hnm => ?_)
  show WN K na (mPut na h M) 0 0 (nE K (nQi (mOp na h (o_tape t s m M))) 0 0) 0 [some (.ref (na 61)), some (.int t), some (.int s), some (.int m), none] []
  let Q9 : State → Prop := nE K (nQi (mOp na h (o_tape t s m M))) 0 0
  show WN K na (mPut na h M) 0 0 Q9 0 [some (.ref (na 61)), some (.int t), some (.int s), some (.int m), none] []
  obtain ⟨⟨h0, b0⟩, ⟨h1, b1a, b1⟩, ⟨h11, b11⟩, ⟨h14, b14⟩, ⟨h15, b15, b15n⟩, ⟨h20, b20⟩, ⟨h26, b26⟩, ⟨h27, b27⟩, ⟨h55, b55⟩, iP, iH, iHi, iHd, iC, iT, iF, iG, iS, iZ⟩ := hI
  refine n_aload_n hC dX3_tape_0 rfl ?_
  refine n_iload_n hC dX3_tape_1 rfl ?_
  refine n_callV1z hC (mt_X3_isTape na h (M) (t)) md_X3_isTape q1513 dX3_tape_2 rfl (mPut_o _ _ _) rfl rfl ⟨rfl, rfl, by decide, by decide⟩ rfl (Nat.le_of_ble_eq_true rfl) (by decide) (by decide) (fun r0 na0 h0 hp0 => ?_)
  obtain ⟨rfl, rfl, rfl⟩ := hp0
  refine n_if_neB hC (tgt := 10) dX3_tape_5 (by decide) (fun c_5 => ?_) (fun c_5 => ?_)
  · skip
    obtain ⟨z, -, hz, ez⟩ := (nrg_nn (by decide) (by decide)).mp c_5
    subst ez
    have hzc : (nI z).toNatClampNeg = z := nI_clamp (by omega)
    refine n_aload_n hC dX3_tape_10 rfl ?_
    refine n_iload_n hC dX3_tape_11 rfl ?_
    refine n_iconst hC (v := (-1)) dX3_tape_12 (by decide) ?_
    refine n_iconst hC (v := nI 4) dX3_tape_13 (by decide) ?_
    refine n_callV3z hC (mt_X3_in na h (M) (s) ((-1)) (nI 4)) md_X3_in q1293 dX3_tape_14 rfl (mPut_o _ _ _) rfl rfl ⟨rfl, rfl, by decide, by decide⟩ rfl (Nat.le_of_ble_eq_true rfl) (by decide) (by decide) (fun r1 na1 h1 hp1 => ?_)
    obtain ⟨rfl, rfl, rfl⟩ := hp1
    refine n_if_eqB hC (tgt := 30) dX3_tape_17 (by decide) (fun c_17 => ?_) (fun c_17 => ?_)
    · skip
      refine n_bipush hC (v := (-2)) dX3_tape_30 (by decide) ?_
      exact n_iret hC dX3_tape_32 (by decide) (by decide) (⟨rfl, by simp [o_tape, c_5, c_17], M, rfl, mEq.of (by simp [o_tape, c_5, c_17])⟩)
    · skip
      have hsm : ∀ j, j < 2 ^ 31 → ¬ nI j = -1 := fun j hj e => absurd (e ▸ nI_pos (n := j) hj) (by decide)
      rcases (nrg_m (by decide)).mp c_17 with e9 | ⟨y, hy, e9⟩
      · skip
        subst e9
        refine n_iload_n hC dX3_tape_20 rfl ?_
        refine n_if_lt hC (tgt := 33) dX3_tape_21 (by decide) (fun c_21 => ?_) (fun c_21 => absurd c_21 (by decide))
        refine n_iload_n hC dX3_tape_33 rfl ?_
        refine n_if_lt hC (tgt := 44) dX3_tape_34 (by decide) (fun c_34 => ?_) (fun c_34 => absurd c_34 (by decide))
        refine n_aload_n hC dX3_tape_44 rfl ?_
        refine m_getA hC 57 dX3_tape_45 rfl rfl ?_
        refine n_iload_n hC dX3_tape_48 rfl ?_
        refine n_iload_n hC dX3_tape_49 rfl ?_
        refine m_astN hC 57 (M2 := mset M 57 (upd (M 57) z (-1))) dX3_tape_50 rfl rfl (by have h9 : mLen 57 = 6 := rfl; omega) rfl ?_
        refine n_aload_n hC dX3_tape_51 rfl ?_
        refine m_getA hC 58 dX3_tape_52 rfl rfl ?_
        refine n_iload_n hC dX3_tape_55 rfl ?_
        refine n_iload_n hC dX3_tape_56 rfl ?_
        refine n_if_ge hC (tgt := 64) dX3_tape_57 (by decide) (fun c_57 => absurd c_57 (by decide)) (fun c_57 => ?_)
        refine n_iconst hC (v := nI 0) dX3_tape_60 (by decide) ?_
        refine n_goto hC (tgt := 65) dX3_tape_61 (by decide) ?_
        refine m_astN hC 58 (M2 := mset (mset M 57 (upd (M 57) z (-1))) 58 (upd (M 58) z (nI 0))) dX3_tape_65 rfl rfl (by have h9 : mLen 58 = 6 := rfl; omega) rfl ?_
        refine n_iconst hC (v := nI 0) dX3_tape_66 (by decide) ?_
        refine n_istore hC dX3_tape_67 (Nat.le_of_ble_eq_true rfl) ?_
        have lp69 : ∀ d9 : Nat, ∀ (k : Nat), 60 - k = d9 → (k ≤ 60) → WN K na (mPut na h (mset (mset (mset M 57 (upd (M 57) z (-1))) 58 (upd (M 58) z (nI 0))) 59 (blk (M 59) (60 * z) k (fun _ => nI 0)))) 0 0 Q9 69 [some (.ref (na 61)), some (.int (nI z)), some (.int (-1)), some (.int m), some (.int (nI k))] [] := by
          intro d9
          induction d9 using Nat.strongRecOn with
          | _ d9 ih69 =>
            intro k hd69 hk
            refine n_iload hC dX3_tape_69 rfl ?_
            refine n_bipush hC (v := nI 60) dX3_tape_71 (by decide) ?_
            refine n_icmp_geN hC (tgt := 95) dX3_tape_73 (by decide) (by omega) (by omega) (fun c_73 => ?_) (fun c_73 => ?_)
            · skip
              have hk9 : k = 60 := by omega
              subst hk9
              refine n_iconst hC (v := nI 1) dX3_tape_95 (by decide) ?_
              exact n_iret hC dX3_tape_96 (by decide) (by decide) (⟨rfl, by simp only [o_tape, c_5, c_17, hzc, Bool.true_eq_false, if_false]; simp, _, rfl, mEq.of (by simp only [o_tape, c_5, c_17, hzc, Bool.true_eq_false, if_false]; simp)⟩)
            · skip
              refine n_aload_n hC dX3_tape_76 rfl ?_
              refine m_getA hC 59 dX3_tape_77 rfl rfl ?_
              refine n_bipush hC (v := nI 60) dX3_tape_80 (by decide) ?_
              refine n_iload_n hC dX3_tape_82 rfl ?_
              refine n_imulN hC dX3_tape_83 rfl ?_
              refine n_iload hC dX3_tape_84 rfl ?_
              refine n_iaddN hC dX3_tape_86 rfl ?_
              refine n_iconst hC (v := nI 0) dX3_tape_87 (by decide) ?_
              refine m_astN hC 59 (M2 := mset (mset (mset M 57 (upd (M 57) z (-1))) 58 (upd (M 58) z (nI 0))) 59 (blk (M 59) (60 * z) (k + 1) (fun _ => nI 0))) dX3_tape_88 rfl rfl (by have h9 : mLen 59 = 360 := rfl; omega) (by rw [mset_s, mset_ss, blk_u rfl]) ?_
              refine n_iincN hC dX3_tape_89 (j := 1) (c := k + 1) rfl (by decide) rfl ?_
              refine n_goto hC (tgt := 69) dX3_tape_92 (by decide) ?_
              exact WN.forget (L' := [some (.ref (na 61)), some (.int (nI z)), some (.int (-1)), some (.int m), some (.int (nI (k + 1)))]) (⟨Or.inr rfl, Or.inr rfl, Or.inr rfl, Or.inr rfl, Or.inr rfl, trivial⟩) (ih69 _ (by omega) (k + 1) rfl (by omega))
        rw [show mPut na h (mset (mset M 57 (upd (M 57) z (-1))) 58 (upd (M 58) z (nI 0))) = mPut na h (mset (mset (mset M 57 (upd (M 57) z (-1))) 58 (upd (M 58) z (nI 0))) 59 (blk (M 59) (60 * z) 0 (fun _ => nI 0))) by rw [blk_0]; exact congrArg _ (mset_id (M := mset (mset M 57 (upd (M 57) z (-1))) 58 (upd (M 58) z (nI 0))) (k := 59)).symm]
        exact WN.forget (L' := [some (.ref (na 61)), some (.int (nI z)), some (.int (-1)), some (.int m), some (.int (nI 0))]) (⟨Or.inr rfl, Or.inr rfl, Or.inr rfl, Or.inr rfl, Or.inr rfl, trivial⟩) (lp69 _ 0 rfl (by omega))
      · skip
        subst e9
        have hs9 := hsm y (by omega)
        refine n_iload_n hC dX3_tape_20 rfl ?_
        refine n_if_ltN hC (tgt := 33) dX3_tape_21 (by decide) (by omega) ?_
        refine n_iload_n hC dX3_tape_24 rfl ?_
        refine n_bipush hC (v := nI 60) dX3_tape_25 (by decide) ?_
        refine n_icmp_le hC (tgt := 33) dX3_tape_27 (by decide) (fun c_27 => ?_) (fun c_27 => ?_)
        · skip
          have c_27 := Int32.not_lt.mpr c_27
          refine n_iload_n hC dX3_tape_33 rfl ?_
          refine n_if_ltN hC (tgt := 44) dX3_tape_34 (by decide) (by omega) ?_
          refine n_iload_n hC dX3_tape_37 rfl ?_
          refine n_if_ge hC (tgt := 44) dX3_tape_38 (by decide) (fun c_38 => ?_) (fun c_38 => ?_)
          · skip
            have c_38 := Int32.not_lt.mpr c_38
            obtain ⟨w, hw, ew⟩ := nI_of c_38
            subst ew
            have hw60 : w ≤ 60 := by rw [Int32.not_lt, nI_leI hw (by decide)] at c_27; exact c_27
            refine n_aload_n hC dX3_tape_44 rfl ?_
            refine m_getA hC 57 dX3_tape_45 rfl rfl ?_
            refine n_iload_n hC dX3_tape_48 rfl ?_
            refine n_iload_n hC dX3_tape_49 rfl ?_
            refine m_astN hC 57 (M2 := mset M 57 (upd (M 57) z (nI y))) dX3_tape_50 rfl rfl (by have h9 : mLen 57 = 6 := rfl; omega) rfl ?_
            refine n_aload_n hC dX3_tape_51 rfl ?_
            refine m_getA hC 58 dX3_tape_52 rfl rfl ?_
            refine n_iload_n hC dX3_tape_55 rfl ?_
            refine n_iload_n hC dX3_tape_56 rfl ?_
            refine n_if_geN hC (tgt := 64) dX3_tape_57 (by decide) (by omega) ?_
            refine n_iload_n hC dX3_tape_64 rfl ?_
            refine m_astN hC 58 (M2 := mset (mset M 57 (upd (M 57) z (nI y))) 58 (upd (M 58) z (nI w))) dX3_tape_65 rfl rfl (by have h9 : mLen 58 = 6 := rfl; omega) rfl ?_
            refine n_iconst hC (v := nI 0) dX3_tape_66 (by decide) ?_
            refine n_istore hC dX3_tape_67 (Nat.le_of_ble_eq_true rfl) ?_
            have lp69 : ∀ d9 : Nat, ∀ (k : Nat), 60 - k = d9 → (k ≤ 60) → WN K na (mPut na h (mset (mset (mset M 57 (upd (M 57) z (nI y))) 58 (upd (M 58) z (nI w))) 59 (blk (M 59) (60 * z) k (fun _ => nI 0)))) 0 0 Q9 69 [some (.ref (na 61)), some (.int (nI z)), some (.int (nI y)), some (.int (nI w)), some (.int (nI k))] [] := by
              intro d9
              induction d9 using Nat.strongRecOn with
              | _ d9 ih69 =>
                intro k hd69 hk
                refine n_iload hC dX3_tape_69 rfl ?_
                refine n_bipush hC (v := nI 60) dX3_tape_71 (by decide) ?_
                refine n_icmp_geN hC (tgt := 95) dX3_tape_73 (by decide) (by omega) (by omega) (fun c_73 => ?_) (fun c_73 => ?_)
                · skip
                  have hk9 : k = 60 := by omega
                  subst hk9
                  refine n_iconst hC (v := nI 1) dX3_tape_95 (by decide) ?_
                  exact n_iret hC dX3_tape_96 (by decide) (by decide) (⟨rfl, by simp only [o_tape, c_5, c_17, hzc, Bool.true_eq_false, if_false]; simp [hs9, c_27, c_38], _, rfl, mEq.of (by simp only [o_tape, c_5, c_17, hzc, Bool.true_eq_false, if_false]; simp [hs9, c_27, c_38])⟩)
                · skip
                  refine n_aload_n hC dX3_tape_76 rfl ?_
                  refine m_getA hC 59 dX3_tape_77 rfl rfl ?_
                  refine n_bipush hC (v := nI 60) dX3_tape_80 (by decide) ?_
                  refine n_iload_n hC dX3_tape_82 rfl ?_
                  refine n_imulN hC dX3_tape_83 rfl ?_
                  refine n_iload hC dX3_tape_84 rfl ?_
                  refine n_iaddN hC dX3_tape_86 rfl ?_
                  refine n_iconst hC (v := nI 0) dX3_tape_87 (by decide) ?_
                  refine m_astN hC 59 (M2 := mset (mset (mset M 57 (upd (M 57) z (nI y))) 58 (upd (M 58) z (nI w))) 59 (blk (M 59) (60 * z) (k + 1) (fun _ => nI 0))) dX3_tape_88 rfl rfl (by have h9 : mLen 59 = 360 := rfl; omega) (by rw [mset_s, mset_ss, blk_u rfl]) ?_
                  refine n_iincN hC dX3_tape_89 (j := 1) (c := k + 1) rfl (by decide) rfl ?_
                  refine n_goto hC (tgt := 69) dX3_tape_92 (by decide) ?_
                  exact WN.forget (L' := [some (.ref (na 61)), some (.int (nI z)), some (.int (nI y)), some (.int (nI w)), some (.int (nI (k + 1)))]) (⟨Or.inr rfl, Or.inr rfl, Or.inr rfl, Or.inr rfl, Or.inr rfl, trivial⟩) (ih69 _ (by omega) (k + 1) rfl (by omega))
            rw [show mPut na h (mset (mset M 57 (upd (M 57) z (nI y))) 58 (upd (M 58) z (nI w))) = mPut na h (mset (mset (mset M 57 (upd (M 57) z (nI y))) 58 (upd (M 58) z (nI w))) 59 (blk (M 59) (60 * z) 0 (fun _ => nI 0))) by rw [blk_0]; exact congrArg _ (mset_id (M := mset (mset M 57 (upd (M 57) z (nI y))) 58 (upd (M 58) z (nI w))) (k := 59)).symm]
            exact WN.forget (L' := [some (.ref (na 61)), some (.int (nI z)), some (.int (nI y)), some (.int (nI w)), some (.int (nI 0))]) (⟨Or.inr rfl, Or.inr rfl, Or.inr rfl, Or.inr rfl, Or.inr rfl, trivial⟩) (lp69 _ 0 rfl (by omega))
          · skip
            have c_38 := Int32.not_le.mp c_38
            refine n_bipush hC (v := (-14)) dX3_tape_41 (by decide) ?_
            exact n_iret hC dX3_tape_43 (by decide) (by decide) (⟨rfl, by simp only [o_tape, c_5, c_17, hzc, Bool.true_eq_false, if_false]; simp [hs9, c_27, c_38], M, rfl, mEq.of (by simp only [o_tape, c_5, c_17, hzc, Bool.true_eq_false, if_false]; simp [hs9, c_27, c_38])⟩)
        · skip
          have c_27 := Int32.not_le.mp c_27
          refine n_bipush hC (v := (-2)) dX3_tape_30 (by decide) ?_
          exact n_iret hC dX3_tape_32 (by decide) (by decide) (⟨rfl, by simp only [o_tape, c_5, c_17, hzc, Bool.true_eq_false, if_false]; simp [hs9, c_27], M, rfl, mEq.of (by simp only [o_tape, c_5, c_17, hzc, Bool.true_eq_false, if_false]; simp [hs9, c_27])⟩)
  · skip
    refine n_iconst hC (v := (-1)) dX3_tape_8 (by decide) ?_
    exact n_iret hC dX3_tape_9 (by decide) (by decide) (⟨rfl, by simp [o_tape, c_5], M, rfl, mEq.of (by simp [o_tape, c_5])⟩)

set_option maxHeartbeats 4000000 in
set_option maxRecDepth 100000 in
theorem mt_X3_narrow (na : nA) (h : nH) (M : nMem) {c : Nat} (hc : c ≤ 4) (v : Int32) : nM yX3_narrow cX3_narrow 3 (some .int) (nRm 0 0 0) [.ref (na 61), .int (nI c), .int v] na (mPut na h M) (nQi (mPure na h M (nrw c v))) 0 0 := by
  refine nM.ofN RX3 rfl (by decide) (by intro v hv; simp only [List.mem_cons, List.not_mem_nil, or_false] at hv; rcases hv with rfl | rfl | rfl <;> rfl) (Nat.le_of_ble_eq_true rfl) (fun K hC hnm => ?_)
  show WN K na (mPut na h M) 0 0 (nE K (nQi (mPure na h M (nrw c v))) 0 0) 0 [some (.ref (na 61)), some (.int (nI c)), some (.int v)] []
  let Q9 : State → Prop := nE K (nQi (mPure na h M (nrw c v))) 0 0
  show WN K na (mPut na h M) 0 0 Q9 0 [some (.ref (na 61)), some (.int (nI c)), some (.int v)] []
  refine n_iload_n hC dX3_narrow_0 rfl ?_
  refine n_if_neN hC (tgt := 9) dX3_narrow_1 (by decide) (by omega) (fun c_1 => ?_) (fun c_1 => ?_)
  · skip
    refine n_iload_n hC dX3_narrow_9 rfl ?_
    refine n_iconst hC (v := nI 1) dX3_narrow_10 (by decide) ?_
    refine n_icmp_neN hC (tgt := 19) dX3_narrow_11 (by decide) (by omega) (by omega) (fun c_11 => ?_) (fun c_11 => ?_)
    · skip
      refine n_iload_n hC dX3_narrow_19 rfl ?_
      refine n_iconst hC (v := nI 3) dX3_narrow_20 (by decide) ?_
      refine n_icmp_neN hC (tgt := 36) dX3_narrow_21 (by decide) (by omega) (by omega) (fun c_21 => ?_) (fun c_21 => ?_)
      · skip
        refine n_iload_n hC dX3_narrow_36 rfl ?_
        refine n_iconst hC (v := nI 4) dX3_narrow_37 (by decide) ?_
        refine n_icmp_neN hC (tgt := 49) dX3_narrow_38 (by decide) (by omega) (by omega) (fun c_38 => ?_) (fun c_38 => ?_)
        · skip
          refine n_iload_n hC dX3_narrow_49 rfl ?_
          exact n_iret hC dX3_narrow_50 (by decide) (by decide) (⟨by unfold nrw; rw [if_neg c_1, if_neg c_11, if_neg c_21, if_neg c_38], rfl, rfl⟩)
        · skip
          refine n_iload_n hC dX3_narrow_41 rfl ?_
          refine n_ldcw hC q1606 dX3_narrow_42 ?_
          refine n_iand hC dX3_narrow_45 ?_
          refine n_goto hC (tgt := 50) dX3_narrow_46 (by decide) ?_
          exact n_iret hC dX3_narrow_50 (by decide) (by decide) (⟨by unfold nrw; rw [if_neg c_1, if_neg c_11, if_neg c_21, if_pos c_38], rfl, rfl⟩)
      · skip
        refine n_iload_n hC dX3_narrow_24 rfl ?_
        refine n_if_eq hC (tgt := 32) dX3_narrow_25 (by decide) (fun c_25 => ?_) (fun c_25 => ?_)
        · skip
          refine n_iconst hC (v := nI 0) dX3_narrow_32 (by decide) ?_
          refine n_goto hC (tgt := 50) dX3_narrow_33 (by decide) ?_
          exact n_iret hC dX3_narrow_50 (by decide) (by decide) (⟨by unfold nrw; rw [if_neg c_1, if_neg c_11, if_pos c_21, if_pos c_25], rfl, rfl⟩)
        · skip
          refine n_iconst hC (v := nI 1) dX3_narrow_28 (by decide) ?_
          refine n_goto hC (tgt := 50) dX3_narrow_29 (by decide) ?_
          exact n_iret hC dX3_narrow_50 (by decide) (by decide) (⟨by unfold nrw; rw [if_neg c_1, if_neg c_11, if_pos c_21, if_neg c_25], rfl, rfl⟩)
    · skip
      refine n_iload_n hC dX3_narrow_14 rfl ?_
      refine n_i2s hC dX3_narrow_15 ?_
      refine n_goto hC (tgt := 50) dX3_narrow_16 (by decide) ?_
      exact n_iret hC dX3_narrow_50 (by decide) (by decide) (⟨by unfold nrw; rw [if_neg c_1, if_pos c_11], rfl, rfl⟩)
  · skip
    refine n_iload_n hC dX3_narrow_4 rfl ?_
    refine n_i2b hC dX3_narrow_5 ?_
    refine n_goto hC (tgt := 50) dX3_narrow_6 (by decide) ?_
    exact n_iret hC dX3_narrow_50 (by decide) (by decide) (⟨by unfold nrw; rw [if_pos c_1], rfl, rfl⟩)

set_option maxHeartbeats 4000000 in
set_option maxRecDepth 100000 in
theorem mt_X3_item (na : nA) (h : nH) (M : nMem) (hI : mInv M) (t i v : Int32) : nM yX3_item cX3_item 4 (some .int) (nRm 9 0 0) [.ref (na 61), .int t, .int i, .int v] na (mPut na h M) (nQi (mOp na h (o_item t i v M))) 0 0 := by
  refine nM.ofN RX3 rfl (by decide) (by intro v hv; simp only [List.mem_cons, List.not_mem_nil, or_false] at hv; rcases hv with rfl | rfl | rfl | rfl <;> rfl) (Nat.le_of_ble_eq_true rfl) (fun K hC hnm => ?_)
  show WN K na (mPut na h M) 0 0 (nE K (nQi (mOp na h (o_item t i v M))) 0 0) 0 [some (.ref (na 61)), some (.int t), some (.int i), some (.int v)] []
  let Q9 : State → Prop := nE K (nQi (mOp na h (o_item t i v M))) 0 0
  show WN K na (mPut na h M) 0 0 Q9 0 [some (.ref (na 61)), some (.int t), some (.int i), some (.int v)] []
  obtain ⟨⟨h0, b0⟩, ⟨h1, b1a, b1⟩, ⟨h11, b11⟩, ⟨h14, b14⟩, ⟨h15, b15, b15n⟩, ⟨h20, b20⟩, ⟨h26, b26⟩, ⟨h27, b27⟩, ⟨h55, b55⟩, iP, iH, iHi, iHd, iC, iT, iF, iG, iS, iZ⟩ := hI
  refine n_aload_n hC dX3_item_0 rfl ?_
  refine n_iload_n hC dX3_item_1 rfl ?_
  refine n_callV1z hC (mt_X3_isTape na h (M) (t)) md_X3_isTape q1513 dX3_item_2 rfl (mPut_o _ _ _) rfl rfl ⟨rfl, rfl, by decide, by decide⟩ rfl (Nat.le_of_ble_eq_true rfl) (by decide) (by decide) (fun r0 na0 h0 hp0 => ?_)
  obtain ⟨rfl, rfl, rfl⟩ := hp0
  refine n_if_neB hC (tgt := 10) dX3_item_5 (by decide) (fun c_5 => ?_) (fun c_5 => ?_)
  · skip
    obtain ⟨z, -, hz, ez⟩ := (nrg_nn (by decide) (by decide)).mp c_5
    subst ez
    have hzc : (nI z).toNatClampNeg = z := nI_clamp (by omega)
    have h58 := (iZ z (by omega)).2
    have h58a := h58.1
    have h58b := h58.2
    rcases (iZ z (by omega)).1 with e57 | ⟨y, hy, e57⟩
    · skip
      skip
      refine n_aload_n hC dX3_item_10 rfl ?_
      refine m_getA hC 57 dX3_item_11 rfl rfl ?_
      refine n_iload_n hC dX3_item_14 rfl ?_
      refine m_aldN hC 57 (v := (-1)) dX3_item_15 rfl rfl (by have h9 : mLen 57 = 6 := rfl; omega) e57 ?_
      refine n_if_ge hC (tgt := 22) dX3_item_16 (by decide) (fun c_16 => absurd c_16 (by decide)) (fun c_16 => ?_)
      refine n_bipush hC (v := (-11)) dX3_item_19 (by decide) ?_
      exact n_iret hC dX3_item_21 (by decide) (by decide) (⟨rfl, by simp only [o_item, c_5, hzc, Bool.true_eq_false, if_false]; simp [e57], M, rfl, mEq.of (by simp only [o_item, c_5, hzc, Bool.true_eq_false, if_false]; simp [e57])⟩)
    · skip
      have hA : mA M 57 z = y := mA_of e57 (by omega)
      have hN : ¬ M 57 z = -1 := fun e => nI_nm (by omega) (e57.symm.trans e)
      refine n_aload_n hC dX3_item_10 rfl ?_
      refine m_getA hC 57 dX3_item_11 rfl rfl ?_
      refine n_iload_n hC dX3_item_14 rfl ?_
      refine m_aldN hC 57 (v := nI y) dX3_item_15 rfl rfl (by have h9 : mLen 57 = 6 := rfl; omega) e57 ?_
      refine n_if_geN hC (tgt := 22) dX3_item_16 (by decide) (by omega) ?_
      refine n_aload_n hC dX3_item_22 rfl ?_
      refine n_iload_n hC dX3_item_23 rfl ?_
      refine n_iconst hC (v := nI 0) dX3_item_24 (by decide) ?_
      refine n_aload_n hC dX3_item_25 rfl ?_
      refine m_getA hC 58 dX3_item_26 rfl rfl ?_
      refine n_iload_n hC dX3_item_29 rfl ?_
      refine m_aldN hC 58 (v := nI (mA M 58 z)) dX3_item_30 rfl rfl (by have h9 : mLen 58 = 6 := rfl; omega) h58a ?_
      refine n_iconst hC (v := nI 1) dX3_item_31 (by decide) ?_
      refine n_isub hC dX3_item_32 ?_
      refine n_callV3z hC (mt_X3_in na h (M) (i) (nI 0) ((nI (mA M 58 z)) - (nI 1))) md_X3_in q1293 dX3_item_33 rfl (mPut_o _ _ _) rfl rfl ⟨rfl, rfl, by decide, by decide⟩ rfl (Nat.le_of_ble_eq_true rfl) (by decide) (by decide) (fun r1 na1 h1 hp1 => ?_)
      obtain ⟨rfl, rfl, rfl⟩ := hp1
      rw [show nrg i (nI 0) (nI (mA M 58 z) - nI 1) = nin i (mA M 58 z) from nrg_in (by omega)]
      refine n_if_neB hC (tgt := 42) dX3_item_36 (by decide) (fun c_36 => ?_) (fun c_36 => ?_)
      · skip
        obtain ⟨q, hq, eq9⟩ := (nin_t (by omega)).mp c_36
        subst eq9
        have hqc : (nI q).toNatClampNeg = q := nI_clamp (by omega)
        refine n_aload_n hC dX3_item_42 rfl ?_
        refine m_getA hC 59 dX3_item_43 rfl rfl ?_
        refine n_bipush hC (v := nI 60) dX3_item_46 (by decide) ?_
        refine n_iload_n hC dX3_item_48 rfl ?_
        refine n_imulN hC dX3_item_49 rfl ?_
        refine n_iload_n hC dX3_item_50 rfl ?_
        refine n_iaddN hC dX3_item_51 rfl ?_
        refine n_aload_n hC dX3_item_52 rfl ?_
        refine n_aload_n hC dX3_item_53 rfl ?_
        refine m_getA hC 57 dX3_item_54 rfl rfl ?_
        refine n_iload_n hC dX3_item_57 rfl ?_
        refine m_aldN hC 57 (v := nI y) dX3_item_58 rfl rfl (by have h9 : mLen 57 = 6 := rfl; omega) e57 ?_
        refine n_iload_n hC dX3_item_59 rfl ?_
        refine n_callV2i hC (mt_X3_narrow na h (M) (c := y) (by omega) v) md_X3_narrow q1602 dX3_item_60 rfl (mPut_o _ _ _) rfl rfl ⟨rfl, rfl, by decide, by decide⟩ rfl (Nat.le_of_ble_eq_true rfl) (by decide) (by decide) (fun r2 na2 h2 hp2 => ?_)
        obtain ⟨rfl, rfl, rfl⟩ := hp2
        refine m_astN hC 59 (M2 := mset M 59 (upd (M 59) (60 * z + q) (nrw y v))) dX3_item_63 rfl rfl (by have h9 : mLen 59 = 360 := rfl; omega) rfl ?_
        refine n_iconst hC (v := nI 1) dX3_item_64 (by decide) ?_
        exact n_iret hC dX3_item_65 (by decide) (by decide) (⟨rfl, by simp only [o_item, c_5, hzc, Bool.true_eq_false, if_false]; simp [hN, c_36], _, rfl, mEq.of (by simp only [o_item, c_5, hzc, Bool.true_eq_false, if_false]; simp [hN, c_36, hqc, hA])⟩)
      · skip
        refine n_bipush hC (v := (-13)) dX3_item_39 (by decide) ?_
        exact n_iret hC dX3_item_41 (by decide) (by decide) (⟨rfl, by simp only [o_item, c_5, hzc, Bool.true_eq_false, if_false]; simp [hN, c_36], M, rfl, mEq.of (by simp only [o_item, c_5, hzc, Bool.true_eq_false, if_false]; simp [hN, c_36])⟩)
  · skip
    refine n_iconst hC (v := (-1)) dX3_item_8 (by decide) ?_
    exact n_iret hC dX3_item_9 (by decide) (by decide) (⟨rfl, by simp [o_item, c_5], M, rfl, mEq.of (by simp [o_item, c_5])⟩)

set_option maxHeartbeats 4000000 in
set_option maxRecDepth 100000 in
theorem mt_X3_read (na : nA) (h : nH) (M : nMem) (hI : mInv M) (t i : Int32) : nM yX3_read cX3_read 3 (some .int) (nRm 9 0 0) [.ref (na 61), .int t, .int i] na (mPut na h M) (nQi (mOp na h (o_read t i M))) 0 0 := by
  refine nM.ofN RX3 rfl (by decide) (by intro v hv; simp only [List.mem_cons, List.not_mem_nil, or_false] at hv; rcases hv with rfl | rfl | rfl <;> rfl) (Nat.le_of_ble_eq_true rfl) (fun K hC hnm => ?_)
  show WN K na (mPut na h M) 0 0 (nE K (nQi (mOp na h (o_read t i M))) 0 0) 0 [some (.ref (na 61)), some (.int t), some (.int i)] []
  let Q9 : State → Prop := nE K (nQi (mOp na h (o_read t i M))) 0 0
  show WN K na (mPut na h M) 0 0 Q9 0 [some (.ref (na 61)), some (.int t), some (.int i)] []
  obtain ⟨⟨h0, b0⟩, ⟨h1, b1a, b1⟩, ⟨h11, b11⟩, ⟨h14, b14⟩, ⟨h15, b15, b15n⟩, ⟨h20, b20⟩, ⟨h26, b26⟩, ⟨h27, b27⟩, ⟨h55, b55⟩, iP, iH, iHi, iHd, iC, iT, iF, iG, iS, iZ⟩ := hI
  refine n_aload_n hC dX3_read_0 rfl ?_
  refine n_iload_n hC dX3_read_1 rfl ?_
  refine n_callV1z hC (mt_X3_isTape na h (M) (t)) md_X3_isTape q1513 dX3_read_2 rfl (mPut_o _ _ _) rfl rfl ⟨rfl, rfl, by decide, by decide⟩ rfl (Nat.le_of_ble_eq_true rfl) (by decide) (by decide) (fun r0 na0 h0 hp0 => ?_)
  obtain ⟨rfl, rfl, rfl⟩ := hp0
  refine n_if_eqB hC (tgt := 34) dX3_read_5 (by decide) (fun c_5 => ?_) (fun c_5 => ?_)
  · skip
    refine n_ldcw hC q1611 dX3_read_34 ?_
    refine n_goto hC (tgt := 51) dX3_read_37 (by decide) ?_
    exact n_iret hC dX3_read_51 (by decide) (by decide) (⟨rfl, by simp [o_read, c_5], M, rfl, mEq.rf⟩)
  · skip
    obtain ⟨z, -, hz, ez⟩ := (nrg_nn (by decide) (by decide)).mp c_5
    subst ez
    have hzc : (nI z).toNatClampNeg = z := nI_clamp (by omega)
    have h58 := (iZ z (by omega)).2
    have h58a := h58.1
    have h58b := h58.2
    rcases (iZ z (by omega)).1 with e57 | ⟨y, hy, e57⟩
    · skip
      skip
      refine n_aload_n hC dX3_read_8 rfl ?_
      refine m_getA hC 57 dX3_read_9 rfl rfl ?_
      refine n_iload_n hC dX3_read_12 rfl ?_
      refine m_aldN hC 57 (v := (-1)) dX3_read_13 rfl rfl (by have h9 : mLen 57 = 6 := rfl; omega) e57 ?_
      refine n_if_lt hC (tgt := 34) dX3_read_14 (by decide) (fun c_14 => ?_) (fun c_14 => absurd c_14 (by decide))
      
      refine n_ldcw hC q1611 dX3_read_34 ?_
      refine n_goto hC (tgt := 51) dX3_read_37 (by decide) ?_
      exact n_iret hC dX3_read_51 (by decide) (by decide) (⟨rfl, by simp only [o_read, c_5, hzc, Bool.true_eq_false, if_false]; simp [e57], M, rfl, mEq.rf⟩)
    · skip
      have hA : mA M 57 z = y := mA_of e57 (by omega)
      have hN : ¬ M 57 z = -1 := fun e => nI_nm (by omega) (e57.symm.trans e)
      refine n_aload_n hC dX3_read_8 rfl ?_
      refine m_getA hC 57 dX3_read_9 rfl rfl ?_
      refine n_iload_n hC dX3_read_12 rfl ?_
      refine m_aldN hC 57 (v := nI y) dX3_read_13 rfl rfl (by have h9 : mLen 57 = 6 := rfl; omega) e57 ?_
      refine n_if_ltN hC (tgt := 34) dX3_read_14 (by decide) (by omega) ?_
      refine n_aload_n hC dX3_read_17 rfl ?_
      refine n_iload_n hC dX3_read_18 rfl ?_
      refine n_iconst hC (v := nI 0) dX3_read_19 (by decide) ?_
      refine n_aload_n hC dX3_read_20 rfl ?_
      refine m_getA hC 58 dX3_read_21 rfl rfl ?_
      refine n_iload_n hC dX3_read_24 rfl ?_
      refine m_aldN hC 58 (v := nI (mA M 58 z)) dX3_read_25 rfl rfl (by have h9 : mLen 58 = 6 := rfl; omega) h58a ?_
      refine n_iconst hC (v := nI 1) dX3_read_26 (by decide) ?_
      refine n_isub hC dX3_read_27 ?_
      refine n_callV3z hC (mt_X3_in na h (M) (i) (nI 0) ((nI (mA M 58 z)) - (nI 1))) md_X3_in q1293 dX3_read_28 rfl (mPut_o _ _ _) rfl rfl ⟨rfl, rfl, by decide, by decide⟩ rfl (Nat.le_of_ble_eq_true rfl) (by decide) (by decide) (fun r1 na1 h1 hp1 => ?_)
      obtain ⟨rfl, rfl, rfl⟩ := hp1
      rw [show nrg i (nI 0) (nI (mA M 58 z) - nI 1) = nin i (mA M 58 z) from nrg_in (by omega)]
      refine n_if_neB hC (tgt := 40) dX3_read_31 (by decide) (fun c_31 => ?_) (fun c_31 => ?_)
      · skip
        obtain ⟨q, hq, eq9⟩ := (nin_t (by omega)).mp c_31
        subst eq9
        have hqc : (nI q).toNatClampNeg = q := nI_clamp (by omega)
        refine n_aload_n hC dX3_read_40 rfl ?_
        refine m_getA hC 59 dX3_read_41 rfl rfl ?_
        refine n_bipush hC (v := nI 60) dX3_read_44 (by decide) ?_
        refine n_iload_n hC dX3_read_46 rfl ?_
        refine n_imulN hC dX3_read_47 rfl ?_
        refine n_iload_n hC dX3_read_48 rfl ?_
        refine n_iaddN hC dX3_read_49 rfl ?_
        refine m_aldN hC 59 (v := M 59 (60 * z + q)) dX3_read_50 rfl rfl (by have h9 : mLen 59 = 360 := rfl; omega) rfl ?_
        exact n_iret hC dX3_read_51 (by decide) (by decide) (⟨rfl, by simp only [o_read, c_5, hzc, Bool.true_eq_false, if_false]; simp [hN, c_31, hqc], M, rfl, mEq.rf⟩)
      · skip
        refine n_ldcw hC q1611 dX3_read_34 ?_
        refine n_goto hC (tgt := 51) dX3_read_37 (by decide) ?_
        exact n_iret hC dX3_read_51 (by decide) (by decide) (⟨rfl, by simp only [o_read, c_5, hzc, Bool.true_eq_false, if_false]; simp [hN, c_31], M, rfl, mEq.rf⟩)

set_option maxHeartbeats 4000000 in
set_option maxRecDepth 100000 in
theorem mt_X3_shift (na : nA) (h : nH) (M : nMem) (hI : mInv M) (t i o j m : Int32) : nM yX3_shift cX3_shift 7 (some .int) (nRm 9 0 0) [.ref (na 61), .int t, .int i, .int o, .int j, .int m] na (mPut na h M) (nQi (mOp na h (o_shift t i o j m M))) 0 0 := by
  refine nM.ofN RX3 rfl (by decide) (by intro v hv; simp only [List.mem_cons, List.not_mem_nil, or_false] at hv; rcases hv with rfl | rfl | rfl | rfl | rfl | rfl <;> rfl) (Nat.le_of_ble_eq_true rfl) (fun K hC hnm => ?_)
  show WN K na (mPut na h M) 0 0 (nE K (nQi (mOp na h (o_shift t i o j m M))) 0 0) 0 [some (.ref (na 61)), some (.int t), some (.int i), some (.int o), some (.int j), some (.int m), none] []
  let Q9 : State → Prop := nE K (nQi (mOp na h (o_shift t i o j m M))) 0 0
  show WN K na (mPut na h M) 0 0 Q9 0 [some (.ref (na 61)), some (.int t), some (.int i), some (.int o), some (.int j), some (.int m), none] []
  obtain ⟨⟨h0, b0⟩, ⟨h1, b1a, b1⟩, ⟨h11, b11⟩, ⟨h14, b14⟩, ⟨h15, b15, b15n⟩, ⟨h20, b20⟩, ⟨h26, b26⟩, ⟨h27, b27⟩, ⟨h55, b55⟩, iP, iH, iHi, iHd, iC, iT, iF, iG, iS, iZ⟩ := hI
  refine n_aload_n hC dX3_shift_0 rfl ?_
  refine n_iload_n hC dX3_shift_1 rfl ?_
  refine n_callV1z hC (mt_X3_isTape na h (M) (t)) md_X3_isTape q1513 dX3_shift_2 rfl (mPut_o _ _ _) rfl rfl ⟨rfl, rfl, by decide, by decide⟩ rfl (Nat.le_of_ble_eq_true rfl) (by decide) (by decide) (fun r0 na0 h0 hp0 => ?_)
  obtain ⟨rfl, rfl, rfl⟩ := hp0
  refine n_if_eqB hC (tgt := 16) dX3_shift_5 (by decide) (fun c_5 => ?_) (fun c_5 => ?_)
  · skip
    refine n_iconst hC (v := (-1)) dX3_shift_16 (by decide) ?_
    exact n_iret hC dX3_shift_17 (by decide) (by decide) (⟨rfl, by simp [o_shift, c_5], M, rfl, mEq.of (by simp [o_shift, c_5])⟩)
  · skip
    refine n_aload_n hC dX3_shift_8 rfl ?_
    refine n_iload_n hC dX3_shift_9 rfl ?_
    refine n_callV1z hC (mt_X3_isTape na h (M) (o)) md_X3_isTape q1513 dX3_shift_10 rfl (mPut_o _ _ _) rfl rfl ⟨rfl, rfl, by decide, by decide⟩ rfl (Nat.le_of_ble_eq_true rfl) (by decide) (by decide) (fun r1 na1 h1 hp1 => ?_)
    obtain ⟨rfl, rfl, rfl⟩ := hp1
    refine n_if_neB hC (tgt := 18) dX3_shift_13 (by decide) (fun c_13 => ?_) (fun c_13 => ?_)
    · skip
      obtain ⟨z, -, hz, ez⟩ := (nrg_nn (by decide) (by decide)).mp c_5
      subst ez
      have hzc : (nI z).toNatClampNeg = z := nI_clamp (by omega)
      obtain ⟨y0, -, hy0, ey0⟩ := (nrg_nn (by decide) (by decide)).mp c_13
      subst ey0
      have hyc : (nI y0).toNatClampNeg = y0 := nI_clamp (by omega)
      have h58 := (iZ z (by omega)).2
      have h58a := h58.1
      have h58b := h58.2
      have g58 := (iZ y0 (by omega)).2
      have g58a := g58.1
      have g58b := g58.2
      rcases (iZ z (by omega)).1 with e57 | ⟨y, hy, e57⟩
      · skip
        skip
        refine n_aload_n hC dX3_shift_18 rfl ?_
        refine m_getA hC 57 dX3_shift_19 rfl rfl ?_
        refine n_iload_n hC dX3_shift_22 rfl ?_
        refine m_aldN hC 57 (v := (-1)) dX3_shift_23 rfl rfl (by have h9 : mLen 57 = 6 := rfl; omega) e57 ?_
        refine n_if_lt hC (tgt := 36) dX3_shift_24 (by decide) (fun c_24 => ?_) (fun c_24 => absurd c_24 (by decide))
        refine n_bipush hC (v := (-11)) dX3_shift_36 (by decide) ?_
        exact n_iret hC dX3_shift_38 (by decide) (by decide) (⟨rfl, by simp only [o_shift, c_5, c_13, hzc, hyc, Bool.true_eq_false, if_false]; simp [e57], M, rfl, mEq.of (by simp only [o_shift, c_5, c_13, hzc, hyc, Bool.true_eq_false, if_false]; simp [e57])⟩)
      · skip
        have hA : mA M 57 z = y := mA_of e57 (by omega)
        have hN : ¬ M 57 z = -1 := fun e => nI_nm (by omega) (e57.symm.trans e)
        refine n_aload_n hC dX3_shift_18 rfl ?_
        refine m_getA hC 57 dX3_shift_19 rfl rfl ?_
        refine n_iload_n hC dX3_shift_22 rfl ?_
        refine m_aldN hC 57 (v := nI y) dX3_shift_23 rfl rfl (by have h9 : mLen 57 = 6 := rfl; omega) e57 ?_
        refine n_if_ltN hC (tgt := 36) dX3_shift_24 (by decide) (by omega) ?_
        rcases (iZ y0 (by omega)).1 with e572 | ⟨y2, hy2, e572⟩
        · skip
          skip
          refine n_aload_n hC dX3_shift_27 rfl ?_
          refine m_getA hC 57 dX3_shift_28 rfl rfl ?_
          refine n_iload_n hC dX3_shift_31 rfl ?_
          refine m_aldN hC 57 (v := (-1)) dX3_shift_32 rfl rfl (by have h9 : mLen 57 = 6 := rfl; omega) e572 ?_
          refine n_if_ge hC (tgt := 39) dX3_shift_33 (by decide) (fun c_33 => absurd c_33 (by decide)) (fun c_33 => ?_)
          refine n_bipush hC (v := (-11)) dX3_shift_36 (by decide) ?_
          exact n_iret hC dX3_shift_38 (by decide) (by decide) (⟨rfl, by simp only [o_shift, c_5, c_13, hzc, hyc, Bool.true_eq_false, if_false]; simp [hN, e572], M, rfl, mEq.of (by simp only [o_shift, c_5, c_13, hzc, hyc, Bool.true_eq_false, if_false]; simp [hN, e572])⟩)
        · skip
          have hA2 : mA M 57 y0 = y2 := mA_of e572 (by omega)
          have hN2 : ¬ M 57 y0 = -1 := fun e => nI_nm (by omega) (e572.symm.trans e)
          refine n_aload_n hC dX3_shift_27 rfl ?_
          refine m_getA hC 57 dX3_shift_28 rfl rfl ?_
          refine n_iload_n hC dX3_shift_31 rfl ?_
          refine m_aldN hC 57 (v := nI y2) dX3_shift_32 rfl rfl (by have h9 : mLen 57 = 6 := rfl; omega) e572 ?_
          refine n_if_geN hC (tgt := 39) dX3_shift_33 (by decide) (by omega) ?_
          refine n_aload_n hC dX3_shift_39 rfl ?_
          refine m_getA hC 57 dX3_shift_40 rfl rfl ?_
          refine n_iload_n hC dX3_shift_43 rfl ?_
          refine m_aldN hC 57 (v := nI y) dX3_shift_44 rfl rfl (by have h9 : mLen 57 = 6 := rfl; omega) e57 ?_
          refine n_aload_n hC dX3_shift_45 rfl ?_
          refine m_getA hC 57 dX3_shift_46 rfl rfl ?_
          refine n_iload_n hC dX3_shift_49 rfl ?_
          refine m_aldN hC 57 (v := nI y2) dX3_shift_50 rfl rfl (by have h9 : mLen 57 = 6 := rfl; omega) e572 ?_
          refine n_icmp_eqN hC (tgt := 57) dX3_shift_51 (by decide) (by omega) (by omega) (fun c_51 => ?_) (fun c_51 => ?_)
          · skip
            have heq : M 57 z = M 57 y0 := by rw [e57, e572, c_51]
            refine n_iload hC dX3_shift_57 rfl ?_
            refine n_if_lt hC (tgt := 98) dX3_shift_59 (by decide) (fun c_59 => ?_) (fun c_59 => ?_)
            · skip
              have hbad : m < 0 ∨ i < 0 ∨ j < 0 := Or.inl c_59
              refine n_bipush hC (v := (-13)) dX3_shift_98 (by decide) ?_
              exact n_iret hC dX3_shift_100 (by decide) (by decide) (⟨rfl, by simp only [o_shift, c_5, c_13, hzc, hyc, Bool.true_eq_false, if_false]; simp [hN, hN2, heq, hbad], M, rfl, mEq.of (by simp only [o_shift, c_5, c_13, hzc, hyc, Bool.true_eq_false, if_false]; simp [hN, hN2, heq, hbad])⟩)
            · skip
              refine n_iload_n hC dX3_shift_62 rfl ?_
              refine n_if_lt hC (tgt := 98) dX3_shift_63 (by decide) (fun c_63 => ?_) (fun c_63 => ?_)
              · skip
                have hbad : m < 0 ∨ i < 0 ∨ j < 0 := Or.inr (Or.inl c_63)
                refine n_bipush hC (v := (-13)) dX3_shift_98 (by decide) ?_
                exact n_iret hC dX3_shift_100 (by decide) (by decide) (⟨rfl, by simp only [o_shift, c_5, c_13, hzc, hyc, Bool.true_eq_false, if_false]; simp [hN, hN2, heq, hbad], M, rfl, mEq.of (by simp only [o_shift, c_5, c_13, hzc, hyc, Bool.true_eq_false, if_false]; simp [hN, hN2, heq, hbad])⟩)
              · skip
                refine n_iload hC dX3_shift_66 rfl ?_
                refine n_if_lt hC (tgt := 98) dX3_shift_68 (by decide) (fun c_68 => ?_) (fun c_68 => ?_)
                · skip
                  have hbad : m < 0 ∨ i < 0 ∨ j < 0 := Or.inr (Or.inr c_68)
                  refine n_bipush hC (v := (-13)) dX3_shift_98 (by decide) ?_
                  exact n_iret hC dX3_shift_100 (by decide) (by decide) (⟨rfl, by simp only [o_shift, c_5, c_13, hzc, hyc, Bool.true_eq_false, if_false]; simp [hN, hN2, heq, hbad], M, rfl, mEq.of (by simp only [o_shift, c_5, c_13, hzc, hyc, Bool.true_eq_false, if_false]; simp [hN, hN2, heq, hbad])⟩)
                · skip
                  obtain ⟨m1, hm1, em⟩ := nI_of c_59
                  obtain ⟨i1, hi1, ei⟩ := nI_of c_63
                  obtain ⟨j1, hj1, ej⟩ := nI_of c_68
                  subst em
                  subst ei
                  subst ej
                  have hbad : ¬ (nI m1 < 0 ∨ nI i1 < 0 ∨ nI j1 < 0) := fun e => e.elim c_59 fun e => e.elim c_63 c_68
                  have hmc := nI_clamp hm1
                  have hic := nI_clamp hi1
                  have hjc := nI_clamp hj1
                  refine n_iload_n hC dX3_shift_71 rfl ?_
                  refine n_aload_n hC dX3_shift_72 rfl ?_
                  refine m_getA hC 58 dX3_shift_73 rfl rfl ?_
                  refine n_iload_n hC dX3_shift_76 rfl ?_
                  refine m_aldN hC 58 (v := nI (mA M 58 z)) dX3_shift_77 rfl rfl (by have h9 : mLen 58 = 6 := rfl; omega) h58a ?_
                  refine n_iload hC dX3_shift_78 rfl ?_
                  refine n_isub hC dX3_shift_80 ?_
                  refine n_icmp_gt hC (tgt := 98) dX3_shift_81 (by decide) (fun c_81 => ?_) (fun c_81 => ?_)
                  · skip
                    rw [sub_lt hi1 (by omega) hm1] at c_81
                    have hbd : mA M 58 z < i1 + m1 ∨ mA M 58 y0 < j1 + m1 := Or.inl c_81
                    refine n_bipush hC (v := (-13)) dX3_shift_98 (by decide) ?_
                    exact n_iret hC dX3_shift_100 (by decide) (by decide) (⟨rfl, by simp only [o_shift, c_5, c_13, hzc, hyc, Bool.true_eq_false, if_false]; rw [if_neg hN, if_neg hN2, if_neg (fun e => e heq), if_neg hbad, hmc, hic, hjc, if_pos hbd], M, rfl, mEq.of (by simp only [o_shift, c_5, c_13, hzc, hyc, Bool.true_eq_false, if_false]; rw [if_neg hN, if_neg hN2, if_neg (fun e => e heq), if_neg hbad, hmc, hic, hjc, if_pos hbd])⟩)
                  · skip
                    rw [sub_lt hi1 (by omega) hm1] at c_81
                    refine n_iload hC dX3_shift_84 rfl ?_
                    refine n_aload_n hC dX3_shift_86 rfl ?_
                    refine m_getA hC 58 dX3_shift_87 rfl rfl ?_
                    refine n_iload_n hC dX3_shift_90 rfl ?_
                    refine m_aldN hC 58 (v := nI (mA M 58 y0)) dX3_shift_91 rfl rfl (by have h9 : mLen 58 = 6 := rfl; omega) g58a ?_
                    refine n_iload hC dX3_shift_92 rfl ?_
                    refine n_isub hC dX3_shift_94 ?_
                    refine n_icmp_le hC (tgt := 101) dX3_shift_95 (by decide) (fun c_95 => ?_) (fun c_95 => ?_)
                    · skip
                      rw [sub_le hj1 (by omega) hm1] at c_95
                      have hbd : ¬ (mA M 58 z < i1 + m1 ∨ mA M 58 y0 < j1 + m1) := by omega
                      refine n_iconst hC (v := nI 0) dX3_shift_101 (by decide) ?_
                      refine n_istore hC dX3_shift_102 (Nat.le_of_ble_eq_true rfl) ?_
                      have lp104 : ∀ d9 : Nat, ∀ (k : Nat) (M2 : nMem), m1 - k = d9 → (k ≤ m1) → (mFr [60] M M2) → (∀ q, q < k → M2 60 q = M 59 (60 * z + i1 + q)) → WN K na (mPut na h M2) 0 0 Q9 104 [some (.ref (na 61)), some (.int (nI z)), some (.int (nI i1)), some (.int (nI y0)), some (.int (nI j1)), some (.int (nI m1)), some (.int (nI k))] [] := by
                        intro d9
                        induction d9 using Nat.strongRecOn with
                        | _ d9 ih104 =>
                          intro k M2 hd104 hk hF h60
                          refine n_iload hC dX3_shift_104 rfl ?_
                          refine n_iload hC dX3_shift_106 rfl ?_
                          refine n_icmp_geN hC (tgt := 138) dX3_shift_108 (by decide) (by omega) (by omega) (fun c_108 => ?_) (fun c_108 => ?_)
                          · skip
                            refine n_iconst hC (v := nI 0) dX3_shift_138 (by decide) ?_
                            refine n_istore hC dX3_shift_139 (Nat.le_of_ble_eq_true rfl) ?_
                            have lp141 : ∀ d9 : Nat, ∀ (k : Nat) (M3 : nMem), m1 - k = d9 → (k ≤ m1) → (mFr [60, 59] M M3) → (∀ q, q < m1 → M3 60 q = M 59 (60 * z + i1 + q)) → (M3 59 = blk (M 59) (60 * y0 + j1) k (fun q => M 59 (60 * z + i1 + q))) → WN K na (mPut na h M3) 0 0 Q9 141 [some (.ref (na 61)), some (.int (nI z)), some (.int (nI i1)), some (.int (nI y0)), some (.int (nI j1)), some (.int (nI m1)), some (.int (nI k))] [] := by
                              intro d9
                              induction d9 using Nat.strongRecOn with
                              | _ d9 ih141 =>
                                intro k M3 hd141 hk3 hF3 h60 h59
                                refine n_iload hC dX3_shift_141 rfl ?_
                                refine n_iload hC dX3_shift_143 rfl ?_
                                refine n_icmp_geN hC (tgt := 176) dX3_shift_145 (by decide) (by omega) (by omega) (fun c_145 => ?_) (fun c_145 => ?_)
                                · skip
                                  refine n_iload hC dX3_shift_176 rfl ?_
                                  exact n_iret hC dX3_shift_178 (by decide) (by decide) (⟨rfl, by simp only [o_shift, c_5, c_13, hzc, hyc, Bool.true_eq_false, if_false]; rw [if_neg hN, if_neg hN2, if_neg (fun e => e heq), if_neg hbad, hmc, hic, hjc, if_neg hbd], M3, rfl, (by
      simp only [o_shift, c_5, c_13, hzc, hyc, Bool.true_eq_false, if_false]
      rw [if_neg hN, if_neg hN2, if_neg (fun e => e heq), if_neg hbad, hmc, hic, hjc, if_neg hbd]
      dsimp only
      have hk9 : k = m1 := by omega
      subst hk9
      refine mEq.mk3 (fun q a b c => ?_) (fun q _ => by rw [hF3 28 (by decide)]; rfl) (fun q _ => by rw [hF3 29 (by decide)]; rfl)
      by_cases e59 : q = 59
      · subst e59; rw [h59, mset_s]
      · have e60 : q ≠ 60 := fun e => a (by rw [e]; decide)
        rw [hF3 q (by simp [e59, e60]), mset_n e59])⟩)
                                · skip
                                  refine n_aload_n hC dX3_shift_148 rfl ?_
                                  refine m_getA hC 59 dX3_shift_149 rfl rfl ?_
                                  refine n_bipush hC (v := nI 60) dX3_shift_152 (by decide) ?_
                                  refine n_iload_n hC dX3_shift_154 rfl ?_
                                  refine n_imulN hC dX3_shift_155 rfl ?_
                                  refine n_iload hC dX3_shift_156 rfl ?_
                                  refine n_iaddN hC dX3_shift_158 rfl ?_
                                  refine n_iload hC dX3_shift_159 rfl ?_
                                  refine n_iaddN hC dX3_shift_161 rfl ?_
                                  refine n_aload_n hC dX3_shift_162 rfl ?_
                                  refine m_getA hC 60 dX3_shift_163 rfl rfl ?_
                                  refine n_iload hC dX3_shift_166 rfl ?_
                                  refine m_aldN hC 60 (v := M3 60 k) dX3_shift_168 rfl rfl (by have h9 : mLen 60 = 60 := rfl; omega) rfl ?_
                                  refine m_astN hC 59 (M2 := mset M3 59 (upd (M3 59) (60 * y0 + j1 + k) (M3 60 k))) dX3_shift_169 rfl rfl (by have h9 : mLen 59 = 360 := rfl; omega) rfl ?_
                                  refine n_iincN hC dX3_shift_170 (j := 1) (c := k + 1) rfl (by decide) rfl ?_
                                  refine n_goto hC (tgt := 141) dX3_shift_173 (by decide) ?_
                                  exact WN.forget (L' := [some (.ref (na 61)), some (.int (nI z)), some (.int (nI i1)), some (.int (nI y0)), some (.int (nI j1)), some (.int (nI m1)), some (.int (nI (k + 1)))]) (⟨Or.inr rfl, Or.inr rfl, Or.inr rfl, Or.inr rfl, Or.inr rfl, Or.inr rfl, Or.inr rfl, trivial⟩) (ih141 _ (by omega) (k + 1) (mset M3 59 (upd (M3 59) (60 * y0 + j1 + k) (M3 60 k))) rfl (by omega) (mFr.set (by decide) hF3) h60 (by show upd (M3 59) _ _ = _; rw [h59]; exact blk_u (h60 k (by omega))))
                            exact WN.forget (L' := [some (.ref (na 61)), some (.int (nI z)), some (.int (nI i1)), some (.int (nI y0)), some (.int (nI j1)), some (.int (nI m1)), some (.int (nI 0))]) (⟨Or.inr rfl, Or.inr rfl, Or.inr rfl, Or.inr rfl, Or.inr rfl, Or.inr rfl, Or.inr rfl, trivial⟩) (lp141 _ 0 M2 rfl (by omega) (mFr.wk (by decide) hF) (fun q hq => h60 q (by omega)) (by rw [blk_0]; exact hF 59 (by decide)))
                          · skip
                            refine n_aload_n hC dX3_shift_111 rfl ?_
                            refine m_getA hC 60 dX3_shift_112 rfl rfl ?_
                            refine n_iload hC dX3_shift_115 rfl ?_
                            refine n_aload_n hC dX3_shift_117 rfl ?_
                            refine m_getA hC 59 dX3_shift_118 rfl rfl ?_
                            refine n_bipush hC (v := nI 60) dX3_shift_121 (by decide) ?_
                            refine n_iload_n hC dX3_shift_123 rfl ?_
                            refine n_imulN hC dX3_shift_124 rfl ?_
                            refine n_iload_n hC dX3_shift_125 rfl ?_
                            refine n_iaddN hC dX3_shift_126 rfl ?_
                            refine n_iload hC dX3_shift_127 rfl ?_
                            refine n_iaddN hC dX3_shift_129 rfl ?_
                            refine m_aldN hC 59 (v := M2 59 (60 * z + i1 + k)) dX3_shift_130 rfl rfl (by have h9 : mLen 59 = 360 := rfl; omega) rfl ?_
                            refine m_astN hC 60 (M2 := mset M2 60 (upd (M2 60) k (M2 59 (60 * z + i1 + k)))) dX3_shift_131 rfl rfl (by have h9 : mLen 60 = 60 := rfl; omega) rfl ?_
                            refine n_iincN hC dX3_shift_132 (j := 1) (c := k + 1) rfl (by decide) rfl ?_
                            refine n_goto hC (tgt := 104) dX3_shift_135 (by decide) ?_
                            exact WN.forget (L' := [some (.ref (na 61)), some (.int (nI z)), some (.int (nI i1)), some (.int (nI y0)), some (.int (nI j1)), some (.int (nI m1)), some (.int (nI (k + 1)))]) (⟨Or.inr rfl, Or.inr rfl, Or.inr rfl, Or.inr rfl, Or.inr rfl, Or.inr rfl, Or.inr rfl, trivial⟩) (ih104 _ (by omega) (k + 1) (mset M2 60 (upd (M2 60) k (M2 59 (60 * z + i1 + k)))) rfl (by omega) (mFr.set (by decide) hF) (lt_s (fun q hq => by show upd (M2 60) k _ q = _; unfold upd; rw [if_neg (by omega)]; exact h60 q hq) (by show upd (M2 60) k _ k = _; unfold upd; rw [if_pos rfl]; exact congrFun (hF 59 (by decide)) _)))
                      exact WN.forget (L' := [some (.ref (na 61)), some (.int (nI z)), some (.int (nI i1)), some (.int (nI y0)), some (.int (nI j1)), some (.int (nI m1)), some (.int (nI 0))]) (⟨Or.inr rfl, Or.inr rfl, Or.inr rfl, Or.inr rfl, Or.inr rfl, Or.inr rfl, Or.inr rfl, trivial⟩) (lp104 _ 0 M rfl (by omega) mFr.rf lt_0)
                    · skip
                      rw [sub_le hj1 (by omega) hm1] at c_95
                      have hbd : mA M 58 z < i1 + m1 ∨ mA M 58 y0 < j1 + m1 := Or.inr (by omega)
                      refine n_bipush hC (v := (-13)) dX3_shift_98 (by decide) ?_
                      exact n_iret hC dX3_shift_100 (by decide) (by decide) (⟨rfl, by simp only [o_shift, c_5, c_13, hzc, hyc, Bool.true_eq_false, if_false]; rw [if_neg hN, if_neg hN2, if_neg (fun e => e heq), if_neg hbad, hmc, hic, hjc, if_pos hbd], M, rfl, mEq.of (by simp only [o_shift, c_5, c_13, hzc, hyc, Bool.true_eq_false, if_false]; rw [if_neg hN, if_neg hN2, if_neg (fun e => e heq), if_neg hbad, hmc, hic, hjc, if_pos hbd])⟩)
          · skip
            have hne : ¬ M 57 z = M 57 y0 := fun e => c_51 (nI_inj (by omega) (by omega) (e57.symm.trans (e.trans e572)))
            refine n_bipush hC (v := (-12)) dX3_shift_54 (by decide) ?_
            exact n_iret hC dX3_shift_56 (by decide) (by decide) (⟨rfl, by simp only [o_shift, c_5, c_13, hzc, hyc, Bool.true_eq_false, if_false]; simp [hN, hN2, hne], M, rfl, mEq.of (by simp only [o_shift, c_5, c_13, hzc, hyc, Bool.true_eq_false, if_false]; simp [hN, hN2, hne])⟩)
    · skip
      refine n_iconst hC (v := (-1)) dX3_shift_16 (by decide) ?_
      exact n_iret hC dX3_shift_17 (by decide) (by decide) (⟨rfl, by simp [o_shift, c_5, c_13], M, rfl, mEq.of (by simp [o_shift, c_5, c_13])⟩)

