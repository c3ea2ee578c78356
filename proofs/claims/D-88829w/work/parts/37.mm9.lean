/-! ===== THE REFERENCE's methods: orders ===== -/
set_option maxRecDepth 100000
set_option maxHeartbeats 4000000 in
set_option maxRecDepth 100000 in
theorem mt_X3_rank_44 (na : nA) (h : nH) (M : nMem) {n : Nat} {o : Nat → Nat} (hn : M 1 0 = nI n) (hn9 : n ≤ 7) (ho : ∀ p, p < n → M 44 p = nI (o p)) (hb : ∀ p, p < n → o p < n) : nM yX3_rank cX3_rank 6 (some .int) (nRm 1 0 0) [.ref (na 61), .ref (na 44)] na (mPut na h M) (nQi (mPure na h M (nI (rnk n o)))) 0 0 := by
  refine nM.ofN RX3 rfl (by decide) (by intro v hv; simp only [List.mem_cons, List.not_mem_nil, or_false] at hv; rcases hv with rfl | rfl <;> rfl) (Nat.le_of_ble_eq_true rfl) (fun K hC hnm => ?_)
  show WN K na (mPut na h M) 0 0 (nE K (nQi (mPure na h M (nI (rnk n o)))) 0 0) 0 [some (.ref (na 61)), some (.ref (na 44)), none, none, none, none] []
  let Q9 : State → Prop := nE K (nQi (mPure na h M (nI (rnk n o)))) 0 0
  show WN K na (mPut na h M) 0 0 Q9 0 [some (.ref (na 61)), some (.ref (na 44)), none, none, none, none] []
  refine n_iconst hC (v := nI 0) dX3_rank_0 (by decide) ?_
  refine n_istore_n hC dX3_rank_1 (Nat.le_of_ble_eq_true rfl) ?_
  refine n_iconst hC (v := nI 0) dX3_rank_2 (by decide) ?_
  refine n_istore_n hC dX3_rank_3 (Nat.le_of_ble_eq_true rfl) ?_
  have lp4 : ∀ d9 : Nat, ∀ (p : Nat), n - p = d9 → (p ≤ n) → WN K na (mPut na h M) 0 0 Q9 4 [some (.ref (na 61)), some (.ref (na 44)), some (.int (nI (rkp n o p))), some (.int (nI p)), none, none] [] := by
    intro d9
    induction d9 using Nat.strongRecOn with
    | _ d9 ih4 =>
      intro p hd4 hp
      refine n_iload_n hC dX3_rank_4 rfl ?_
      refine n_aload_n hC dX3_rank_5 rfl ?_
      refine m_getI hC 1 (v := nI n) dX3_rank_6 rfl rfl (by decide) hn ?_
      refine n_icmp_geN hC (tgt := 73) dX3_rank_9 (by decide) (by omega) (by omega) (fun c_9 => ?_) (fun c_9 => ?_)
      · skip
        have hp9 : n = p := by omega
        subst hp9
        refine n_iload_n hC dX3_rank_73 rfl ?_
        exact n_iret hC dX3_rank_74 (by decide) (by decide) (⟨rfl, rfl, rfl⟩)
      · skip
        refine n_iconst hC (v := nI 0) dX3_rank_12 (by decide) ?_
        refine n_istore hC dX3_rank_13 (Nat.le_of_ble_eq_true rfl) ?_
        refine n_iload_n hC dX3_rank_15 rfl ?_
        refine n_iconst hC (v := nI 1) dX3_rank_16 (by decide) ?_
        refine n_iaddN hC dX3_rank_17 rfl ?_
        refine n_istore hC dX3_rank_18 (Nat.le_of_ble_eq_true rfl) ?_
        have lp20 : ∀ d9 : Nat, ∀ (q : Nat), n - q = d9 → (p + 1 ≤ q ∧ q ≤ n) → WN K na (mPut na h M) 0 0 Q9 20 [some (.ref (na 61)), some (.ref (na 44)), some (.int (nI (rkp n o p))), some (.int (nI p)), some (.int (nI (cntb q (fun x => decide (p < x) && decide (o x < o p))))), some (.int (nI q))] [] := by
          intro d9
          induction d9 using Nat.strongRecOn with
          | _ d9 ih20 =>
            intro q hd20 hq
            refine n_iload hC dX3_rank_20 rfl ?_
            refine n_aload_n hC dX3_rank_22 rfl ?_
            refine m_getI hC 1 (v := nI n) dX3_rank_23 rfl rfl (by decide) hn ?_
            refine n_icmp_geN hC (tgt := 55) dX3_rank_26 (by decide) (by omega) (by omega) (fun c_26 => ?_) (fun c_26 => ?_)
            · skip
              refine n_iload_n hC dX3_rank_55 rfl ?_
              refine n_aload_n hC dX3_rank_56 rfl ?_
              refine m_getI hC 1 (v := nI n) dX3_rank_57 rfl rfl (by decide) hn ?_
              refine n_iload_n hC dX3_rank_60 rfl ?_
              refine n_isubN hC dX3_rank_61 (by omega) rfl ?_
              refine n_imulN hC dX3_rank_62 rfl ?_
              refine n_iload hC dX3_rank_63 rfl ?_
              refine n_iaddN hC dX3_rank_65 rfl ?_
              rw [show nI ((rkp n o p) * (n - p) + (cntb q (fun x => decide (p < x) && decide (o x < o p)))) = nI (rkp n o (p + 1)) from (by rw [show q = n by omega]; rfl)]
              refine n_istore_n hC dX3_rank_66 (Nat.le_of_ble_eq_true rfl) ?_
              refine n_iincN hC dX3_rank_67 (j := 1) (c := p + 1) rfl (by decide) rfl ?_
              refine n_goto hC (tgt := 4) dX3_rank_70 (by decide) ?_
              exact WN.forget (L' := [some (.ref (na 61)), some (.ref (na 44)), some (.int (nI (rkp n o (p + 1)))), some (.int (nI (p + 1))), none, none]) (⟨Or.inr rfl, Or.inr rfl, Or.inr rfl, Or.inr rfl, Or.inl rfl, Or.inl rfl, trivial⟩) (ih4 _ (by omega) (p + 1) rfl (by omega))
            · skip
              refine n_iload hC dX3_rank_29 rfl ?_
              refine n_aload_n hC dX3_rank_31 rfl ?_
              refine n_iload hC dX3_rank_32 rfl ?_
              refine m_aldN hC 44 (v := nI (o q)) dX3_rank_34 rfl rfl (by have h9 : mLen 44 = 7 := rfl; omega) (ho q (by omega)) ?_
              refine n_aload_n hC dX3_rank_35 rfl ?_
              refine n_iload_n hC dX3_rank_36 rfl ?_
              refine m_aldN hC 44 (v := nI (o p)) dX3_rank_37 rfl rfl (by have h9 : mLen 44 = 7 := rfl; omega) (ho p (by omega)) ?_
              refine n_icmp_geN hC (tgt := 45) dX3_rank_38 (by decide) (by have := hb q (by omega); omega) (by have := hb p (by omega); omega) (fun c_38 => ?_) (fun c_38 => ?_)
              · skip
                refine n_iconst hC (v := nI 0) dX3_rank_45 (by decide) ?_
                refine n_iaddN hC dX3_rank_46 rfl ?_
                rw [show nI ((cntb q (fun x => decide (p < x) && decide (o x < o p))) + 0) = nI (cntb (q + 1) (fun x => decide (p < x) && decide (o x < o p))) from (by show _ = nI (cntb q _ + if (decide (p < q) && decide (o q < o p)) = true then 1 else 0); rw [if_neg (by rw [decide_eq_false (show ¬ o q < o p by omega), Bool.and_false]; decide)])]
                refine n_istore hC dX3_rank_47 (Nat.le_of_ble_eq_true rfl) ?_
                refine n_iincN hC dX3_rank_49 (j := 1) (c := q + 1) rfl (by decide) rfl ?_
                refine n_goto hC (tgt := 20) dX3_rank_52 (by decide) ?_
                exact WN.forget (L' := [some (.ref (na 61)), some (.ref (na 44)), some (.int (nI (rkp n o p))), some (.int (nI p)), some (.int (nI (cntb (q + 1) (fun x => decide (p < x) && decide (o x < o p))))), some (.int (nI (q + 1)))]) (⟨Or.inr rfl, Or.inr rfl, Or.inr rfl, Or.inr rfl, Or.inr rfl, Or.inr rfl, trivial⟩) (ih20 _ (by omega) (q + 1) rfl (by omega))
              · skip
                refine n_iconst hC (v := nI 1) dX3_rank_41 (by decide) ?_
                refine n_goto hC (tgt := 46) dX3_rank_42 (by decide) ?_
                refine n_iaddN hC dX3_rank_46 rfl ?_
                rw [show nI ((cntb q (fun x => decide (p < x) && decide (o x < o p))) + 1) = nI (cntb (q + 1) (fun x => decide (p < x) && decide (o x < o p))) from (by show _ = nI (cntb q _ + if (decide (p < q) && decide (o q < o p)) = true then 1 else 0); rw [if_pos (by rw [decide_eq_true (show p < q by omega), decide_eq_true (show o q < o p by omega)]; rfl)])]
                refine n_istore hC dX3_rank_47 (Nat.le_of_ble_eq_true rfl) ?_
                refine n_iincN hC dX3_rank_49 (j := 1) (c := q + 1) rfl (by decide) rfl ?_
                refine n_goto hC (tgt := 20) dX3_rank_52 (by decide) ?_
                exact WN.forget (L' := [some (.ref (na 61)), some (.ref (na 44)), some (.int (nI (rkp n o p))), some (.int (nI p)), some (.int (nI (cntb (q + 1) (fun x => decide (p < x) && decide (o x < o p))))), some (.int (nI (q + 1)))]) (⟨Or.inr rfl, Or.inr rfl, Or.inr rfl, Or.inr rfl, Or.inr rfl, Or.inr rfl, trivial⟩) (ih20 _ (by omega) (q + 1) rfl (by omega))
        rw [show nI 0 = nI (cntb (p + 1) (fun x => decide (p < x) && decide (o x < o p))) by rw [cntb_zero (fun x hx => by rw [decide_eq_false (by omega), Bool.false_and])]]
        exact WN.forget (L' := [some (.ref (na 61)), some (.ref (na 44)), some (.int (nI (rkp n o p))), some (.int (nI p)), some (.int (nI (cntb (p + 1) (fun x => decide (p < x) && decide (o x < o p))))), some (.int (nI (p + 1)))]) (⟨Or.inr rfl, Or.inr rfl, Or.inr rfl, Or.inr rfl, Or.inr rfl, Or.inr rfl, trivial⟩) (lp20 _ (p + 1) rfl (by omega))
  skip
  exact WN.forget (L' := [some (.ref (na 61)), some (.ref (na 44)), some (.int (nI (rkp n o 0))), some (.int (nI 0)), none, none]) (⟨Or.inr rfl, Or.inr rfl, Or.inr rfl, Or.inr rfl, Or.inl rfl, Or.inl rfl, trivial⟩) (lp4 _ 0 rfl (by omega))

set_option maxHeartbeats 4000000 in
set_option maxRecDepth 100000 in
theorem mt_X3_rank_45 (na : nA) (h : nH) (M : nMem) {n : Nat} {o : Nat → Nat} (hn : M 1 0 = nI n) (hn9 : n ≤ 7) (ho : ∀ p, p < n → M 45 p = nI (o p)) (hb : ∀ p, p < n → o p < n) : nM yX3_rank cX3_rank 6 (some .int) (nRm 1 0 0) [.ref (na 61), .ref (na 45)] na (mPut na h M) (nQi (mPure na h M (nI (rnk n o)))) 0 0 := by
  refine nM.ofN RX3 rfl (by decide) (by intro v hv; simp only [List.mem_cons, List.not_mem_nil, or_false] at hv; rcases hv with rfl | rfl <;> rfl) (Nat.le_of_ble_eq_true rfl) (fun K hC hnm => ?_)
  show WN K na (mPut na h M) 0 0 (nE K (nQi (mPure na h M (nI (rnk n o)))) 0 0) 0 [some (.ref (na 61)), some (.ref (na 45)), none, none, none, none] []
  let Q9 : State → Prop := nE K (nQi (mPure na h M (nI (rnk n o)))) 0 0
  show WN K na (mPut na h M) 0 0 Q9 0 [some (.ref (na 61)), some (.ref (na 45)), none, none, none, none] []
  refine n_iconst hC (v := nI 0) dX3_rank_0 (by decide) ?_
  refine n_istore_n hC dX3_rank_1 (Nat.le_of_ble_eq_true rfl) ?_
  refine n_iconst hC (v := nI 0) dX3_rank_2 (by decide) ?_
  refine n_istore_n hC dX3_rank_3 (Nat.le_of_ble_eq_true rfl) ?_
  have lp4 : ∀ d9 : Nat, ∀ (p : Nat), n - p = d9 → (p ≤ n) → WN K na (mPut na h M) 0 0 Q9 4 [some (.ref (na 61)), some (.ref (na 45)), some (.int (nI (rkp n o p))), some (.int (nI p)), none, none] [] := by
    intro d9
    induction d9 using Nat.strongRecOn with
    | _ d9 ih4 =>
      intro p hd4 hp
      refine n_iload_n hC dX3_rank_4 rfl ?_
      refine n_aload_n hC dX3_rank_5 rfl ?_
      refine m_getI hC 1 (v := nI n) dX3_rank_6 rfl rfl (by decide) hn ?_
      refine n_icmp_geN hC (tgt := 73) dX3_rank_9 (by decide) (by omega) (by omega) (fun c_9 => ?_) (fun c_9 => ?_)
      · skip
        have hp9 : n = p := by omega
        subst hp9
        refine n_iload_n hC dX3_rank_73 rfl ?_
        exact n_iret hC dX3_rank_74 (by decide) (by decide) (⟨rfl, rfl, rfl⟩)
      · skip
        refine n_iconst hC (v := nI 0) dX3_rank_12 (by decide) ?_
        refine n_istore hC dX3_rank_13 (Nat.le_of_ble_eq_true rfl) ?_
        refine n_iload_n hC dX3_rank_15 rfl ?_
        refine n_iconst hC (v := nI 1) dX3_rank_16 (by decide) ?_
        refine n_iaddN hC dX3_rank_17 rfl ?_
        refine n_istore hC dX3_rank_18 (Nat.le_of_ble_eq_true rfl) ?_
        have lp20 : ∀ d9 : Nat, ∀ (q : Nat), n - q = d9 → (p + 1 ≤ q ∧ q ≤ n) → WN K na (mPut na h M) 0 0 Q9 20 [some (.ref (na 61)), some (.ref (na 45)), some (.int (nI (rkp n o p))), some (.int (nI p)), some (.int (nI (cntb q (fun x => decide (p < x) && decide (o x < o p))))), some (.int (nI q))] [] := by
          intro d9
          induction d9 using Nat.strongRecOn with
          | _ d9 ih20 =>
            intro q hd20 hq
            refine n_iload hC dX3_rank_20 rfl ?_
            refine n_aload_n hC dX3_rank_22 rfl ?_
            refine m_getI hC 1 (v := nI n) dX3_rank_23 rfl rfl (by decide) hn ?_
            refine n_icmp_geN hC (tgt := 55) dX3_rank_26 (by decide) (by omega) (by omega) (fun c_26 => ?_) (fun c_26 => ?_)
            · skip
              refine n_iload_n hC dX3_rank_55 rfl ?_
              refine n_aload_n hC dX3_rank_56 rfl ?_
              refine m_getI hC 1 (v := nI n) dX3_rank_57 rfl rfl (by decide) hn ?_
              refine n_iload_n hC dX3_rank_60 rfl ?_
              refine n_isubN hC dX3_rank_61 (by omega) rfl ?_
              refine n_imulN hC dX3_rank_62 rfl ?_
              refine n_iload hC dX3_rank_63 rfl ?_
              refine n_iaddN hC dX3_rank_65 rfl ?_
              rw [show nI ((rkp n o p) * (n - p) + (cntb q (fun x => decide (p < x) && decide (o x < o p)))) = nI (rkp n o (p + 1)) from (by rw [show q = n by omega]; rfl)]
              refine n_istore_n hC dX3_rank_66 (Nat.le_of_ble_eq_true rfl) ?_
              refine n_iincN hC dX3_rank_67 (j := 1) (c := p + 1) rfl (by decide) rfl ?_
              refine n_goto hC (tgt := 4) dX3_rank_70 (by decide) ?_
              exact WN.forget (L' := [some (.ref (na 61)), some (.ref (na 45)), some (.int (nI (rkp n o (p + 1)))), some (.int (nI (p + 1))), none, none]) (⟨Or.inr rfl, Or.inr rfl, Or.inr rfl, Or.inr rfl, Or.inl rfl, Or.inl rfl, trivial⟩) (ih4 _ (by omega) (p + 1) rfl (by omega))
            · skip
              refine n_iload hC dX3_rank_29 rfl ?_
              refine n_aload_n hC dX3_rank_31 rfl ?_
              refine n_iload hC dX3_rank_32 rfl ?_
              refine m_aldN hC 45 (v := nI (o q)) dX3_rank_34 rfl rfl (by have h9 : mLen 45 = 7 := rfl; omega) (ho q (by omega)) ?_
              refine n_aload_n hC dX3_rank_35 rfl ?_
              refine n_iload_n hC dX3_rank_36 rfl ?_
              refine m_aldN hC 45 (v := nI (o p)) dX3_rank_37 rfl rfl (by have h9 : mLen 45 = 7 := rfl; omega) (ho p (by omega)) ?_
              refine n_icmp_geN hC (tgt := 45) dX3_rank_38 (by decide) (by have := hb q (by omega); omega) (by have := hb p (by omega); omega) (fun c_38 => ?_) (fun c_38 => ?_)
              · skip
                refine n_iconst hC (v := nI 0) dX3_rank_45 (by decide) ?_
                refine n_iaddN hC dX3_rank_46 rfl ?_
                rw [show nI ((cntb q (fun x => decide (p < x) && decide (o x < o p))) + 0) = nI (cntb (q + 1) (fun x => decide (p < x) && decide (o x < o p))) from (by show _ = nI (cntb q _ + if (decide (p < q) && decide (o q < o p)) = true then 1 else 0); rw [if_neg (by rw [decide_eq_false (show ¬ o q < o p by omega), Bool.and_false]; decide)])]
                refine n_istore hC dX3_rank_47 (Nat.le_of_ble_eq_true rfl) ?_
                refine n_iincN hC dX3_rank_49 (j := 1) (c := q + 1) rfl (by decide) rfl ?_
                refine n_goto hC (tgt := 20) dX3_rank_52 (by decide) ?_
                exact WN.forget (L' := [some (.ref (na 61)), some (.ref (na 45)), some (.int (nI (rkp n o p))), some (.int (nI p)), some (.int (nI (cntb (q + 1) (fun x => decide (p < x) && decide (o x < o p))))), some (.int (nI (q + 1)))]) (⟨Or.inr rfl, Or.inr rfl, Or.inr rfl, Or.inr rfl, Or.inr rfl, Or.inr rfl, trivial⟩) (ih20 _ (by omega) (q + 1) rfl (by omega))
              · skip
                refine n_iconst hC (v := nI 1) dX3_rank_41 (by decide) ?_
                refine n_goto hC (tgt := 46) dX3_rank_42 (by decide) ?_
                refine n_iaddN hC dX3_rank_46 rfl ?_
                rw [show nI ((cntb q (fun x => decide (p < x) && decide (o x < o p))) + 1) = nI (cntb (q + 1) (fun x => decide (p < x) && decide (o x < o p))) from (by show _ = nI (cntb q _ + if (decide (p < q) && decide (o q < o p)) = true then 1 else 0); rw [if_pos (by rw [decide_eq_true (show p < q by omega), decide_eq_true (show o q < o p by omega)]; rfl)])]
                refine n_istore hC dX3_rank_47 (Nat.le_of_ble_eq_true rfl) ?_
                refine n_iincN hC dX3_rank_49 (j := 1) (c := q + 1) rfl (by decide) rfl ?_
                refine n_goto hC (tgt := 20) dX3_rank_52 (by decide) ?_
                exact WN.forget (L' := [some (.ref (na 61)), some (.ref (na 45)), some (.int (nI (rkp n o p))), some (.int (nI p)), some (.int (nI (cntb (q + 1) (fun x => decide (p < x) && decide (o x < o p))))), some (.int (nI (q + 1)))]) (⟨Or.inr rfl, Or.inr rfl, Or.inr rfl, Or.inr rfl, Or.inr rfl, Or.inr rfl, trivial⟩) (ih20 _ (by omega) (q + 1) rfl (by omega))
        rw [show nI 0 = nI (cntb (p + 1) (fun x => decide (p < x) && decide (o x < o p))) by rw [cntb_zero (fun x hx => by rw [decide_eq_false (by omega), Bool.false_and])]]
        exact WN.forget (L' := [some (.ref (na 61)), some (.ref (na 45)), some (.int (nI (rkp n o p))), some (.int (nI p)), some (.int (nI (cntb (p + 1) (fun x => decide (p < x) && decide (o x < o p))))), some (.int (nI (p + 1)))]) (⟨Or.inr rfl, Or.inr rfl, Or.inr rfl, Or.inr rfl, Or.inr rfl, Or.inr rfl, trivial⟩) (lp20 _ (p + 1) rfl (by omega))
  skip
  exact WN.forget (L' := [some (.ref (na 61)), some (.ref (na 45)), some (.int (nI (rkp n o 0))), some (.int (nI 0)), none, none]) (⟨Or.inr rfl, Or.inr rfl, Or.inr rfl, Or.inr rfl, Or.inl rfl, Or.inl rfl, trivial⟩) (lp4 _ 0 rfl (by omega))

set_option maxHeartbeats 4000000 in
set_option maxRecDepth 100000 in
theorem mt_X3_swap_44 (na : nA) (h : nH) (M : nMem) {n p : Nat} (hn : M 1 0 = nI n) (hn9 : n ≤ 7) (hp : p < n) : nM yX3_swap cX3_swap 4 (none) (nRm 1 0 0) [.ref (na 61), .ref (na 44), .int (nI p)] na (mPut na h M) (nQv (mRelV na h (fun M2 => M2 = mset M 44 (swp (M 44) p ((p + 1) % n))))) 0 0 := by
  refine nM.ofN RX3 rfl (by decide) (by intro v hv; simp only [List.mem_cons, List.not_mem_nil, or_false] at hv; rcases hv with rfl | rfl | rfl <;> rfl) (Nat.le_of_ble_eq_true rfl) (fun K hC hnm => ?_)
  show WN K na (mPut na h M) 0 0 (nE K (nQv (mRelV na h (fun M2 => M2 = mset M 44 (swp (M 44) p ((p + 1) % n))))) 0 0) 0 [some (.ref (na 61)), some (.ref (na 44)), some (.int (nI p)), none] []
  let Q9 : State → Prop := nE K (nQv (mRelV na h (fun M2 => M2 = mset M 44 (swp (M 44) p ((p + 1) % n))))) 0 0
  show WN K na (mPut na h M) 0 0 Q9 0 [some (.ref (na 61)), some (.ref (na 44)), some (.int (nI p)), none] []
  have hq : (p + 1) % n < n := Nat.mod_lt _ (by omega)
  refine n_aload_n hC dX3_swap_0 rfl ?_
  refine n_iload_n hC dX3_swap_1 rfl ?_
  refine m_aldN hC 44 (v := M 44 p) dX3_swap_2 rfl rfl (by have h9 : mLen 44 = 7 := rfl; omega) rfl ?_
  refine n_istore_n hC dX3_swap_3 (Nat.le_of_ble_eq_true rfl) ?_
  refine n_aload_n hC dX3_swap_4 rfl ?_
  refine n_iload_n hC dX3_swap_5 rfl ?_
  refine n_aload_n hC dX3_swap_6 rfl ?_
  refine n_aload_n hC dX3_swap_7 rfl ?_
  refine n_iload_n hC dX3_swap_8 rfl ?_
  refine n_callV1i hC (mt_X3_after na h (M) (p := p) (n := n) hn (by omega) (by omega)) md_X3_after q1338 dX3_swap_9 rfl (mPut_o _ _ _) rfl rfl ⟨rfl, rfl, by decide, by decide⟩ rfl (Nat.le_of_ble_eq_true rfl) (by decide) (by decide) (fun r0 na0 h0 hp0 => ?_)
  obtain ⟨rfl, rfl, rfl⟩ := hp0
  refine m_aldN hC 44 (v := M 44 ((p + 1) % n)) dX3_swap_12 rfl rfl (by have h9 : mLen 44 = 7 := rfl; omega) rfl ?_
  refine m_astN hC 44 (M2 := mset M 44 (upd (M 44) p (M 44 ((p + 1) % n)))) dX3_swap_13 rfl rfl (by have h9 : mLen 44 = 7 := rfl; omega) rfl ?_
  refine n_aload_n hC dX3_swap_14 rfl ?_
  refine n_aload_n hC dX3_swap_15 rfl ?_
  refine n_iload_n hC dX3_swap_16 rfl ?_
  refine n_callV1i hC (mt_X3_after na h (mset M 44 (upd (M 44) p (M 44 ((p + 1) % n)))) (p := p) (n := n) hn (by omega) (by omega)) md_X3_after q1338 dX3_swap_17 rfl (mPut_o _ _ _) rfl rfl ⟨rfl, rfl, by decide, by decide⟩ rfl (Nat.le_of_ble_eq_true rfl) (by decide) (by decide) (fun r1 na1 h1 hp1 => ?_)
  obtain ⟨rfl, rfl, rfl⟩ := hp1
  refine n_iload_n hC dX3_swap_20 rfl ?_
  refine m_astN hC 44 (M2 := mset M 44 (upd (upd (M 44) p (M 44 ((p + 1) % n))) ((p + 1) % n) (M 44 p))) dX3_swap_21 rfl rfl (by have h9 : mLen 44 = 7 := rfl; omega) (mset_ss _ _ _ _) ?_
  exact n_vret hC dX3_swap_22 (by decide) (by decide) (⟨rfl, _, rfl, rfl⟩)

set_option maxHeartbeats 4000000 in
set_option maxRecDepth 100000 in
theorem mt_X3_swap_53 (na : nA) (h : nH) (M : nMem) {n p : Nat} (hn : M 1 0 = nI n) (hn9 : n ≤ 7) (hp : p < n) : nM yX3_swap cX3_swap 4 (none) (nRm 1 0 0) [.ref (na 61), .ref (na 53), .int (nI p)] na (mPut na h M) (nQv (mRelV na h (fun M2 => M2 = mset M 53 (swp (M 53) p ((p + 1) % n))))) 0 0 := by
  refine nM.ofN RX3 rfl (by decide) (by intro v hv; simp only [List.mem_cons, List.not_mem_nil, or_false] at hv; rcases hv with rfl | rfl | rfl <;> rfl) (Nat.le_of_ble_eq_true rfl) (fun K hC hnm => ?_)
  show WN K na (mPut na h M) 0 0 (nE K (nQv (mRelV na h (fun M2 => M2 = mset M 53 (swp (M 53) p ((p + 1) % n))))) 0 0) 0 [some (.ref (na 61)), some (.ref (na 53)), some (.int (nI p)), none] []
  let Q9 : State → Prop := nE K (nQv (mRelV na h (fun M2 => M2 = mset M 53 (swp (M 53) p ((p + 1) % n))))) 0 0
  show WN K na (mPut na h M) 0 0 Q9 0 [some (.ref (na 61)), some (.ref (na 53)), some (.int (nI p)), none] []
  have hq : (p + 1) % n < n := Nat.mod_lt _ (by omega)
  refine n_aload_n hC dX3_swap_0 rfl ?_
  refine n_iload_n hC dX3_swap_1 rfl ?_
  refine m_aldN hC 53 (v := M 53 p) dX3_swap_2 rfl rfl (by have h9 : mLen 53 = 7 := rfl; omega) rfl ?_
  refine n_istore_n hC dX3_swap_3 (Nat.le_of_ble_eq_true rfl) ?_
  refine n_aload_n hC dX3_swap_4 rfl ?_
  refine n_iload_n hC dX3_swap_5 rfl ?_
  refine n_aload_n hC dX3_swap_6 rfl ?_
  refine n_aload_n hC dX3_swap_7 rfl ?_
  refine n_iload_n hC dX3_swap_8 rfl ?_
  refine n_callV1i hC (mt_X3_after na h (M) (p := p) (n := n) hn (by omega) (by omega)) md_X3_after q1338 dX3_swap_9 rfl (mPut_o _ _ _) rfl rfl ⟨rfl, rfl, by decide, by decide⟩ rfl (Nat.le_of_ble_eq_true rfl) (by decide) (by decide) (fun r0 na0 h0 hp0 => ?_)
  obtain ⟨rfl, rfl, rfl⟩ := hp0
  refine m_aldN hC 53 (v := M 53 ((p + 1) % n)) dX3_swap_12 rfl rfl (by have h9 : mLen 53 = 7 := rfl; omega) rfl ?_
  refine m_astN hC 53 (M2 := mset M 53 (upd (M 53) p (M 53 ((p + 1) % n)))) dX3_swap_13 rfl rfl (by have h9 : mLen 53 = 7 := rfl; omega) rfl ?_
  refine n_aload_n hC dX3_swap_14 rfl ?_
  refine n_aload_n hC dX3_swap_15 rfl ?_
  refine n_iload_n hC dX3_swap_16 rfl ?_
  refine n_callV1i hC (mt_X3_after na h (mset M 53 (upd (M 53) p (M 53 ((p + 1) % n)))) (p := p) (n := n) hn (by omega) (by omega)) md_X3_after q1338 dX3_swap_17 rfl (mPut_o _ _ _) rfl rfl ⟨rfl, rfl, by decide, by decide⟩ rfl (Nat.le_of_ble_eq_true rfl) (by decide) (by decide) (fun r1 na1 h1 hp1 => ?_)
  obtain ⟨rfl, rfl, rfl⟩ := hp1
  refine n_iload_n hC dX3_swap_20 rfl ?_
  refine m_astN hC 53 (M2 := mset M 53 (upd (upd (M 53) p (M 53 ((p + 1) % n))) ((p + 1) % n) (M 53 p))) dX3_swap_21 rfl rfl (by have h9 : mLen 53 = 7 := rfl; omega) (mset_ss _ _ _ _) ?_
  exact n_vret hC dX3_swap_22 (by decide) (by decide) (⟨rfl, _, rfl, rfl⟩)

set_option maxHeartbeats 4000000 in
set_option maxRecDepth 100000 in
theorem mt_X3_unrank_44 (na : nA) (h : nH) (M : nMem) {n v : Nat} (hn : M 1 0 = nI n) (hn3 : 1 ≤ n) (hn9 : n ≤ 7) (hv : v < fct n) : nM yX3_unrank cX3_unrank 8 (none) (nRm 0 0 0) [.ref (na 61), .int (nI v), .ref (na 44)] na (mPut na h M) (nQv (mRelV na h (fun M2 => mFr [50, 44] M M2 ∧ ∀ i, i < n → M2 44 i = nI (unr n v i)))) 0 0 := by
  refine nM.ofN RX3 rfl (by decide) (by intro v hv; simp only [List.mem_cons, List.not_mem_nil, or_false] at hv; rcases hv with rfl | rfl | rfl <;> rfl) (Nat.le_of_ble_eq_true rfl) (fun K hC hnm => ?_)
  show WN K na (mPut na h M) 0 0 (nE K (nQv (mRelV na h (fun M2 => mFr [50, 44] M M2 ∧ ∀ i, i < n → M2 44 i = nI (unr n v i)))) 0 0) 0 [some (.ref (na 61)), some (.int (nI v)), some (.ref (na 44)), none, none, none, none, none] []
  let Q9 : State → Prop := nE K (nQv (mRelV na h (fun M2 => mFr [50, 44] M M2 ∧ ∀ i, i < n → M2 44 i = nI (unr n v i)))) 0 0
  show WN K na (mPut na h M) 0 0 Q9 0 [some (.ref (na 61)), some (.int (nI v)), some (.ref (na 44)), none, none, none, none, none] []
  have hf5 := fct_le hn9
  refine n_iload_n hC dX3_unrank_0 rfl ?_
  refine n_istore_n hC dX3_unrank_1 (Nat.le_of_ble_eq_true rfl) ?_
  refine n_aload_n hC dX3_unrank_2 rfl ?_
  refine m_getI hC 1 (v := nI n) dX3_unrank_3 rfl rfl (by decide) hn ?_
  refine n_iconst hC (v := nI 1) dX3_unrank_6 (by decide) ?_
  refine n_isubN hC dX3_unrank_7 (by omega) rfl ?_
  refine n_istore hC dX3_unrank_8 (Nat.le_of_ble_eq_true rfl) ?_
  have lp10 : ∀ d9 : Nat, ∀ (q : Nat) (j : Nat) (M3 : nMem), q = d9 → (q ≤ n) → (q + j = n) → (mFr [50, 44] M M3) → (∀ p, q ≤ p → p < n → M3 50 p = nI (dgt n v p)) → WN K na (mPut na h M3) 0 0 Q9 10 [some (.ref (na 61)), some (.int (nI v)), some (.ref (na 44)), some (.int (nI (lft v j))), some (.int (pmi q)), none, none, none] [] := by
    intro d9
    induction d9 using Nat.strongRecOn with
    | _ d9 ih10 =>
      intro q j M3 hd10 hq hj hF3 h50
      refine n_iload hC dX3_unrank_10 rfl ?_
      refine n_if_lt hC (tgt := 47) dX3_unrank_12 (by decide) (fun c_12 => ?_) (fun c_12 => ?_)
      · skip
        have hq0 := pmi_z (by omega) c_12
        subst hq0
        refine n_iconst hC (v := nI 0) dX3_unrank_47 (by decide) ?_
        refine n_istore hC dX3_unrank_48 (Nat.le_of_ble_eq_true rfl) ?_
        refine n_iconst hC (v := nI 0) dX3_unrank_50 (by decide) ?_
        refine n_istore hC dX3_unrank_51 (Nat.le_of_ble_eq_true rfl) ?_
        have lp53 : ∀ d9 : Nat, ∀ (p : Nat) (u : Nat) (o : Nat → Nat) (M4 : nMem), n - p = d9 → (p ≤ n) → (mFr [50, 44] M M4) → (∀ p, p < n → M4 50 p = nI (dgt n v p)) → (pOrd n (dgt n v) o p) → (∀ i, i < p → M4 44 i = nI (o i)) → (u < 2 ^ 7) → (∀ x, x < n → u.testBit x = !fre o p x) → WN K na (mPut na h M4) 0 0 Q9 53 [some (.ref (na 61)), some (.int (nI v)), some (.ref (na 44)), none, some (.int (nI u)), some (.int (nI p)), none, none] [] := by
          intro d9
          induction d9 using Nat.strongRecOn with
          | _ d9 ih53 =>
            intro p u o M4 hd53 hp hF4 h504 hO hoM hu hbt
            refine n_iload hC dX3_unrank_53 rfl ?_
            refine n_aload_n hC dX3_unrank_55 rfl ?_
            refine m_getI hC 1 (v := nI n) dX3_unrank_56 rfl rfl (by decide) ((congrFun (hF4 1 (by decide)) 0).trans hn) ?_
            refine n_icmp_geN hC (tgt := 138) dX3_unrank_59 (by decide) (by omega) (by omega) (fun c_59 => ?_) (fun c_59 => ?_)
            · skip
              have hp9 : n = p := by omega
              subst hp9
              exact n_vret hC dX3_unrank_138 (by decide) (by decide) (⟨rfl, M4, rfl, hF4, fun i hi => (hoM i hi).trans (congrArg nI (pOrd_e hO hv i hi))⟩)
            · skip
              refine n_iconst hC (v := nI 0) dX3_unrank_62 (by decide) ?_
              refine n_istore hC dX3_unrank_63 (Nat.le_of_ble_eq_true rfl) ?_
              refine n_aload_n hC dX3_unrank_65 rfl ?_
              refine m_getA hC 50 dX3_unrank_66 rfl rfl ?_
              refine n_iload hC dX3_unrank_69 rfl ?_
              refine m_aldN hC 50 (v := nI (dgt n v p)) dX3_unrank_71 rfl rfl (by have h9 : mLen 50 = 7 := rfl; omega) (h504 p (by omega)) ?_
              refine n_istore hC dX3_unrank_72 (Nat.le_of_ble_eq_true rfl) ?_
              have lp74 : ∀ d9 : Nat, ∀ (k : Nat) (sk : Nat), n - k = d9 → (k ≤ n) → (sk + cntb k (fre o p) = dgt n v p) → WN K na (mPut na h M4) 0 0 Q9 74 [some (.ref (na 61)), some (.int (nI v)), some (.ref (na 44)), none, some (.int (nI u)), some (.int (nI p)), some (.int (nI k)), some (.int (nI sk))] [] := by
                intro d9
                induction d9 using Nat.strongRecOn with
                | _ d9 ih74 =>
                  intro k sk hd74 hk hs
                  have hkn : k < n := by
                    have f1 := fre_cnt hO.1 hO.2.1
                    have f2 := dgt_lt (v := v) (show p < n by omega)
                    by_cases z : k = n
                    · subst z; omega
                    · omega
                  refine n_iload hC dX3_unrank_74 rfl ?_
                  refine n_iload hC dX3_unrank_76 rfl ?_
                  refine n_ishr hC dX3_unrank_78 ?_
                  refine n_iconst hC (v := nI 1) dX3_unrank_79 (by decide) ?_
                  refine n_iand hC dX3_unrank_80 ?_
                  refine n_iconst hC (v := nI 1) dX3_unrank_81 (by decide) ?_
                  refine n_icmp_eq hC (tgt := 90) dX3_unrank_82 (by decide) (fun c_82 => ?_) (fun c_82 => ?_)
                  · skip
                    rw [bitv (Nat.lt_trans hu (by decide)) (by omega), bitt, hbt k hkn] at c_82
                    have c_82f : fre o p k = false := by cases e : fre o p k; rfl; rw [e] at c_82; exact absurd c_82 (by decide)
                    refine n_iload hC dX3_unrank_90 rfl ?_
                    refine n_iload hC dX3_unrank_92 rfl ?_
                    refine n_iload hC dX3_unrank_94 rfl ?_
                    refine n_ishr hC dX3_unrank_96 ?_
                    refine n_iconst hC (v := nI 1) dX3_unrank_97 (by decide) ?_
                    refine n_iand hC dX3_unrank_98 ?_
                    refine n_iconst hC (v := nI 1) dX3_unrank_99 (by decide) ?_
                    refine n_icmp_ne hC (tgt := 107) dX3_unrank_100 (by decide) (fun c_100 => (by rw [bitv (Nat.lt_trans hu (by decide)) (by omega), bitt, hbt k hkn] at c_100; rw [c_82f] at c_100; exact absurd rfl c_100)) (fun c_100 => ?_)
                    refine n_iconst hC (v := nI 0) dX3_unrank_103 (by decide) ?_
                    refine n_goto hC (tgt := 108) dX3_unrank_104 (by decide) ?_
                    refine n_isubN hC dX3_unrank_108 (by omega) rfl ?_
                    refine n_istore hC dX3_unrank_109 (Nat.le_of_ble_eq_true rfl) ?_
                    refine n_iincN hC dX3_unrank_111 (j := 1) (c := k + 1) rfl (by decide) rfl ?_
                    refine n_goto hC (tgt := 74) dX3_unrank_114 (by decide) ?_
                    exact WN.forget (L' := [some (.ref (na 61)), some (.int (nI v)), some (.ref (na 44)), none, some (.int (nI u)), some (.int (nI p)), some (.int (nI (k + 1))), some (.int (nI (sk - 0)))]) (⟨Or.inr rfl, Or.inr rfl, Or.inr rfl, Or.inl rfl, Or.inr rfl, Or.inr rfl, Or.inr rfl, Or.inr rfl, trivial⟩) (ih74 _ (by omega) (k + 1) (sk - 0) rfl (by omega) (by show _ + (cntb k _ + (if fre o p k = true then 1 else 0)) = _; rw [if_neg (by rw [c_82f]; decide)]; omega))
                  · skip
                    rw [bitv (Nat.lt_trans hu (by decide)) (by omega), bitt, hbt k hkn] at c_82
                    have c_82f : fre o p k = true := by cases e : fre o p k; rw [e] at c_82; exact absurd rfl c_82; rfl
                    refine n_iload hC dX3_unrank_85 rfl ?_
                    refine n_if_leN hC (tgt := 117) dX3_unrank_87 (by decide) (by have := dgt_lt (v := v) (show p < n by omega); omega) (fun c_87 => ?_) (fun c_87 => ?_)
                    · skip
                      have hcn : cntb k (fre o p) = dgt n v p := by omega
                      refine n_aload_n hC dX3_unrank_117 rfl ?_
                      refine n_iload hC dX3_unrank_118 rfl ?_
                      refine n_iload hC dX3_unrank_120 rfl ?_
                      refine m_astN hC 44 (M2 := mset M4 44 (upd (M4 44) p (nI k))) dX3_unrank_122 rfl rfl (by have h9 : mLen 44 = 7 := rfl; omega) rfl ?_
                      refine n_iload hC dX3_unrank_123 rfl ?_
                      refine n_iconst hC (v := nI 1) dX3_unrank_125 (by decide) ?_
                      refine n_iload hC dX3_unrank_126 rfl ?_
                      refine n_ishl hC dX3_unrank_128 ?_
                      rw [show (nI 1) <<< ((nI k) &&& 31) = nI (2 ^ k) from shl1 (by omega)]
                      refine n_ior hC dX3_unrank_129 ?_
                      rw [show (nI u) ||| (nI (2 ^ k)) = nI (u ||| 2 ^ k) from orN (Nat.lt_trans hu (by decide)) (Nat.pow_lt_pow_right (by decide) (by omega))]
                      refine n_istore hC dX3_unrank_130 (Nat.le_of_ble_eq_true rfl) ?_
                      refine n_iincN hC dX3_unrank_132 (j := 1) (c := p + 1) rfl (by decide) rfl ?_
                      refine n_goto hC (tgt := 53) dX3_unrank_135 (by decide) ?_
                      exact WN.forget (L' := [some (.ref (na 61)), some (.int (nI v)), some (.ref (na 44)), none, some (.int (nI (u ||| 2 ^ k))), some (.int (nI (p + 1))), none, none]) (⟨Or.inr rfl, Or.inr rfl, Or.inr rfl, Or.inl rfl, Or.inr rfl, Or.inr rfl, Or.inl rfl, Or.inl rfl, trivial⟩) (ih53 _ (by omega) (p + 1) (u ||| 2 ^ k) (updN o p k) (mset M4 44 (upd (M4 44) p (nI k))) rfl (by omega) (mFr.set (by decide) hF4) h504 (pOrd_s hO hkn c_82f hcn) (fun i hi => by show upd (M4 44) p (nI k) i = nI (updN o p k i); unfold upd updN; by_cases e : i = p; rw [if_pos e, if_pos e]; rw [if_neg e, if_neg e]; exact hoM i (by omega)) (Nat.or_lt_two_pow hu (Nat.pow_lt_pow_right (by decide) (by omega))) (fun x hx => by rw [Nat.testBit_or, hbt x hx, Nat.testBit_two_pow, fre_s]; by_cases e : k = x; subst e; simp; rw [decide_eq_false e, decide_eq_true (Ne.symm e)]; simp))
                    · skip
                      refine n_iload hC dX3_unrank_90 rfl ?_
                      refine n_iload hC dX3_unrank_92 rfl ?_
                      refine n_iload hC dX3_unrank_94 rfl ?_
                      refine n_ishr hC dX3_unrank_96 ?_
                      refine n_iconst hC (v := nI 1) dX3_unrank_97 (by decide) ?_
                      refine n_iand hC dX3_unrank_98 ?_
                      refine n_iconst hC (v := nI 1) dX3_unrank_99 (by decide) ?_
                      refine n_icmp_ne hC (tgt := 107) dX3_unrank_100 (by decide) (fun c_100 => ?_) (fun c_100 => (by rw [bitv (Nat.lt_trans hu (by decide)) (by omega), bitt, hbt k hkn] at c_100; rw [c_82f] at c_100; exact absurd c_100 (by decide)))
                      refine n_iconst hC (v := nI 1) dX3_unrank_107 (by decide) ?_
                      refine n_isubN hC dX3_unrank_108 (by omega) rfl ?_
                      refine n_istore hC dX3_unrank_109 (Nat.le_of_ble_eq_true rfl) ?_
                      refine n_iincN hC dX3_unrank_111 (j := 1) (c := k + 1) rfl (by decide) rfl ?_
                      refine n_goto hC (tgt := 74) dX3_unrank_114 (by decide) ?_
                      exact WN.forget (L' := [some (.ref (na 61)), some (.int (nI v)), some (.ref (na 44)), none, some (.int (nI u)), some (.int (nI p)), some (.int (nI (k + 1))), some (.int (nI (sk - 1)))]) (⟨Or.inr rfl, Or.inr rfl, Or.inr rfl, Or.inl rfl, Or.inr rfl, Or.inr rfl, Or.inr rfl, Or.inr rfl, trivial⟩) (ih74 _ (by omega) (k + 1) (sk - 1) rfl (by omega) (by show _ + (cntb k _ + (if fre o p k = true then 1 else 0)) = _; rw [if_pos c_82f]; omega))
              exact WN.forget (L' := [some (.ref (na 61)), some (.int (nI v)), some (.ref (na 44)), none, some (.int (nI u)), some (.int (nI p)), some (.int (nI 0)), some (.int (nI (dgt n v p)))]) (⟨Or.inr rfl, Or.inr rfl, Or.inr rfl, Or.inl rfl, Or.inr rfl, Or.inr rfl, Or.inr rfl, Or.inr rfl, trivial⟩) (lp74 _ 0 (dgt n v p) rfl (by omega) rfl)
        exact WN.forget (L' := [some (.ref (na 61)), some (.int (nI v)), some (.ref (na 44)), none, some (.int (nI 0)), some (.int (nI 0)), none, none]) (⟨Or.inr rfl, Or.inr rfl, Or.inr rfl, Or.inl rfl, Or.inr rfl, Or.inr rfl, Or.inl rfl, Or.inl rfl, trivial⟩) (lp53 _ 0 0 id M3 rfl (by omega) hF3 (fun p a => h50 p (by omega) a) (⟨fun j hj => by omega, fun a b ha => by omega, fun a ha => by omega⟩) (fun i hi => by omega) (by decide) (fun x _ => by rw [Nat.zero_testBit]; rfl))
      · skip
        obtain ⟨q1, rfl⟩ := pmi_n c_12
        simp only [pmi_s]
        have hl9 := lft_le v j
        refine n_aload_n hC dX3_unrank_15 rfl ?_
        refine m_getA hC 50 dX3_unrank_16 rfl rfl ?_
        refine n_iload hC dX3_unrank_19 rfl ?_
        refine n_iload_n hC dX3_unrank_21 rfl ?_
        refine n_aload_n hC dX3_unrank_22 rfl ?_
        refine m_getI hC 1 (v := nI n) dX3_unrank_23 rfl rfl (by decide) ((congrFun (hF3 1 (by decide)) 0).trans hn) ?_
        refine n_iload hC dX3_unrank_26 rfl ?_
        refine n_isubN hC dX3_unrank_28 (by omega) rfl ?_
        refine n_iremN hC dX3_unrank_29 (by omega) (by omega) (by omega) rfl ?_
        refine m_astN hC 50 (M2 := mset M3 50 (upd (M3 50) q1 (nI ((lft v j) % (n - q1))))) dX3_unrank_30 rfl rfl (by have h9 : mLen 50 = 7 := rfl; omega) rfl ?_
        refine n_iload_n hC dX3_unrank_31 rfl ?_
        refine n_aload_n hC dX3_unrank_32 rfl ?_
        refine m_getI hC 1 (v := nI n) dX3_unrank_33 rfl rfl (by decide) ((congrFun (hF3 1 (by decide)) 0).trans hn) ?_
        refine n_iload hC dX3_unrank_36 rfl ?_
        refine n_isubN hC dX3_unrank_38 (by omega) rfl ?_
        refine n_idivN hC dX3_unrank_39 (by omega) (by omega) (by omega) rfl ?_
        rw [show nI ((lft v j) / (n - q1)) = nI (lft v (j + 1)) from (by rw [show n - q1 = j + 1 by omega]; rfl)]
        refine n_istore_n hC dX3_unrank_40 (Nat.le_of_ble_eq_true rfl) ?_
        refine n_iinc hC dX3_unrank_41 (v := pmi q1) rfl rfl ?_
        have hx50 : ∀ p, q1 ≤ p → p < n → upd (M3 50) q1 (nI (lft v j % (n - q1))) p = nI (dgt n v p) := fun p a b => by
          unfold upd
          by_cases e : p = q1
          · rw [if_pos e, e]; unfold dgt; rw [show n - 1 - q1 = j by omega]
          · rw [if_neg e]; exact h50 p (by omega) b
        refine n_goto hC (tgt := 10) dX3_unrank_44 (by decide) ?_
        exact WN.forget (L' := [some (.ref (na 61)), some (.int (nI v)), some (.ref (na 44)), some (.int (nI (lft v (j + 1)))), some (.int (pmi q1)), none, none, none]) (⟨Or.inr rfl, Or.inr rfl, Or.inr rfl, Or.inr rfl, Or.inr rfl, Or.inl rfl, Or.inl rfl, Or.inl rfl, trivial⟩) (ih10 _ (by omega) q1 (j + 1) (mset M3 50 (upd (M3 50) q1 (nI ((lft v j) % (n - q1))))) rfl (by omega) (by omega) (mFr.set (by decide) hF3) hx50)
  rw [pmi_p (show 1 ≤ n by omega)]
  exact WN.forget (L' := [some (.ref (na 61)), some (.int (nI v)), some (.ref (na 44)), some (.int (nI v)), some (.int (pmi n)), none, none, none]) (⟨Or.inr rfl, Or.inr rfl, Or.inr rfl, Or.inr rfl, Or.inr rfl, Or.inl rfl, Or.inl rfl, Or.inl rfl, trivial⟩) (lp10 _ n 0 M rfl (by omega) (by omega) mFr.rf (fun p a b => by omega))

set_option maxHeartbeats 4000000 in
set_option maxRecDepth 100000 in
theorem mt_X3_unrank_52 (na : nA) (h : nH) (M : nMem) {n v : Nat} (hn : M 1 0 = nI n) (hn3 : 1 ≤ n) (hn9 : n ≤ 7) (hv : v < fct n) : nM yX3_unrank cX3_unrank 8 (none) (nRm 0 0 0) [.ref (na 61), .int (nI v), .ref (na 52)] na (mPut na h M) (nQv (mRelV na h (fun M2 => mFr [50, 52] M M2 ∧ ∀ i, i < n → M2 52 i = nI (unr n v i)))) 0 0 := by
  refine nM.ofN RX3 rfl (by decide) (by intro v hv; simp only [List.mem_cons, List.not_mem_nil, or_false] at hv; rcases hv with rfl | rfl | rfl <;> rfl) (Nat.le_of_ble_eq_true rfl) (fun K hC hnm => ?_)
  show WN K na (mPut na h M) 0 0 (nE K (nQv (mRelV na h (fun M2 => mFr [50, 52] M M2 ∧ ∀ i, i < n → M2 52 i = nI (unr n v i)))) 0 0) 0 [some (.ref (na 61)), some (.int (nI v)), some (.ref (na 52)), none, none, none, none, none] []
  let Q9 : State → Prop := nE K (nQv (mRelV na h (fun M2 => mFr [50, 52] M M2 ∧ ∀ i, i < n → M2 52 i = nI (unr n v i)))) 0 0
  show WN K na (mPut na h M) 0 0 Q9 0 [some (.ref (na 61)), some (.int (nI v)), some (.ref (na 52)), none, none, none, none, none] []
  have hf5 := fct_le hn9
  refine n_iload_n hC dX3_unrank_0 rfl ?_
  refine n_istore_n hC dX3_unrank_1 (Nat.le_of_ble_eq_true rfl) ?_
  refine n_aload_n hC dX3_unrank_2 rfl ?_
  refine m_getI hC 1 (v := nI n) dX3_unrank_3 rfl rfl (by decide) hn ?_
  refine n_iconst hC (v := nI 1) dX3_unrank_6 (by decide) ?_
  refine n_isubN hC dX3_unrank_7 (by omega) rfl ?_
  refine n_istore hC dX3_unrank_8 (Nat.le_of_ble_eq_true rfl) ?_
  have lp10 : ∀ d9 : Nat, ∀ (q : Nat) (j : Nat) (M3 : nMem), q = d9 → (q ≤ n) → (q + j = n) → (mFr [50, 52] M M3) → (∀ p, q ≤ p → p < n → M3 50 p = nI (dgt n v p)) → WN K na (mPut na h M3) 0 0 Q9 10 [some (.ref (na 61)), some (.int (nI v)), some (.ref (na 52)), some (.int (nI (lft v j))), some (.int (pmi q)), none, none, none] [] := by
    intro d9
    induction d9 using Nat.strongRecOn with
    | _ d9 ih10 =>
      intro q j M3 hd10 hq hj hF3 h50
      refine n_iload hC dX3_unrank_10 rfl ?_
      refine n_if_lt hC (tgt := 47) dX3_unrank_12 (by decide) (fun c_12 => ?_) (fun c_12 => ?_)
      · skip
        have hq0 := pmi_z (by omega) c_12
        subst hq0
        refine n_iconst hC (v := nI 0) dX3_unrank_47 (by decide) ?_
        refine n_istore hC dX3_unrank_48 (Nat.le_of_ble_eq_true rfl) ?_
        refine n_iconst hC (v := nI 0) dX3_unrank_50 (by decide) ?_
        refine n_istore hC dX3_unrank_51 (Nat.le_of_ble_eq_true rfl) ?_
        have lp53 : ∀ d9 : Nat, ∀ (p : Nat) (u : Nat) (o : Nat → Nat) (M4 : nMem), n - p = d9 → (p ≤ n) → (mFr [50, 52] M M4) → (∀ p, p < n → M4 50 p = nI (dgt n v p)) → (pOrd n (dgt n v) o p) → (∀ i, i < p → M4 52 i = nI (o i)) → (u < 2 ^ 7) → (∀ x, x < n → u.testBit x = !fre o p x) → WN K na (mPut na h M4) 0 0 Q9 53 [some (.ref (na 61)), some (.int (nI v)), some (.ref (na 52)), none, some (.int (nI u)), some (.int (nI p)), none, none] [] := by
          intro d9
          induction d9 using Nat.strongRecOn with
          | _ d9 ih53 =>
            intro p u o M4 hd53 hp hF4 h504 hO hoM hu hbt
            refine n_iload hC dX3_unrank_53 rfl ?_
            refine n_aload_n hC dX3_unrank_55 rfl ?_
            refine m_getI hC 1 (v := nI n) dX3_unrank_56 rfl rfl (by decide) ((congrFun (hF4 1 (by decide)) 0).trans hn) ?_
            refine n_icmp_geN hC (tgt := 138) dX3_unrank_59 (by decide) (by omega) (by omega) (fun c_59 => ?_) (fun c_59 => ?_)
            · skip
              have hp9 : n = p := by omega
              subst hp9
              exact n_vret hC dX3_unrank_138 (by decide) (by decide) (⟨rfl, M4, rfl, hF4, fun i hi => (hoM i hi).trans (congrArg nI (pOrd_e hO hv i hi))⟩)
            · skip
              refine n_iconst hC (v := nI 0) dX3_unrank_62 (by decide) ?_
              refine n_istore hC dX3_unrank_63 (Nat.le_of_ble_eq_true rfl) ?_
              refine n_aload_n hC dX3_unrank_65 rfl ?_
              refine m_getA hC 50 dX3_unrank_66 rfl rfl ?_
              refine n_iload hC dX3_unrank_69 rfl ?_
              refine m_aldN hC 50 (v := nI (dgt n v p)) dX3_unrank_71 rfl rfl (by have h9 : mLen 50 = 7 := rfl; omega) (h504 p (by omega)) ?_
              refine n_istore hC dX3_unrank_72 (Nat.le_of_ble_eq_true rfl) ?_
              have lp74 : ∀ d9 : Nat, ∀ (k : Nat) (sk : Nat), n - k = d9 → (k ≤ n) → (sk + cntb k (fre o p) = dgt n v p) → WN K na (mPut na h M4) 0 0 Q9 74 [some (.ref (na 61)), some (.int (nI v)), some (.ref (na 52)), none, some (.int (nI u)), some (.int (nI p)), some (.int (nI k)), some (.int (nI sk))] [] := by
                intro d9
                induction d9 using Nat.strongRecOn with
                | _ d9 ih74 =>
                  intro k sk hd74 hk hs
                  have hkn : k < n := by
                    have f1 := fre_cnt hO.1 hO.2.1
                    have f2 := dgt_lt (v := v) (show p < n by omega)
                    by_cases z : k = n
                    · subst z; omega
                    · omega
                  refine n_iload hC dX3_unrank_74 rfl ?_
                  refine n_iload hC dX3_unrank_76 rfl ?_
                  refine n_ishr hC dX3_unrank_78 ?_
                  refine n_iconst hC (v := nI 1) dX3_unrank_79 (by decide) ?_
                  refine n_iand hC dX3_unrank_80 ?_
                  refine n_iconst hC (v := nI 1) dX3_unrank_81 (by decide) ?_
                  refine n_icmp_eq hC (tgt := 90) dX3_unrank_82 (by decide) (fun c_82 => ?_) (fun c_82 => ?_)
                  · skip
                    rw [bitv (Nat.lt_trans hu (by decide)) (by omega), bitt, hbt k hkn] at c_82
                    have c_82f : fre o p k = false := by cases e : fre o p k; rfl; rw [e] at c_82; exact absurd c_82 (by decide)
                    refine n_iload hC dX3_unrank_90 rfl ?_
                    refine n_iload hC dX3_unrank_92 rfl ?_
                    refine n_iload hC dX3_unrank_94 rfl ?_
                    refine n_ishr hC dX3_unrank_96 ?_
                    refine n_iconst hC (v := nI 1) dX3_unrank_97 (by decide) ?_
                    refine n_iand hC dX3_unrank_98 ?_
                    refine n_iconst hC (v := nI 1) dX3_unrank_99 (by decide) ?_
                    refine n_icmp_ne hC (tgt := 107) dX3_unrank_100 (by decide) (fun c_100 => (by rw [bitv (Nat.lt_trans hu (by decide)) (by omega), bitt, hbt k hkn] at c_100; rw [c_82f] at c_100; exact absurd rfl c_100)) (fun c_100 => ?_)
                    refine n_iconst hC (v := nI 0) dX3_unrank_103 (by decide) ?_
                    refine n_goto hC (tgt := 108) dX3_unrank_104 (by decide) ?_
                    refine n_isubN hC dX3_unrank_108 (by omega) rfl ?_
                    refine n_istore hC dX3_unrank_109 (Nat.le_of_ble_eq_true rfl) ?_
                    refine n_iincN hC dX3_unrank_111 (j := 1) (c := k + 1) rfl (by decide) rfl ?_
                    refine n_goto hC (tgt := 74) dX3_unrank_114 (by decide) ?_
                    exact WN.forget (L' := [some (.ref (na 61)), some (.int (nI v)), some (.ref (na 52)), none, some (.int (nI u)), some (.int (nI p)), some (.int (nI (k + 1))), some (.int (nI (sk - 0)))]) (⟨Or.inr rfl, Or.inr rfl, Or.inr rfl, Or.inl rfl, Or.inr rfl, Or.inr rfl, Or.inr rfl, Or.inr rfl, trivial⟩) (ih74 _ (by omega) (k + 1) (sk - 0) rfl (by omega) (by show _ + (cntb k _ + (if fre o p k = true then 1 else 0)) = _; rw [if_neg (by rw [c_82f]; decide)]; omega))
                  · skip
                    rw [bitv (Nat.lt_trans hu (by decide)) (by omega), bitt, hbt k hkn] at c_82
                    have c_82f : fre o p k = true := by cases e : fre o p k; rw [e] at c_82; exact absurd rfl c_82; rfl
                    refine n_iload hC dX3_unrank_85 rfl ?_
                    refine n_if_leN hC (tgt := 117) dX3_unrank_87 (by decide) (by have := dgt_lt (v := v) (show p < n by omega); omega) (fun c_87 => ?_) (fun c_87 => ?_)
                    · skip
                      have hcn : cntb k (fre o p) = dgt n v p := by omega
                      refine n_aload_n hC dX3_unrank_117 rfl ?_
                      refine n_iload hC dX3_unrank_118 rfl ?_
                      refine n_iload hC dX3_unrank_120 rfl ?_
                      refine m_astN hC 52 (M2 := mset M4 52 (upd (M4 52) p (nI k))) dX3_unrank_122 rfl rfl (by have h9 : mLen 52 = 7 := rfl; omega) rfl ?_
                      refine n_iload hC dX3_unrank_123 rfl ?_
                      refine n_iconst hC (v := nI 1) dX3_unrank_125 (by decide) ?_
                      refine n_iload hC dX3_unrank_126 rfl ?_
                      refine n_ishl hC dX3_unrank_128 ?_
                      rw [show (nI 1) <<< ((nI k) &&& 31) = nI (2 ^ k) from shl1 (by omega)]
                      refine n_ior hC dX3_unrank_129 ?_
                      rw [show (nI u) ||| (nI (2 ^ k)) = nI (u ||| 2 ^ k) from orN (Nat.lt_trans hu (by decide)) (Nat.pow_lt_pow_right (by decide) (by omega))]
                      refine n_istore hC dX3_unrank_130 (Nat.le_of_ble_eq_true rfl) ?_
                      refine n_iincN hC dX3_unrank_132 (j := 1) (c := p + 1) rfl (by decide) rfl ?_
                      refine n_goto hC (tgt := 53) dX3_unrank_135 (by decide) ?_
                      exact WN.forget (L' := [some (.ref (na 61)), some (.int (nI v)), some (.ref (na 52)), none, some (.int (nI (u ||| 2 ^ k))), some (.int (nI (p + 1))), none, none]) (⟨Or.inr rfl, Or.inr rfl, Or.inr rfl, Or.inl rfl, Or.inr rfl, Or.inr rfl, Or.inl rfl, Or.inl rfl, trivial⟩) (ih53 _ (by omega) (p + 1) (u ||| 2 ^ k) (updN o p k) (mset M4 52 (upd (M4 52) p (nI k))) rfl (by omega) (mFr.set (by decide) hF4) h504 (pOrd_s hO hkn c_82f hcn) (fun i hi => by show upd (M4 52) p (nI k) i = nI (updN o p k i); unfold upd updN; by_cases e : i = p; rw [if_pos e, if_pos e]; rw [if_neg e, if_neg e]; exact hoM i (by omega)) (Nat.or_lt_two_pow hu (Nat.pow_lt_pow_right (by decide) (by omega))) (fun x hx => by rw [Nat.testBit_or, hbt x hx, Nat.testBit_two_pow, fre_s]; by_cases e : k = x; subst e; simp; rw [decide_eq_false e, decide_eq_true (Ne.symm e)]; simp))
                    · skip
                      refine n_iload hC dX3_unrank_90 rfl ?_
                      refine n_iload hC dX3_unrank_92 rfl ?_
                      refine n_iload hC dX3_unrank_94 rfl ?_
                      refine n_ishr hC dX3_unrank_96 ?_
                      refine n_iconst hC (v := nI 1) dX3_unrank_97 (by decide) ?_
                      refine n_iand hC dX3_unrank_98 ?_
                      refine n_iconst hC (v := nI 1) dX3_unrank_99 (by decide) ?_
                      refine n_icmp_ne hC (tgt := 107) dX3_unrank_100 (by decide) (fun c_100 => ?_) (fun c_100 => (by rw [bitv (Nat.lt_trans hu (by decide)) (by omega), bitt, hbt k hkn] at c_100; rw [c_82f] at c_100; exact absurd c_100 (by decide)))
                      refine n_iconst hC (v := nI 1) dX3_unrank_107 (by decide) ?_
                      refine n_isubN hC dX3_unrank_108 (by omega) rfl ?_
                      refine n_istore hC dX3_unrank_109 (Nat.le_of_ble_eq_true rfl) ?_
                      refine n_iincN hC dX3_unrank_111 (j := 1) (c := k + 1) rfl (by decide) rfl ?_
                      refine n_goto hC (tgt := 74) dX3_unrank_114 (by decide) ?_
                      exact WN.forget (L' := [some (.ref (na 61)), some (.int (nI v)), some (.ref (na 52)), none, some (.int (nI u)), some (.int (nI p)), some (.int (nI (k + 1))), some (.int (nI (sk - 1)))]) (⟨Or.inr rfl, Or.inr rfl, Or.inr rfl, Or.inl rfl, Or.inr rfl, Or.inr rfl, Or.inr rfl, Or.inr rfl, trivial⟩) (ih74 _ (by omega) (k + 1) (sk - 1) rfl (by omega) (by show _ + (cntb k _ + (if fre o p k = true then 1 else 0)) = _; rw [if_pos c_82f]; omega))
              exact WN.forget (L' := [some (.ref (na 61)), some (.int (nI v)), some (.ref (na 52)), none, some (.int (nI u)), some (.int (nI p)), some (.int (nI 0)), some (.int (nI (dgt n v p)))]) (⟨Or.inr rfl, Or.inr rfl, Or.inr rfl, Or.inl rfl, Or.inr rfl, Or.inr rfl, Or.inr rfl, Or.inr rfl, trivial⟩) (lp74 _ 0 (dgt n v p) rfl (by omega) rfl)
        exact WN.forget (L' := [some (.ref (na 61)), some (.int (nI v)), some (.ref (na 52)), none, some (.int (nI 0)), some (.int (nI 0)), none, none]) (⟨Or.inr rfl, Or.inr rfl, Or.inr rfl, Or.inl rfl, Or.inr rfl, Or.inr rfl, Or.inl rfl, Or.inl rfl, trivial⟩) (lp53 _ 0 0 id M3 rfl (by omega) hF3 (fun p a => h50 p (by omega) a) (⟨fun j hj => by omega, fun a b ha => by omega, fun a ha => by omega⟩) (fun i hi => by omega) (by decide) (fun x _ => by rw [Nat.zero_testBit]; rfl))
      · skip
        obtain ⟨q1, rfl⟩ := pmi_n c_12
        simp only [pmi_s]
        have hl9 := lft_le v j
        refine n_aload_n hC dX3_unrank_15 rfl ?_
        refine m_getA hC 50 dX3_unrank_16 rfl rfl ?_
        refine n_iload hC dX3_unrank_19 rfl ?_
        refine n_iload_n hC dX3_unrank_21 rfl ?_
        refine n_aload_n hC dX3_unrank_22 rfl ?_
        refine m_getI hC 1 (v := nI n) dX3_unrank_23 rfl rfl (by decide) ((congrFun (hF3 1 (by decide)) 0).trans hn) ?_
        refine n_iload hC dX3_unrank_26 rfl ?_
        refine n_isubN hC dX3_unrank_28 (by omega) rfl ?_
        refine n_iremN hC dX3_unrank_29 (by omega) (by omega) (by omega) rfl ?_
        refine m_astN hC 50 (M2 := mset M3 50 (upd (M3 50) q1 (nI ((lft v j) % (n - q1))))) dX3_unrank_30 rfl rfl (by have h9 : mLen 50 = 7 := rfl; omega) rfl ?_
        refine n_iload_n hC dX3_unrank_31 rfl ?_
        refine n_aload_n hC dX3_unrank_32 rfl ?_
        refine m_getI hC 1 (v := nI n) dX3_unrank_33 rfl rfl (by decide) ((congrFun (hF3 1 (by decide)) 0).trans hn) ?_
        refine n_iload hC dX3_unrank_36 rfl ?_
        refine n_isubN hC dX3_unrank_38 (by omega) rfl ?_
        refine n_idivN hC dX3_unrank_39 (by omega) (by omega) (by omega) rfl ?_
        rw [show nI ((lft v j) / (n - q1)) = nI (lft v (j + 1)) from (by rw [show n - q1 = j + 1 by omega]; rfl)]
        refine n_istore_n hC dX3_unrank_40 (Nat.le_of_ble_eq_true rfl) ?_
        refine n_iinc hC dX3_unrank_41 (v := pmi q1) rfl rfl ?_
        have hx50 : ∀ p, q1 ≤ p → p < n → upd (M3 50) q1 (nI (lft v j % (n - q1))) p = nI (dgt n v p) := fun p a b => by
          unfold upd
          by_cases e : p = q1
          · rw [if_pos e, e]; unfold dgt; rw [show n - 1 - q1 = j by omega]
          · rw [if_neg e]; exact h50 p (by omega) b
        refine n_goto hC (tgt := 10) dX3_unrank_44 (by decide) ?_
        exact WN.forget (L' := [some (.ref (na 61)), some (.int (nI v)), some (.ref (na 52)), some (.int (nI (lft v (j + 1)))), some (.int (pmi q1)), none, none, none]) (⟨Or.inr rfl, Or.inr rfl, Or.inr rfl, Or.inr rfl, Or.inr rfl, Or.inl rfl, Or.inl rfl, Or.inl rfl, trivial⟩) (ih10 _ (by omega) q1 (j + 1) (mset M3 50 (upd (M3 50) q1 (nI ((lft v j) % (n - q1))))) rfl (by omega) (by omega) (mFr.set (by decide) hF3) hx50)
  rw [pmi_p (show 1 ≤ n by omega)]
  exact WN.forget (L' := [some (.ref (na 61)), some (.int (nI v)), some (.ref (na 52)), some (.int (nI v)), some (.int (pmi n)), none, none, none]) (⟨Or.inr rfl, Or.inr rfl, Or.inr rfl, Or.inr rfl, Or.inr rfl, Or.inl rfl, Or.inl rfl, Or.inl rfl, trivial⟩) (lp10 _ n 0 M rfl (by omega) (by omega) mFr.rf (fun p a b => by omega))

set_option maxHeartbeats 4000000 in
set_option maxRecDepth 100000 in
theorem mt_X3_findFar (na : nA) (h : nH) (M : nMem) {n : Nat} {gl : Nat → Nat} (hn : M 1 0 = nI n) (hn3 : 3 ≤ n) (hn9 : n ≤ 7) (hgl : ∀ p, p < n → M 45 p = nI (gl p)) (hpm : isPm n gl) : nM yX3_findFar cX3_findFar 7 (none) (nRm 3 0 0) [.ref (na 61)] na (mPut na h M) (nQv (mRelV na h (fun M2 => mFr [44, 46, 47, 50] M M2 ∧ ∀ r, r < fct n → M2 46 r = pmi (bfsG n (rnk n gl) r)))) 0 0 := by
  refine nM.ofN RX3 rfl (by decide) (by intro v hv; simp only [List.mem_cons, List.not_mem_nil, or_false] at hv; subst hv; rfl) (Nat.le_of_ble_eq_true rfl) (fun K hC hnm => ?_)
  show WN K na (mPut na h M) 0 0 (nE K (nQv (mRelV na h (fun M2 => mFr [44, 46, 47, 50] M M2 ∧ ∀ r, r < fct n → M2 46 r = pmi (bfsG n (rnk n gl) r)))) 0 0) 0 [some (.ref (na 61)), none, none, none, none, none, none] []
  let Q9 : State → Prop := nE K (nQv (mRelV na h (fun M2 => mFr [44, 46, 47, 50] M M2 ∧ ∀ r, r < fct n → M2 46 r = pmi (bfsG n (rnk n gl) r)))) 0 0
  show WN K na (mPut na h M) 0 0 Q9 0 [some (.ref (na 61)), none, none, none, none, none, none] []
  have hf5 := fct_le hn9
  have hfp := fct_pos n
  obtain ⟨g, eg⟩ : ∃ z, z = rnk n gl := ⟨_, rfl⟩
  have hg : g < fct n := by rw [eg]; exact rnk_lt hpm
  refine n_iconst hC (v := nI 1) dX3_findFar_0 (by decide) ?_
  refine n_istore_n hC dX3_findFar_1 (Nat.le_of_ble_eq_true rfl) ?_
  refine n_iconst hC (v := nI 2) dX3_findFar_2 (by decide) ?_
  refine n_istore_n hC dX3_findFar_3 (Nat.le_of_ble_eq_true rfl) ?_
  have lp4 : ∀ d9 : Nat, ∀ (k : Nat), n + 1 - k = d9 → (2 ≤ k ∧ k ≤ n + 1) → WN K na (mPut na h M) 0 0 Q9 4 [some (.ref (na 61)), some (.int (nI (fct (k - 1)))), some (.int (nI k)), none, none, none, none] [] := by
    intro d9
    induction d9 using Nat.strongRecOn with
    | _ d9 ih4 =>
      intro k hd4 hk
      refine n_iload_n hC dX3_findFar_4 rfl ?_
      refine n_aload_n hC dX3_findFar_5 rfl ?_
      refine m_getI hC 1 (v := nI n) dX3_findFar_6 rfl rfl (by decide) hn ?_
      refine n_icmp_gtN hC (tgt := 22) dX3_findFar_9 (by decide) (by omega) (by omega) (fun c_9 => ?_) (fun c_9 => ?_)
      · skip
        rw [show k - 1 = n by omega]
        refine n_iconst hC (v := nI 0) dX3_findFar_22 (by decide) ?_
        refine n_istore_n hC dX3_findFar_23 (Nat.le_of_ble_eq_true rfl) ?_
        have lp24 : ∀ d9 : Nat, ∀ (k : Nat) (M2 : nMem), fct n - k = d9 → (k ≤ fct n) → (mFr [44, 46, 47, 50] M M2) → (∀ r, r < k → M2 46 r = pmi 0) → WN K na (mPut na h M2) 0 0 Q9 24 [some (.ref (na 61)), some (.int (nI (fct n))), some (.int (nI k)), none, none, none, none] [] := by
          intro d9
          induction d9 using Nat.strongRecOn with
          | _ d9 ih24 =>
            intro k M2 hd24 hk2 hF2 h462
            refine n_iload_n hC dX3_findFar_24 rfl ?_
            refine n_iload_n hC dX3_findFar_25 rfl ?_
            refine n_icmp_geN hC (tgt := 42) dX3_findFar_26 (by decide) (by omega) (by omega) (fun c_26 => ?_) (fun c_26 => ?_)
            · skip
              have hk9 : k = fct n := by omega
              refine n_iconst hC (v := nI 0) dX3_findFar_42 (by decide) ?_
              refine n_istore_n hC dX3_findFar_43 (Nat.le_of_ble_eq_true rfl) ?_
              refine n_iconst hC (v := nI 1) dX3_findFar_44 (by decide) ?_
              refine n_istore_n hC dX3_findFar_45 (Nat.le_of_ble_eq_true rfl) ?_
              refine n_aload_n hC dX3_findFar_46 rfl ?_
              refine m_getA hC 47 dX3_findFar_47 rfl rfl ?_
              refine n_iconst hC (v := nI 0) dX3_findFar_50 (by decide) ?_
              refine n_aload_n hC dX3_findFar_51 rfl ?_
              refine n_aload_n hC dX3_findFar_52 rfl ?_
              refine m_getA hC 45 dX3_findFar_53 rfl rfl ?_
              refine n_callV1i hC (mt_X3_rank_45 na h (M2) (n := n) (o := gl) ((congrFun (hF2 1 (by decide)) 0).trans hn) (by omega) (fun p hp => (congrFun (hF2 45 (by decide)) p).trans (hgl p hp)) hpm.1) md_X3_rank q1521 dX3_findFar_56 rfl (mPut_o _ _ _) rfl rfl ⟨rfl, rfl, by decide, by decide⟩ rfl (Nat.le_of_ble_eq_true rfl) (by decide) (by decide) (fun r0 na0 h0 hp0 => ?_)
              obtain ⟨rfl, rfl, rfl⟩ := hp0
              rw [← eg]
              refine m_astN hC 47 (M2 := mset M2 47 (upd (M2 47) 0 (nI g))) dX3_findFar_59 rfl rfl (by have h9 : mLen 47 = 5040 := rfl; omega) rfl ?_
              refine n_aload_n hC dX3_findFar_60 rfl ?_
              refine m_getA hC 46 dX3_findFar_61 rfl rfl ?_
              refine n_aload_n hC dX3_findFar_64 rfl ?_
              refine m_getA hC 47 dX3_findFar_65 rfl rfl ?_
              refine n_iconst hC (v := nI 0) dX3_findFar_68 (by decide) ?_
              refine m_aldN hC 47 (v := nI g) dX3_findFar_69 rfl rfl (by have h9 : mLen 47 = 5040 := rfl; omega) (by rw [mset_s]; exact if_pos rfl) ?_
              refine n_iconst hC (v := nI 0) dX3_findFar_70 (by decide) ?_
              refine m_astN hC 46 (M2 := mset (mset M2 47 (upd (M2 47) 0 (nI g))) 46 (upd (M2 46) g (nI 0))) dX3_findFar_71 rfl rfl (by have h9 : mLen 46 = 5040 := rfl; omega) rfl ?_
              have lp72 : ∀ d9 : Nat, ∀ (f : Nat) (G : Nat → Nat) (Ln : Nat → Nat) (t : Nat) (fu : Nat) (M3 : nMem), fct n - f = d9 → (mFr [44, 46, 47, 50] M M3) → (bI n g f 0 (G, Ln, t)) → (∀ r, r < fct n → M3 46 r = pmi (G r)) → (∀ i, i < t → M3 47 i = nI (Ln i)) → (bfs n fu f (G, Ln, t) = bfs n (fct n + 1) 0 (bfs0 g)) → (f + fu = fct n + 1) → (∀ v, v < fct n → G v ≤ t) → WN K na (mPut na h M3) 0 0 Q9 72 [some (.ref (na 61)), none, some (.int (nI f)), some (.int (nI t)), none, none, none] [] := by
                intro d9
                induction d9 using Nat.strongRecOn with
                | _ d9 ih72 =>
                  intro f G Ln t fu M3 hd72 hF3 hbI h46 h47 hbf hfu hgb
                  have hle9 : t ≤ fct n := hbI.le
                  
                  refine n_iload_n hC dX3_findFar_72 rfl ?_
                  refine n_iload_n hC dX3_findFar_73 rfl ?_
                  refine n_icmp_geN hC (tgt := 190) dX3_findFar_74 (by decide) (by omega) (by omega) (fun c_74 => ?_) (fun c_74 => ?_)
                  · skip
                    have hend := bfs_end (n := n) (k := fu) (f := f) (s := (G, Ln, t)) (by show ¬ f < t; omega)
                    have hG : bfsG n g = G := by unfold bfsG; rw [← hbf, hend]
                    exact n_vret hC dX3_findFar_190 (by decide) (by decide) (⟨rfl, M3, rfl, hF3, fun r hr => by rw [← eg, hG]; exact h46 r hr⟩)
                  · skip
                    have hle := hbI.le
                    dsimp only at hle
                    have hvf := (hbI.1 f c_74).1
                    dsimp only at hvf
                    have hnz := (hbI.1 f c_74).2
                    dsimp only at hnz
                    refine n_aload_n hC dX3_findFar_77 rfl ?_
                    refine m_getA hC 46 dX3_findFar_78 rfl rfl ?_
                    refine n_aload_n hC dX3_findFar_81 rfl ?_
                    refine m_getA hC 47 dX3_findFar_82 rfl rfl ?_
                    refine n_iload_n hC dX3_findFar_85 rfl ?_
                    refine m_aldN hC 47 (v := nI (Ln f)) dX3_findFar_86 rfl rfl (by have h9 : mLen 47 = 5040 := rfl; omega) (h47 f (by omega)) ?_
                    refine m_aldN hC 46 (v := pmi (G (Ln f))) dX3_findFar_87 rfl rfl (by have h9 : mLen 46 = 5040 := rfl; omega) (h46 (Ln f) hvf) ?_
                    refine n_istore hC dX3_findFar_88 (Nat.le_of_ble_eq_true rfl) ?_
                    refine n_aload_n hC dX3_findFar_90 rfl ?_
                    refine n_aload_n hC dX3_findFar_91 rfl ?_
                    refine m_getA hC 47 dX3_findFar_92 rfl rfl ?_
                    refine n_iload_n hC dX3_findFar_95 rfl ?_
                    refine m_aldN hC 47 (v := nI (Ln f)) dX3_findFar_96 rfl rfl (by have h9 : mLen 47 = 5040 := rfl; omega) (h47 f (by omega)) ?_
                    refine n_aload_n hC dX3_findFar_97 rfl ?_
                    refine m_getA hC 44 dX3_findFar_98 rfl rfl ?_
                    refine n_callV2v hC (mt_X3_unrank_44 na h (M3) (n := n) (v := Ln f) ((congrFun (hF3 1 (by decide)) 0).trans hn) (by omega) (by omega) hvf) md_X3_unrank q1525 dX3_findFar_101 rfl (mPut_o _ _ _) rfl rfl ⟨rfl, rfl, by decide, by decide⟩ rfl (Nat.le_of_ble_eq_true rfl) (by decide) (by decide) (fun na1 h1 hp1 => ?_)
                    obtain ⟨rfl, M5, rfl, hFM5, hUM5⟩ := hp1
                    have hF5 : mFr [44, 46, 47, 50] M M5 := mFr.cmp (fun _ z => z) (by decide) hF3 hFM5
                    refine n_iincN hC dX3_findFar_104 (j := 1) (c := f + 1) rfl (by decide) rfl ?_
                    refine n_iconst hC (v := nI 0) dX3_findFar_107 (by decide) ?_
                    refine n_istore hC dX3_findFar_108 (Nat.le_of_ble_eq_true rfl) ?_
                    have lp110 : ∀ d9 : Nat, ∀ (p : Nat) (G2 : Nat → Nat) (Ln2 : Nat → Nat) (t2 : Nat) (M4 : nMem), n - p = d9 → (p ≤ n) → (mFr [44, 46, 47, 50] M M4) → (rlx n (Ln f) p (G, Ln, t) = (G2, Ln2, t2)) → (∀ r, r < fct n → M4 46 r = pmi (G2 r)) → (∀ i, i < t2 → M4 47 i = nI (Ln2 i)) → (∀ i, i < n → M4 44 i = nI (unr n (Ln f) i)) → (∀ v, v < fct n → G2 v ≤ t2) → (t2 ≤ fct n) → WN K na (mPut na h M4) 0 0 Q9 110 [some (.ref (na 61)), none, some (.int (nI (f + 1))), some (.int (nI t2)), some (.int (pmi (G (Ln f)))), some (.int (nI p)), none] [] := by
                      intro d9
                      induction d9 using Nat.strongRecOn with
                      | _ d9 ih110 =>
                        intro p G2 Ln2 t2 M4 hd110 hp hF4 hrx h464 h474 h444 hgb2 ht2
                        refine n_iload hC dX3_findFar_110 rfl ?_
                        refine n_aload_n hC dX3_findFar_112 rfl ?_
                        refine m_getI hC 1 (v := nI n) dX3_findFar_113 rfl rfl (by decide) ((congrFun (hF4 1 (by decide)) 0).trans hn) ?_
                        refine n_icmp_geN hC (tgt := 187) dX3_findFar_116 (by decide) (by omega) (by omega) (fun c_116 => ?_) (fun c_116 => ?_)
                        · skip
                          obtain ⟨b1, b2, b3⟩ := bI_rlx hbI (by exact c_74) n (Nat.le_refl n)
                          rw [show p = n by omega] at hrx
                          rw [show (G, Ln, t).2.1 f = Ln f from rfl, hrx] at b1 b3
                          have hbN := bI_next b1 b3
                          have hgbN := hgb2
                          have hbf2 : bfs n (fu - 1) (f + 1) (G2, Ln2, t2) = bfs n (fct n + 1) 0 (bfs0 g) := by
                            rw [← hbf, show fu = (fu - 1) + 1 by omega, bfs_go (by exact c_74)]
                            rw [Nat.add_sub_cancel, show (G, Ln, t).2.1 f = Ln f from rfl, hrx]
                          refine n_goto hC (tgt := 72) dX3_findFar_187 (by decide) ?_
                          exact WN.forget (L' := [some (.ref (na 61)), none, some (.int (nI (f + 1))), some (.int (nI t2)), none, none, none]) (⟨Or.inr rfl, Or.inl rfl, Or.inr rfl, Or.inr rfl, Or.inl rfl, Or.inl rfl, Or.inl rfl, trivial⟩) (ih72 _ (by omega) (f + 1) G2 Ln2 t2 (fu - 1) M4 rfl hF4 hbN h464 h474 hbf2 (by omega) hgbN)
                        · skip
                          obtain ⟨b1, b2, b3⟩ := bI_rlx hbI (by exact c_74) p (by omega)
                          have b4 := rlx_G (n := n) (v := Ln f) (s := (G, Ln, t)) (w := Ln f) (by exact hnz) p
                          rw [show (G, Ln, t).2.1 f = Ln f from rfl, hrx] at b1 b2 b3
                          rw [hrx] at b4
                          dsimp only at b1 b2 b3 b4
                          refine n_aload_n hC dX3_findFar_119 rfl ?_
                          refine n_aload_n hC dX3_findFar_120 rfl ?_
                          refine m_getA hC 44 dX3_findFar_121 rfl rfl ?_
                          refine n_iload hC dX3_findFar_124 rfl ?_
                          refine n_callV2v hC (mt_X3_swap_44 na h (M4) (n := n) (p := p) ((congrFun (hF4 1 (by decide)) 0).trans hn) (by omega) (by omega)) md_X3_swap q1529 dX3_findFar_126 rfl (mPut_o _ _ _) rfl rfl ⟨rfl, rfl, by decide, by decide⟩ rfl (Nat.le_of_ble_eq_true rfl) (by decide) (by decide) (fun na2 h2 hp2 => ?_)
                          obtain ⟨rfl, M6, rfl, eM6⟩ := hp2
                          have hF6 : mFr [44, 46, 47, 50] M M6 := by rw [eM6]; exact mFr.set (by decide) hF4
                          have hSw : ∀ i, i < n → M6 44 i = nI (swo n (unr n (Ln f)) p i) := fun i hi => by rw [eM6, mset_s, swp_tsp]; exact h444 _ (tsp_lt (by omega) (Nat.mod_lt _ (by omega)) hi)
                          have hpmS := swo_pm (show p < n by omega) (unr_pm hvf)
                          have hr9 : nbr n (Ln f) p < fct n := nbr_lt (by omega) hvf
                          have hr99 : rnk n (swo n (unr n (Ln f)) p) < fct n := hr9
                          have h466 : ∀ r, r < fct n → M6 46 r = pmi (G2 r) := by rw [eM6]; exact h464
                          have h476 : ∀ i, i < t2 → M6 47 i = nI (Ln2 i) := by rw [eM6]; exact h474
                          refine n_aload_n hC dX3_findFar_129 rfl ?_
                          refine n_aload_n hC dX3_findFar_130 rfl ?_
                          refine m_getA hC 44 dX3_findFar_131 rfl rfl ?_
                          refine n_callV1i hC (mt_X3_rank_44 na h (M6) (n := n) (o := swo n (unr n (Ln f)) p) ((congrFun (hF6 1 (by decide)) 0).trans hn) (by omega) hSw hpmS.1) md_X3_rank q1521 dX3_findFar_134 rfl (mPut_o _ _ _) rfl rfl ⟨rfl, rfl, by decide, by decide⟩ rfl (Nat.le_of_ble_eq_true rfl) (by decide) (by decide) (fun r3 na3 h3 hp3 => ?_)
                          obtain ⟨rfl, rfl, rfl⟩ := hp3
                          refine n_istore hC dX3_findFar_137 (Nat.le_of_ble_eq_true rfl) ?_
                          refine n_aload_n hC dX3_findFar_139 rfl ?_
                          refine m_getA hC 46 dX3_findFar_140 rfl rfl ?_
                          refine n_iload hC dX3_findFar_143 rfl ?_
                          refine m_aldN hC 46 (v := pmi (G2 (nbr n (Ln f) p))) dX3_findFar_145 rfl rfl (by have h9 : mLen 46 = 5040 := rfl; omega) (h466 _ hr9) ?_
                          refine n_if_ge hC (tgt := 171) dX3_findFar_146 (by decide) (fun c_146 => ?_) (fun c_146 => ?_)
                          · skip
                            have hz9 : ¬ G2 (nbr n (Ln f) p) = 0 := fun e => by rw [e, pmi_0] at c_146; exact absurd c_146 (by decide)
                            refine n_aload_n hC dX3_findFar_171 rfl ?_
                            refine n_aload_n hC dX3_findFar_172 rfl ?_
                            refine m_getA hC 44 dX3_findFar_173 rfl rfl ?_
                            refine n_iload hC dX3_findFar_176 rfl ?_
                            refine n_callV2v hC (mt_X3_swap_44 na h (M6) (n := n) (p := p) ((congrFun (hF6 1 (by decide)) 0).trans hn) (by omega) (by omega)) md_X3_swap q1529 dX3_findFar_178 rfl (mPut_o _ _ _) rfl rfl ⟨rfl, rfl, by decide, by decide⟩ rfl (Nat.le_of_ble_eq_true rfl) (by decide) (by decide) (fun na4 h4 hp4 => ?_)
                            obtain ⟨rfl, M7, rfl, eM7⟩ := hp4
                            have hF9 : mFr [44, 46, 47, 50] M M7 := by rw [eM7]; exact mFr.set (by decide) hF6
                            have h449 : ∀ i, i < n → M7 44 i = nI (unr n (Ln f) i) := fun i hi => by
                              have ht := tsp_lt (show p < n by omega) (Nat.mod_lt (p + 1) (show 0 < n by omega)) hi
                              rw [eM7, mset_s, swp_tsp]
                              refine (hSw _ ht).trans ?_
                              unfold swo
                              rw [tsp_tsp]
                            refine n_iincN hC dX3_findFar_181 (j := 1) (c := p + 1) rfl (by decide) rfl ?_
                            refine n_goto hC (tgt := 110) dX3_findFar_184 (by decide) ?_
                            exact WN.forget (L' := [some (.ref (na 61)), none, some (.int (nI (f + 1))), some (.int (nI t2)), some (.int (pmi (G (Ln f)))), some (.int (nI (p + 1))), none]) (⟨Or.inr rfl, Or.inl rfl, Or.inr rfl, Or.inr rfl, Or.inr rfl, Or.inr rfl, Or.inl rfl, trivial⟩) (ih110 _ (by omega) (p + 1) G2 Ln2 t2 M7 rfl (by omega) hF9 (by show relax n (Ln f) p (rlx n (Ln f) p (G, Ln, t)) = _; rw [hrx, relax_n hz9]) (fun r hr => by rw [eM7]; exact h466 r hr) (fun i hi => by rw [eM7]; exact h476 i hi) h449 hgb2 (by omega))
                          · skip
                            have hz9 : G2 (nbr n (Ln f) p) = 0 := pmi_z (by have := b1.le; have := hgb2 _ hr9; omega) (Int32.not_le.mp c_146)
                            have b5 : (relax n (Ln2 f) p (G2, Ln2, t2)).2.2 ≤ fct n := (bI_relax b1 b3 (show p < n by omega)).le
                            rw [b2, relax_y hz9] at b5
                            dsimp only at b5
                            refine n_aload_n hC dX3_findFar_149 rfl ?_
                            refine m_getA hC 46 dX3_findFar_150 rfl rfl ?_
                            refine n_iload hC dX3_findFar_153 rfl ?_
                            refine n_iload hC dX3_findFar_155 rfl ?_
                            refine n_iconst hC (v := nI 1) dX3_findFar_157 (by decide) ?_
                            refine n_iadd hC dX3_findFar_158 ?_
                            rw [show (pmi (G (Ln f))) + (nI 1) = pmi (G2 (Ln f) + 1) from (by rw [b4]; exact pmi_inc _)]
                            refine m_astN hC 46 (M2 := mset M6 46 (upd (M6 46) (nbr n (Ln f) p) (pmi (G2 (Ln f) + 1)))) dX3_findFar_159 rfl rfl (by have h9 : mLen 46 = 5040 := rfl; omega) rfl ?_
                            refine n_aload_n hC dX3_findFar_160 rfl ?_
                            refine m_getA hC 47 dX3_findFar_161 rfl rfl ?_
                            refine n_iload_n hC dX3_findFar_164 rfl ?_
                            refine n_iload hC dX3_findFar_165 rfl ?_
                            refine m_astN hC 47 (M2 := mset (mset M6 46 (upd (M6 46) (nbr n (Ln f) p) (pmi (G2 (Ln f) + 1)))) 47 (upd (M6 47) t2 (nI (nbr n (Ln f) p)))) dX3_findFar_167 rfl rfl (by have h9 : mLen 47 = 5040 := rfl; omega) rfl ?_
                            refine n_iincN hC dX3_findFar_168 (j := 1) (c := t2 + 1) rfl (by decide) rfl ?_
                            refine n_aload_n hC dX3_findFar_171 rfl ?_
                            refine n_aload_n hC dX3_findFar_172 rfl ?_
                            refine m_getA hC 44 dX3_findFar_173 rfl rfl ?_
                            refine n_iload hC dX3_findFar_176 rfl ?_
                            refine n_callV2v hC (mt_X3_swap_44 na h (mset (mset M6 46 (upd (M6 46) (nbr n (Ln f) p) (pmi (G2 (Ln f) + 1)))) 47 (upd (M6 47) t2 (nI (nbr n (Ln f) p)))) (n := n) (p := p) ((congrFun (hF6 1 (by decide)) 0).trans hn) (by omega) (by omega)) md_X3_swap q1529 dX3_findFar_178 rfl (mPut_o _ _ _) rfl rfl ⟨rfl, rfl, by decide, by decide⟩ rfl (Nat.le_of_ble_eq_true rfl) (by decide) (by decide) (fun na5 h5 hp5 => ?_)
                            obtain ⟨rfl, M7, rfl, eM7⟩ := hp5
                            have hF9 : mFr [44, 46, 47, 50] M M7 := by rw [eM7]; exact mFr.set (by decide) (mFr.set (by decide) (mFr.set (by decide) hF6))
                            have h449 : ∀ i, i < n → M7 44 i = nI (unr n (Ln f) i) := fun i hi => by
                              have ht := tsp_lt (show p < n by omega) (Nat.mod_lt (p + 1) (show 0 < n by omega)) hi
                              rw [eM7, mset_s, swp_tsp]
                              refine (hSw _ ht).trans ?_
                              unfold swo
                              rw [tsp_tsp]
                            refine n_iincN hC dX3_findFar_181 (j := 1) (c := p + 1) rfl (by decide) rfl ?_
                            refine n_goto hC (tgt := 110) dX3_findFar_184 (by decide) ?_
                            exact WN.forget (L' := [some (.ref (na 61)), none, some (.int (nI (f + 1))), some (.int (nI (t2 + 1))), some (.int (pmi (G (Ln f)))), some (.int (nI (p + 1))), none]) (⟨Or.inr rfl, Or.inl rfl, Or.inr rfl, Or.inr rfl, Or.inr rfl, Or.inr rfl, Or.inl rfl, trivial⟩) (ih110 _ (by omega) (p + 1) (updN G2 (nbr n (Ln f) p) (G2 (Ln f) + 1)) (updN Ln2 t2 (nbr n (Ln f) p)) (t2 + 1) M7 rfl (by omega) hF9 (by show relax n (Ln f) p (rlx n (Ln f) p (G, Ln, t)) = _; rw [hrx, relax_y hz9]) (fun r hr => by rw [eM7]; show upd (M6 46) (nbr n (Ln f) p) _ r = pmi (updN G2 (nbr n (Ln f) p) (G2 (Ln f) + 1) r); unfold upd updN; by_cases e : r = nbr n (Ln f) p; rw [if_pos e, if_pos e]; rw [if_neg e, if_neg e]; exact h466 r hr) (fun i hi => by rw [eM7]; show upd (M6 47) t2 _ i = nI (updN Ln2 t2 (nbr n (Ln f) p) i); unfold upd updN; by_cases e : i = t2; rw [if_pos e, if_pos e]; rw [if_neg e, if_neg e]; exact h476 i (by omega)) h449 (fun v hv => by have := hgb2 v hv; have := hgb2 (Ln f) hvf; unfold updN; split; omega; omega) (by omega))
                    exact WN.forget (L' := [some (.ref (na 61)), none, some (.int (nI (f + 1))), some (.int (nI t)), some (.int (pmi (G (Ln f)))), some (.int (nI 0)), none]) (⟨Or.inr rfl, Or.inl rfl, Or.inr rfl, Or.inr rfl, Or.inr rfl, Or.inr rfl, Or.inl rfl, trivial⟩) (lp110 _ 0 G Ln t M5 rfl (by omega) hF5 rfl (fun r hr => (congrFun (hFM5 46 (by decide)) r).trans (h46 r hr)) (fun i hi => (congrFun (hFM5 47 (by decide)) i).trans (h47 i hi)) hUM5 hgb (by omega))
              obtain ⟨M3, eM3⟩ : ∃ z, z = mset (mset M2 47 (upd (M2 47) 0 (nI g))) 46 (upd (M2 46) g (nI 0)) := ⟨_, rfl⟩
              rw [← eM3]
              have hF3 : mFr [44, 46, 47, 50] M M3 := by rw [eM3]; exact mFr.set (by decide) (mFr.set (by decide) hF2)
              have h46 : ∀ r, r < fct n → M3 46 r = pmi (updN (fun _ => 0) g 1 r) := fun r hr => by
                rw [eM3]
                show upd (M2 46) g (nI 0) r = _
                unfold upd updN
                by_cases e : r = g
                · rw [if_pos e, if_pos e]; rfl
                · rw [if_neg e, if_neg e]; exact h462 r (by omega)
              have h47 : ∀ i, i < 1 → M3 47 i = nI (updN (fun _ => 0) 0 g i) := fun i hi => by
                rw [eM3, show i = 0 by omega]
                rfl
              exact WN.forget (L' := [some (.ref (na 61)), none, some (.int (nI 0)), some (.int (nI 1)), none, none, none]) (⟨Or.inr rfl, Or.inl rfl, Or.inr rfl, Or.inr rfl, Or.inl rfl, Or.inl rfl, Or.inl rfl, trivial⟩) (lp72 _ 0 (updN (fun _ => 0) g 1) (updN (fun _ => 0) 0 g) 1 (fct n + 1) M3 rfl hF3 (bI_0 hg) h46 h47 rfl (by omega) (fun v hv => by unfold updN; split; exact Nat.le_refl _; exact Nat.zero_le _))
            · skip
              refine n_aload_n hC dX3_findFar_29 rfl ?_
              refine m_getA hC 46 dX3_findFar_30 rfl rfl ?_
              refine n_iload_n hC dX3_findFar_33 rfl ?_
              refine n_iconst hC (v := (-1)) dX3_findFar_34 (by decide) ?_
              refine m_astN hC 46 (M2 := mset M2 46 (upd (M2 46) k (-1))) dX3_findFar_35 rfl rfl (by have h9 : mLen 46 = 5040 := rfl; omega) rfl ?_
              refine n_iincN hC dX3_findFar_36 (j := 1) (c := k + 1) rfl (by decide) rfl ?_
              refine n_goto hC (tgt := 24) dX3_findFar_39 (by decide) ?_
              exact WN.forget (L' := [some (.ref (na 61)), some (.int (nI (fct n))), some (.int (nI (k + 1))), none, none, none, none]) (⟨Or.inr rfl, Or.inr rfl, Or.inr rfl, Or.inl rfl, Or.inl rfl, Or.inl rfl, Or.inl rfl, trivial⟩) (ih24 _ (by omega) (k + 1) (mset M2 46 (upd (M2 46) k (-1))) rfl (by omega) (mFr.set (by decide) hF2) (lt_s (fun r hr => (if_neg (by omega)).trans (h462 r hr)) ((if_pos rfl).trans pmi_0.symm)))
        exact WN.forget (L' := [some (.ref (na 61)), some (.int (nI (fct n))), some (.int (nI 0)), none, none, none, none]) (⟨Or.inr rfl, Or.inr rfl, Or.inr rfl, Or.inl rfl, Or.inl rfl, Or.inl rfl, Or.inl rfl, trivial⟩) (lp24 _ 0 M rfl (by omega) mFr.rf lt_0)
      · skip
        refine n_iload_n hC dX3_findFar_12 rfl ?_
        refine n_iload_n hC dX3_findFar_13 rfl ?_
        refine n_imulN hC dX3_findFar_14 rfl ?_
        rw [show nI ((fct (k - 1)) * k) = nI (fct k) from (by rw [show k = (k - 1) + 1 by omega]; rfl)]
        refine n_istore_n hC dX3_findFar_15 (Nat.le_of_ble_eq_true rfl) ?_
        refine n_iincN hC dX3_findFar_16 (j := 1) (c := k + 1) rfl (by decide) rfl ?_
        rw [show fct k = fct (k + 1 - 1) from rfl]
        refine n_goto hC (tgt := 4) dX3_findFar_19 (by decide) ?_
        exact WN.forget (L' := [some (.ref (na 61)), some (.int (nI (fct (k + 1 - 1)))), some (.int (nI (k + 1))), none, none, none, none]) (⟨Or.inr rfl, Or.inr rfl, Or.inr rfl, Or.inl rfl, Or.inl rfl, Or.inl rfl, Or.inl rfl, trivial⟩) (ih4 _ (by omega) (k + 1) rfl (by omega))
  exact WN.forget (L' := [some (.ref (na 61)), some (.int (nI (fct (2 - 1)))), some (.int (nI 2)), none, none, none, none]) (⟨Or.inr rfl, Or.inr rfl, Or.inr rfl, Or.inl rfl, Or.inl rfl, Or.inl rfl, Or.inl rfl, trivial⟩) (lp4 _ 2 rfl (by omega))

set_option maxHeartbeats 4000000 in
set_option maxRecDepth 100000 in
theorem mt_X3_fewest (na : nA) (h : nH) (M : nMem) (hI : mInv M) (t what : Int32) : nM yX3_fewest cX3_fewest 6 (some .int) (nRm 9 0 0) [.ref (na 61), .int t, .int what] na (mPut na h M) (nQi (mOp na h (o_fewest t what M))) 0 0 := by
  refine nM.ofN RX3 rfl (by decide) (by intro v hv; simp only [List.mem_cons, List.not_mem_nil, or_false] at hv; rcases hv with rfl | rfl | rfl <;> rfl) (Nat.le_of_ble_eq_true rfl) (fun K hC hnm => ?_)
  show WN K na (mPut na h M) 0 0 (nE K (nQi (mOp na h (o_fewest t what M))) 0 0) 0 [some (.ref (na 61)), some (.int t), some (.int what), none, none, none] []
  let Q9 : State → Prop := nE K (nQi (mOp na h (o_fewest t what M))) 0 0
  show WN K na (mPut na h M) 0 0 Q9 0 [some (.ref (na 61)), some (.int t), some (.int what), none, none, none] []
  obtain ⟨⟨h0, b0⟩, ⟨h1, b1a, b1⟩, ⟨h11, b11⟩, ⟨h14, b14⟩, ⟨h15, b15, b15n⟩, ⟨h20, b20⟩, ⟨h26, b26⟩, ⟨h27, b27⟩, ⟨h55, b55⟩, iP, iH, iHi, iHd, iC, iT, iF, iG, iS, iZ⟩ := hI
  refine n_aload_n hC dX3_fewest_0 rfl ?_
  refine n_iload_n hC dX3_fewest_1 rfl ?_
  refine n_callV1z hC (mt_X3_isTape na h (M) (t)) md_X3_isTape q1513 dX3_fewest_2 rfl (mPut_o _ _ _) rfl rfl ⟨rfl, rfl, by decide, by decide⟩ rfl (Nat.le_of_ble_eq_true rfl) (by decide) (by decide) (fun r0 na0 h0 hp0 => ?_)
  obtain ⟨rfl, rfl, rfl⟩ := hp0
  refine n_if_eqB hC (tgt := 13) dX3_fewest_5 (by decide) (fun c_5 => ?_) (fun c_5 => ?_)
  · skip
    refine n_iconst hC (v := (-1)) dX3_fewest_13 (by decide) ?_
    exact n_iret hC dX3_fewest_14 (by decide) (by decide) (⟨rfl, by unfold o_fewest; dsimp only; rw [if_pos (Or.inl c_5)], M, rfl, mEq.rf⟩)
  · skip
    refine n_iload_n hC dX3_fewest_8 rfl ?_
    refine n_iconst hC (v := (-1)) dX3_fewest_9 (by decide) ?_
    refine n_icmp_ge hC (tgt := 15) dX3_fewest_10 (by decide) (fun c_10 => ?_) (fun c_10 => ?_)
    · skip
      have hne : ¬ (nrg t (nI 0) (nI 5) = false ∨ what < -1) := by rintro (z | z); rw [c_5] at z; cases z; exact Int32.not_lt.mpr c_10 z
      refine n_aload_n hC dX3_fewest_15 rfl ?_
      refine m_getI hC 1 (v := nI (mN M 1)) dX3_fewest_16 rfl rfl (by decide) h1 ?_
      refine n_if_eqN hC (tgt := 31) dX3_fewest_19 (by decide) (by omega) (fun c_19 => ?_) (fun c_19 => ?_)
      · skip
        refine n_bipush hC (v := (-3)) dX3_fewest_31 (by decide) ?_
        exact n_iret hC dX3_fewest_33 (by decide) (by decide) (⟨rfl, by unfold o_fewest; dsimp only; rw [if_neg hne, if_pos (Or.inl c_19)], M, rfl, mEq.rf⟩)
      · skip
        refine n_aload_n hC dX3_fewest_22 rfl ?_
        refine m_getI hC 1 (v := nI (mN M 1)) dX3_fewest_23 rfl rfl (by decide) h1 ?_
        refine n_bipush hC (v := nI 7) dX3_fewest_26 (by decide) ?_
        refine n_icmp_leN hC (tgt := 34) dX3_fewest_28 (by decide) (by omega) (by omega) (fun c_28 => ?_) (fun c_28 => ?_)
        · skip
          have hn7 : ¬ (mN M 1 = 0 ∨ 7 < mN M 1) := by omega
          obtain ⟨z, -, hz, ez⟩ := (nrg_nn (by decide) (by decide)).mp c_5
          subst ez
          have hzc : (nI z).toNatClampNeg = z := nI_clamp (by omega)
          have hiz := iZ z (by omega)
          rcases hiz.1 with e57 | ⟨c, hc, e57⟩
          · skip
            skip
            refine n_aload_n hC dX3_fewest_34 rfl ?_
            refine m_getA hC 57 dX3_fewest_35 rfl rfl ?_
            refine n_iload_n hC dX3_fewest_38 rfl ?_
            refine m_aldN hC 57 (v := (-1)) dX3_fewest_39 rfl rfl (by have h9 : mLen 57 = 6 := rfl; omega) e57 ?_
            refine n_if_ge hC (tgt := 46) dX3_fewest_40 (by decide) (fun c_40 => absurd c_40 (by decide)) (fun c_40 => ?_)
            refine n_bipush hC (v := (-11)) dX3_fewest_43 (by decide) ?_
            exact n_iret hC dX3_fewest_45 (by decide) (by decide) (⟨rfl, by unfold o_fewest; dsimp only; rw [if_neg hne, if_neg hn7, hzc, if_pos e57], M, rfl, mEq.rf⟩)
          · skip
            have hn1 : ¬ M 57 z = -1 := fun e => absurd (e57.symm.trans e) (nI_nm (by omega))
            refine n_aload_n hC dX3_fewest_34 rfl ?_
            refine m_getA hC 57 dX3_fewest_35 rfl rfl ?_
            refine n_iload_n hC dX3_fewest_38 rfl ?_
            refine m_aldN hC 57 (v := nI c) dX3_fewest_39 rfl rfl (by have h9 : mLen 57 = 6 := rfl; omega) e57 ?_
            refine n_if_geN hC (tgt := 46) dX3_fewest_40 (by decide) (by omega) ?_
            refine n_aload_n hC dX3_fewest_46 rfl ?_
            refine m_getA hC 57 dX3_fewest_47 rfl rfl ?_
            refine n_iload_n hC dX3_fewest_50 rfl ?_
            refine m_aldN hC 57 (v := nI c) dX3_fewest_51 rfl rfl (by have h9 : mLen 57 = 6 := rfl; omega) e57 ?_
            refine n_if_eqN hC (tgt := 58) dX3_fewest_52 (by decide) (by omega) (fun c_52 => ?_) (fun c_52 => ?_)
            · skip
              have h570 : M 57 z = nI 0 := e57.trans (by rw [c_52])
              refine n_aload_n hC dX3_fewest_58 rfl ?_
              refine m_getA hC 58 dX3_fewest_59 rfl rfl ?_
              refine n_iload_n hC dX3_fewest_62 rfl ?_
              refine m_aldN hC 58 (v := nI (mA M 58 z)) dX3_fewest_63 rfl rfl (by have h9 : mLen 58 = 6 := rfl; omega) hiz.2.1 ?_
              refine n_aload_n hC dX3_fewest_64 rfl ?_
              refine m_getI hC 1 (v := nI (mN M 1)) dX3_fewest_65 rfl rfl (by decide) h1 ?_
              refine n_icmp_geN hC (tgt := 74) dX3_fewest_68 (by decide) (by have := hiz.2.2; omega) (by omega) (fun c_68 => ?_) (fun c_68 => ?_)
              · skip
                refine n_iconst hC (v := nI 0) dX3_fewest_74 (by decide) ?_
                refine n_istore_n hC dX3_fewest_75 (Nat.le_of_ble_eq_true rfl) ?_
                refine n_iconst hC (v := nI 0) dX3_fewest_76 (by decide) ?_
                refine n_istore hC dX3_fewest_77 (Nat.le_of_ble_eq_true rfl) ?_
                have lp79 : ∀ d9 : Nat, ∀ (p : Nat) (u : Nat) (M2 : nMem), mN M 1 - p = d9 → (p ≤ mN M 1) → (mFr [44, 45, 46, 47, 48, 49, 50] M M2) → (∀ q, q < p → nin (M 59 (60 * z + q)) (mN M 1) = true) → (∀ q, q < p → M2 45 q = M 59 (60 * z + q)) → (u < 2 ^ mN M 1) → (∀ x, u.testBit x = anyb p (fun q => decide ((M 59 (60 * z + q)).toNatClampNeg = x))) → WN K na (mPut na h M2) 0 0 Q9 79 [some (.ref (na 61)), some (.int (nI z)), some (.int what), some (.int (nI u)), some (.int (nI p)), none] [] := by
                  intro d9
                  induction d9 using Nat.strongRecOn with
                  | _ d9 ih79 =>
                    intro p u M2 hd79 hp hF2 hin h45 hu hbt
                    refine n_iload hC dX3_fewest_79 rfl ?_
                    refine n_aload_n hC dX3_fewest_81 rfl ?_
                    refine m_getI hC 1 (v := nI (mN M 1)) dX3_fewest_82 rfl rfl (by decide) ((congrFun (hF2 1 (by decide)) 0).trans h1) ?_
                    refine n_icmp_geN hC (tgt := 136) dX3_fewest_85 (by decide) (by omega) (by omega) (fun c_85 => ?_) (fun c_85 => ?_)
                    · skip
                      obtain ⟨gl, egl⟩ : ∃ f, f = fun p => (M 59 (60 * z + p)).toNatClampNeg := ⟨_, rfl⟩
                      have hglp : ∀ p, gl p = (M 59 (60 * z + p)).toNatClampNeg := fun p => by rw [egl]
                      have h2p : 2 ^ mN M 1 ≤ 2 ^ 7 := Nat.pow_le_pow_right (by decide) (by omega)
                      have hinp : ∀ q, q < mN M 1 → M 59 (60 * z + q) = nI (gl q) ∧ gl q < mN M 1 := fun q hq => by
                        obtain ⟨j, hj, ej⟩ := (nin_t (by omega)).mp (hin q (by omega))
                        rw [hglp, ej, nI_clamp (by omega)]
                        exact ⟨rfl, hj⟩
                      have hfull : u = 2 ^ mN M 1 - 1 ↔ isPm (mN M 1) gl := by
                        rw [full_bits hu]
                        constructor
                        · intro w
                          refine isPm_of_surj (fun i hi => (hinp i hi).2) (fun k hk => ?_)
                          have w2 := w k hk
                          rw [hbt, anyb_iff] at w2
                          obtain ⟨q, hq, e⟩ := w2
                          exact ⟨q, by omega, by rw [hglp]; exact of_decide_eq_true e⟩
                        · intro w x hx
                          obtain ⟨q, hq, e⟩ := isPm_surj w x hx
                          rw [hbt, anyb_iff]
                          exact ⟨q, by omega, decide_eq_true (by rw [← hglp]; exact e)⟩
                      refine n_iload_n hC dX3_fewest_136 rfl ?_
                      refine n_iconst hC (v := nI 1) dX3_fewest_137 (by decide) ?_
                      refine n_aload_n hC dX3_fewest_138 rfl ?_
                      refine m_getI hC 1 (v := nI (mN M 1)) dX3_fewest_139 rfl rfl (by decide) ((congrFun (hF2 1 (by decide)) 0).trans h1) ?_
                      refine n_ishl hC dX3_fewest_142 ?_
                      rw [show (nI 1) <<< ((nI (mN M 1)) &&& 31) = nI (2 ^ mN M 1) from shl1 (by omega)]
                      refine n_iconst hC (v := nI 1) dX3_fewest_143 (by decide) ?_
                      refine n_isubN hC dX3_fewest_144 (Nat.two_pow_pos _) rfl ?_
                      refine n_icmp_eqN hC (tgt := 151) dX3_fewest_145 (by decide) (by omega) (by omega) (fun c_145 => ?_) (fun c_145 => ?_)
                      · skip
                        have hpm := hfull.mp c_145
                        have h45g : ∀ p, p < mN M 1 → M2 45 p = nI (gl p) := fun q hq => (h45 q (by omega)).trans (hinp q hq).1
                        refine n_aload_n hC dX3_fewest_151 rfl ?_
                        refine n_callV0v hC (mt_X3_findFar na h (M2) (n := mN M 1) (gl := gl) ((congrFun (hF2 1 (by decide)) 0).trans h1) (by omega) (by omega) h45g hpm) md_X3_findFar q1517 dX3_fewest_152 rfl (mPut_o _ _ _) rfl rfl ⟨rfl, rfl, by decide, by decide⟩ rfl (Nat.le_of_ble_eq_true rfl) (by decide) (by decide) (fun na1 h1 hp1 => ?_)
                        obtain ⟨rfl, M3, rfl, hFf, hG3⟩ := hp1
                        have hF3 : mFr [44, 45, 46, 47, 48, 49, 50] M M3 := mFr.cmp (fun _ z => z) (by decide) hF2 hFf
                        have hg9 : rnk (mN M 1) gl < fct (mN M 1) := rnk_lt hpm
                        have hf5 := fct_le (show mN M 1 ≤ 7 by omega)
                        have hQ := bfs_Q hg9
                        have hAll := fun v hv => bfs_all (v := v) hg9 hv
                        have hpm6 : isPm (mN M 1) (mA M 6) := ⟨fun i hi => (iH i hi).2, fun i j hi hj e => iHi i j hi hj e⟩
                        obtain ⟨v, ev⟩ : ∃ v, v = rnk (mN M 1) (mA M 6) := ⟨_, rfl⟩
                        obtain ⟨G, eG⟩ : ∃ f, f = bfsG (mN M 1) (rnk (mN M 1) gl) := ⟨_, rfl⟩
                        rw [← eG] at hG3 hQ hAll
                        have hv9 : v < fct (mN M 1) := by rw [ev]; exact rnk_lt hpm6
                        have hGv := hAll v hv9
                        have hnn : mN M 1 * mN M 1 ≤ 7 * 7 := Nat.mul_le_mul (by omega) (by omega)
                        refine n_iconst hC (v := nI 0) dX3_fewest_155 (by decide) ?_
                        refine n_istore hC dX3_fewest_156 (Nat.le_of_ble_eq_true rfl) ?_
                        have lp158 : ∀ d9 : Nat, ∀ (p : Nat) (M4 : nMem), mN M 1 - p = d9 → (p ≤ mN M 1) → (mFr [44, 45, 46, 47, 48, 49, 50] M M4) → (M4 46 = M3 46) → (∀ q, q < p → M4 44 q = M 6 q) → WN K na (mPut na h M4) 0 0 Q9 158 [some (.ref (na 61)), some (.int (nI z)), some (.int what), some (.int (nI u)), some (.int (nI p)), none] [] := by
                          intro d9
                          induction d9 using Nat.strongRecOn with
                          | _ d9 ih158 =>
                            intro p M4 hd158 hp4 hF4 h464 h444
                            refine n_iload hC dX3_fewest_158 rfl ?_
                            refine n_aload_n hC dX3_fewest_160 rfl ?_
                            refine m_getI hC 1 (v := nI (mN M 1)) dX3_fewest_161 rfl rfl (by decide) ((congrFun (hF4 1 (by decide)) 0).trans h1) ?_
                            refine n_icmp_geN hC (tgt := 187) dX3_fewest_164 (by decide) (by omega) (by omega) (fun c_164 => ?_) (fun c_164 => ?_)
                            · skip
                              refine n_aload_n hC dX3_fewest_187 rfl ?_
                              refine n_iconst hC (v := nI 0) dX3_fewest_188 (by decide) ?_
                              refine m_putI hC 49 (M2 := mset M4 49 (fun _ => nI 0)) dX3_fewest_189 rfl rfl (by decide) rfl rfl rfl rfl rfl ?_
                              have lp192 : ∀ d9 : Nat, ∀ (k : Nat) (o : Nat → Nat) (M5 : nMem), G v - k = d9 → (mFr [44, 45, 46, 47, 48, 49, 50] M M5) → (M5 49 0 = nI k) → (∀ r, r < fct (mN M 1) → M5 46 r = pmi (G r)) → (∀ i, i < mN M 1 → M5 44 i = nI (o i)) → (isPm (mN M 1) o) → (rnk (mN M 1) o = gwy (mN M 1) G v k) → (G (rnk (mN M 1) o) + k = G v) → (∀ j, j < k → M5 48 j = nI (fsp (mN M 1) G (gwy (mN M 1) G v j))) → WN K na (mPut na h M5) 0 0 Q9 192 [some (.ref (na 61)), some (.int (nI z)), some (.int what), some (.int (nI u)), none, none] [] := by
                                intro d9
                                induction d9 using Nat.strongRecOn with
                                | _ d9 ih192 =>
                                  intro k o M5 hd192 hF5 h49 hG5 ho5 hpo hgw hgk hrt
                                  refine n_aload_n hC dX3_fewest_192 rfl ?_
                                  refine m_getA hC 46 dX3_fewest_193 rfl rfl ?_
                                  refine n_aload_n hC dX3_fewest_196 rfl ?_
                                  refine n_aload_n hC dX3_fewest_197 rfl ?_
                                  refine m_getA hC 44 dX3_fewest_198 rfl rfl ?_
                                  refine n_callV1i hC (mt_X3_rank_44 na h (M5) (n := mN M 1) (o := o) ((congrFun (hF5 1 (by decide)) 0).trans h1) (by omega) ho5 hpo.1) md_X3_rank q1521 dX3_fewest_201 rfl (mPut_o _ _ _) rfl rfl ⟨rfl, rfl, by decide, by decide⟩ rfl (Nat.le_of_ble_eq_true rfl) (by decide) (by decide) (fun r2 na2 h2 hp2 => ?_)
                                  obtain ⟨rfl, rfl, rfl⟩ := hp2
                                  refine m_aldN hC 46 (v := nI (G (rnk (mN M 1) o) - 1)) dX3_fewest_204 rfl rfl (by have h9 : mLen 46 = 5040 := rfl; have := rnk_lt hpo; omega) ((hG5 _ (rnk_lt hpo)).trans (pmi_ok (hAll _ (rnk_lt hpo)).1)) ?_
                                  refine n_if_leN hC (tgt := 305) dX3_fewest_205 (by decide) (by have := (hAll _ (rnk_lt hpo)).2; omega) (fun c_205 => ?_) (fun c_205 => ?_)
                                  · skip
                                    have hal := hAll _ (rnk_lt hpo)
                                    have hk9 : k = G v - 1 := by omega
                                    refine n_iload_n hC dX3_fewest_305 rfl ?_
                                    refine n_iconst hC (v := (-1)) dX3_fewest_306 (by decide) ?_
                                    refine n_icmp_ne hC (tgt := 317) dX3_fewest_307 (by decide) (fun c_307 => ?_) (fun c_307 => ?_)
                                    · skip
                                      refine n_iload_n hC dX3_fewest_317 rfl ?_
                                      refine n_aload_n hC dX3_fewest_318 rfl ?_
                                      refine m_getI hC 49 (v := nI k) dX3_fewest_319 rfl rfl (by decide) h49 ?_
                                      refine n_icmp_ge hC (tgt := 334) dX3_fewest_322 (by decide) (fun c_322 => ?_) (fun c_322 => ?_)
                                      · skip
                                        have c_322 := Int32.not_lt.mpr c_322
                                        refine n_iconst hC (v := (-1)) dX3_fewest_334 (by decide) ?_
                                        exact n_iret hC dX3_fewest_335 (by decide) (by decide) (⟨rfl, by unfold o_fewest; dsimp only; rw [if_neg hne, if_neg hn7, hzc, if_neg hn1, if_neg (fun e => e h570), if_neg (by omega), ← egl]; refine (if_pos ⟨fun p hp => hin p (by omega), hpm⟩).trans ?_; rw [← eG, ← ev, if_neg c_307, if_neg (by rw [← hk9]; exact c_322)], M5, rfl, mEq.fr (by decide) (hF5)⟩)
                                      · skip
                                        have c_322 := Int32.not_le.mp c_322
                                        obtain ⟨wh, hwh, ewh⟩ := nI_of (x := what) (nn_ge c_10 c_307)
                                        subst ewh
                                        have hwk : wh < k := (nI_ltI hwh (by omega)).mp c_322
                                        refine n_aload_n hC dX3_fewest_325 rfl ?_
                                        refine m_getA hC 48 dX3_fewest_326 rfl rfl ?_
                                        refine n_iload_n hC dX3_fewest_329 rfl ?_
                                        refine m_aldN hC 48 (v := nI (fsp (mN M 1) G (gwy (mN M 1) G v wh))) dX3_fewest_330 rfl rfl (by have h9 : mLen 48 = 64 := rfl; omega) (hrt wh hwk) ?_
                                        refine n_goto hC (tgt := 335) dX3_fewest_331 (by decide) ?_
                                        exact n_iret hC dX3_fewest_335 (by decide) (by decide) (⟨rfl, by unfold o_fewest; dsimp only; rw [if_neg hne, if_neg hn7, hzc, if_neg hn1, if_neg (fun e => e h570), if_neg (by omega), ← egl]; refine (if_pos ⟨fun p hp => hin p (by omega), hpm⟩).trans ?_; rw [← eG, ← ev, if_neg c_307, if_pos (by rw [← hk9]; exact c_322), nI_clamp hwh], M5, rfl, mEq.fr (by decide) (hF5)⟩)
                                    · skip
                                      refine n_aload_n hC dX3_fewest_310 rfl ?_
                                      refine m_getI hC 49 (v := nI k) dX3_fewest_311 rfl rfl (by decide) h49 ?_
                                      refine n_goto hC (tgt := 335) dX3_fewest_314 (by decide) ?_
                                      exact n_iret hC dX3_fewest_335 (by decide) (by decide) (⟨rfl, by unfold o_fewest; dsimp only; rw [if_neg hne, if_neg hn7, hzc, if_neg hn1, if_neg (fun e => e h570), if_neg (by omega), ← egl]; refine (if_pos ⟨fun p hp => hin p (by omega), hpm⟩).trans ?_; rw [← eG, ← ev, if_pos c_307, hk9], M5, rfl, mEq.fr (by decide) (hF5)⟩)
                                  · skip
                                    have hal := hAll _ (rnk_lt hpo)
                                    obtain ⟨pf, hpf, hpfe⟩ := hQ.2.2 _ (rnk_lt hpo) (show 1 < G (rnk (mN M 1) o) by omega)
                                    refine n_aload_n hC dX3_fewest_208 rfl ?_
                                    refine m_getA hC 46 dX3_fewest_209 rfl rfl ?_
                                    refine n_aload_n hC dX3_fewest_212 rfl ?_
                                    refine n_aload_n hC dX3_fewest_213 rfl ?_
                                    refine m_getA hC 44 dX3_fewest_214 rfl rfl ?_
                                    refine n_callV1i hC (mt_X3_rank_44 na h (M5) (n := mN M 1) (o := o) ((congrFun (hF5 1 (by decide)) 0).trans h1) (by omega) ho5 hpo.1) md_X3_rank q1521 dX3_fewest_217 rfl (mPut_o _ _ _) rfl rfl ⟨rfl, rfl, by decide, by decide⟩ rfl (Nat.le_of_ble_eq_true rfl) (by decide) (by decide) (fun r3 na3 h3 hp3 => ?_)
                                    obtain ⟨rfl, rfl, rfl⟩ := hp3
                                    refine m_aldN hC 46 (v := nI (G (rnk (mN M 1) o) - 1)) dX3_fewest_220 rfl rfl (by have h9 : mLen 46 = 5040 := rfl; have := rnk_lt hpo; omega) ((hG5 _ (rnk_lt hpo)).trans (pmi_ok hal.1)) ?_
                                    refine n_istore hC dX3_fewest_221 (Nat.le_of_ble_eq_true rfl) ?_
                                    refine n_iconst hC (v := nI 0) dX3_fewest_223 (by decide) ?_
                                    refine n_istore hC dX3_fewest_224 (Nat.le_of_ble_eq_true rfl) ?_
                                    refine n_aload_n hC dX3_fewest_226 rfl ?_
                                    refine n_aload_n hC dX3_fewest_227 rfl ?_
                                    refine m_getA hC 44 dX3_fewest_228 rfl rfl ?_
                                    refine n_iconst hC (v := nI 0) dX3_fewest_231 (by decide) ?_
                                    refine n_callV2v hC (mt_X3_swap_44 na h (M5) (n := mN M 1) (p := 0) ((congrFun (hF5 1 (by decide)) 0).trans h1) (by omega) (by omega)) md_X3_swap q1529 dX3_fewest_232 rfl (mPut_o _ _ _) rfl rfl ⟨rfl, rfl, by decide, by decide⟩ rfl (Nat.le_of_ble_eq_true rfl) (by decide) (by decide) (fun na4 h4 hp4 => ?_)
                                    obtain ⟨rfl, M7, rfl, eM7⟩ := hp4
                                    have hF7 : mFr [44, 45, 46, 47, 48, 49, 50] M M7 := by rw [eM7]; exact mFr.set (by decide) hF5
                                    have h497 : M7 49 0 = nI k := by rw [eM7]; exact h49
                                    have hG7 : ∀ r, r < fct (mN M 1) → M7 46 r = pmi (G r) := by rw [eM7]; exact hG5
                                    have hrt7 : M7 48 = M5 48 := by rw [eM7]; exact rfl
                                    have hS7 : ∀ i, i < mN M 1 → M7 44 i = nI (swo (mN M 1) o 0 i) := fun i hi => by
                                      have ht := tsp_lt (show 0 < mN M 1 by omega) (Nat.mod_lt (0 + 1) (show 0 < mN M 1 by omega)) hi
                                      rw [eM7, mset_s, swp_tsp]
                                      exact ho5 _ ht
                                    have lp235 : ∀ d9 : Nat, ∀ (p : Nat) (M6 : nMem), mN M 1 - p = d9 → (p < mN M 1) → (mFr [44, 45, 46, 47, 48, 49, 50] M M6) → (M6 49 0 = nI k) → (∀ r, r < fct (mN M 1) → M6 46 r = pmi (G r)) → (∀ i, i < mN M 1 → M6 44 i = nI (swo (mN M 1) o p i)) → (M6 48 = M5 48) → (∀ q, q < p → ¬ G (nbr (mN M 1) (rnk (mN M 1) o) q) + 1 = G (rnk (mN M 1) o)) → WN K na (mPut na h M6) 0 0 Q9 235 [some (.ref (na 61)), some (.int (nI z)), some (.int what), some (.int (nI u)), some (.int (nI (G (rnk (mN M 1) o) - 1))), some (.int (nI p))] [] := by
                                      intro d9
                                      induction d9 using Nat.strongRecOn with
                                      | _ d9 ih235 =>
                                        intro p M6 hd235 hp6 hF6 h496 hG6 hSw hrt6 hno
                                        refine n_aload_n hC dX3_fewest_235 rfl ?_
                                        have hpS := swo_pm hp6 hpo
                                        have hrS := rnk_lt hpS
                                        have hnb := nbr_rnk hp6 hpo
                                        have halS := hAll _ hrS
                                        refine m_getA hC 46 dX3_fewest_236 rfl rfl ?_
                                        refine n_aload_n hC dX3_fewest_239 rfl ?_
                                        refine n_aload_n hC dX3_fewest_240 rfl ?_
                                        refine m_getA hC 44 dX3_fewest_241 rfl rfl ?_
                                        refine n_callV1i hC (mt_X3_rank_44 na h (M6) (n := mN M 1) (o := swo (mN M 1) o p) ((congrFun (hF6 1 (by decide)) 0).trans h1) (by omega) hSw hpS.1) md_X3_rank q1521 dX3_fewest_244 rfl (mPut_o _ _ _) rfl rfl ⟨rfl, rfl, by decide, by decide⟩ rfl (Nat.le_of_ble_eq_true rfl) (by decide) (by decide) (fun r5 na5 h5 hp5 => ?_)
                                        obtain ⟨rfl, rfl, rfl⟩ := hp5
                                        refine m_aldN hC 46 (v := nI (G (rnk (mN M 1) (swo (mN M 1) o p)) - 1)) dX3_fewest_247 rfl rfl (by have h9 : mLen 46 = 5040 := rfl; omega) ((hG6 _ hrS).trans (pmi_ok halS.1)) ?_
                                        refine n_iload hC dX3_fewest_248 rfl ?_
                                        refine n_iconst hC (v := nI 1) dX3_fewest_250 (by decide) ?_
                                        refine n_isubN hC dX3_fewest_251 (by omega) rfl ?_
                                        refine n_icmp_eqN hC (tgt := 281) dX3_fewest_252 (by decide) (by omega) (by omega) (fun c_252 => ?_) (fun c_252 => ?_)
                                        · skip
                                          have hfs : fsp (mN M 1) G (gwy (mN M 1) G v k) = p := by rw [← hgw]; exact fsp_at hp6 (by rw [hnb]; omega) hno
                                          refine n_aload_n hC dX3_fewest_281 rfl ?_
                                          refine m_getA hC 48 dX3_fewest_282 rfl rfl ?_
                                          refine n_aload_n hC dX3_fewest_285 rfl ?_
                                          refine m_getI hC 49 (v := nI k) dX3_fewest_286 rfl rfl (by decide) h496 ?_
                                          refine n_iload hC dX3_fewest_289 rfl ?_
                                          refine m_astN hC 48 (M2 := mset M6 48 (upd (M6 48) k (nI p))) dX3_fewest_291 rfl rfl (by have h9 : mLen 48 = 64 := rfl; omega) rfl ?_
                                          refine n_aload_n hC dX3_fewest_292 rfl ?_
                                          refine n_dup hC dX3_fewest_293 rfl ?_
                                          refine m_getI hC 49 (v := nI k) dX3_fewest_294 rfl rfl (by decide) h496 ?_
                                          refine n_iconst hC (v := nI 1) dX3_fewest_297 (by decide) ?_
                                          refine n_iaddN hC dX3_fewest_298 rfl ?_
                                          refine m_putI hC 49 (M2 := mset (mset M6 48 (upd (M6 48) k (nI p))) 49 (fun _ => nI (k + 1))) dX3_fewest_299 rfl rfl (by decide) rfl rfl rfl rfl rfl ?_
                                          refine n_goto hC (tgt := 192) dX3_fewest_302 (by decide) ?_
                                          exact WN.forget (L' := [some (.ref (na 61)), some (.int (nI z)), some (.int what), some (.int (nI u)), none, none]) (⟨Or.inr rfl, Or.inr rfl, Or.inr rfl, Or.inr rfl, Or.inl rfl, Or.inl rfl, trivial⟩) (ih192 _ (by omega) (k + 1) (swo (mN M 1) o p) (mset (mset M6 48 (upd (M6 48) k (nI p))) 49 (fun _ => nI (k + 1))) rfl (mFr.set (by decide) (mFr.set (by decide) hF6)) rfl hG6 hSw hpS (by show _ = nbr _ (gwy (mN M 1) G v k) (fsp _ G (gwy (mN M 1) G v k)); rw [hfs, ← hgw]; exact (nbr_rnk (by omega) hpo).symm) (by omega) (lt_s (fun j hj => (if_neg (by omega)).trans ((congrFun hrt6 j).trans (hrt j hj))) ((if_pos rfl).trans (by rw [hfs]))))
                                        · skip
                                          have hnp : ¬ G (nbr (mN M 1) (rnk (mN M 1) o) p) + 1 = G (rnk (mN M 1) o) := by rw [hnb]; omega
                                          have hno9 : ∀ q, q < p + 1 → ¬ G (nbr (mN M 1) (rnk (mN M 1) o) q) + 1 = G (rnk (mN M 1) o) := lt_s hno hnp
                                          have hpf9 : p + 1 ≤ pf := by
                                            by_cases w : pf < p + 1
                                            · exact absurd hpfe (hno9 pf w)
                                            · omega
                                          refine n_aload_n hC dX3_fewest_255 rfl ?_
                                          refine n_aload_n hC dX3_fewest_256 rfl ?_
                                          refine m_getA hC 44 dX3_fewest_257 rfl rfl ?_
                                          refine n_iload hC dX3_fewest_260 rfl ?_
                                          refine n_callV2v hC (mt_X3_swap_44 na h (M6) (n := mN M 1) (p := p) ((congrFun (hF6 1 (by decide)) 0).trans h1) (by omega) (by omega)) md_X3_swap q1529 dX3_fewest_262 rfl (mPut_o _ _ _) rfl rfl ⟨rfl, rfl, by decide, by decide⟩ rfl (Nat.le_of_ble_eq_true rfl) (by decide) (by decide) (fun na6 h6 hp6 => ?_)
                                          obtain ⟨rfl, M8, rfl, eM8⟩ := hp6
                                          have hF8 : mFr [44, 45, 46, 47, 48, 49, 50] M M8 := by rw [eM8]; exact mFr.set (by decide) hF6
                                          have h498 : M8 49 0 = nI k := by rw [eM8]; exact h496
                                          have hG8 : ∀ r, r < fct (mN M 1) → M8 46 r = pmi (G r) := by rw [eM8]; exact hG6
                                          have hrt8 : M8 48 = M5 48 := by rw [eM8]; exact hrt6
                                          have hS8 : ∀ i, i < mN M 1 → M8 44 i = nI (o i) := fun i hi => by
                                            have ht := tsp_lt (show p < mN M 1 by omega) (Nat.mod_lt (p + 1) (show 0 < mN M 1 by omega)) hi
                                            rw [eM8, mset_s, swp_tsp]
                                            exact (hSw _ ht).trans (by unfold swo; rw [tsp_tsp])
                                          refine n_iincN hC dX3_fewest_265 (j := 1) (c := p + 1) rfl (by decide) rfl ?_
                                          refine n_aload_n hC dX3_fewest_268 rfl ?_
                                          refine n_aload_n hC dX3_fewest_269 rfl ?_
                                          refine m_getA hC 44 dX3_fewest_270 rfl rfl ?_
                                          refine n_iload hC dX3_fewest_273 rfl ?_
                                          refine n_callV2v hC (mt_X3_swap_44 na h (M8) (n := mN M 1) (p := p + 1) ((congrFun (hF8 1 (by decide)) 0).trans h1) (by omega) (by omega)) md_X3_swap q1529 dX3_fewest_275 rfl (mPut_o _ _ _) rfl rfl ⟨rfl, rfl, by decide, by decide⟩ rfl (Nat.le_of_ble_eq_true rfl) (by decide) (by decide) (fun na7 h7 hp7 => ?_)
                                          obtain ⟨rfl, M9, rfl, eM9⟩ := hp7
                                          have hF9 : mFr [44, 45, 46, 47, 48, 49, 50] M M9 := by rw [eM9]; exact mFr.set (by decide) hF8
                                          have h499 : M9 49 0 = nI k := by rw [eM9]; exact h498
                                          have hG9 : ∀ r, r < fct (mN M 1) → M9 46 r = pmi (G r) := by rw [eM9]; exact hG8
                                          have hrt9 : M9 48 = M5 48 := by rw [eM9]; exact hrt8
                                          have hS9 : ∀ i, i < mN M 1 → M9 44 i = nI (swo (mN M 1) o (p + 1) i) := fun i hi => by
                                            have ht := tsp_lt (show (p + 1) < mN M 1 by omega) (Nat.mod_lt ((p + 1) + 1) (show 0 < mN M 1 by omega)) hi
                                            rw [eM9, mset_s, swp_tsp]
                                            exact hS8 _ ht
                                          refine n_goto hC (tgt := 235) dX3_fewest_278 (by decide) ?_
                                          exact WN.forget (L' := [some (.ref (na 61)), some (.int (nI z)), some (.int what), some (.int (nI u)), some (.int (nI (G (rnk (mN M 1) o) - 1))), some (.int (nI (p + 1)))]) (⟨Or.inr rfl, Or.inr rfl, Or.inr rfl, Or.inr rfl, Or.inr rfl, Or.inr rfl, trivial⟩) (ih235 _ (by omega) (p + 1) M9 rfl (by omega) hF9 h499 hG9 hS9 hrt9 hno9)
                                    exact WN.forget (L' := [some (.ref (na 61)), some (.int (nI z)), some (.int what), some (.int (nI u)), some (.int (nI (G (rnk (mN M 1) o) - 1))), some (.int (nI 0))]) (⟨Or.inr rfl, Or.inr rfl, Or.inr rfl, Or.inr rfl, Or.inr rfl, Or.inr rfl, trivial⟩) (lp235 _ 0 M7 rfl (by omega) hF7 h497 hG7 hS7 hrt7 (fun q hq => absurd hq (Nat.not_lt_zero q)))
                              exact WN.forget (L' := [some (.ref (na 61)), some (.int (nI z)), some (.int what), some (.int (nI u)), none, none]) (⟨Or.inr rfl, Or.inr rfl, Or.inr rfl, Or.inr rfl, Or.inl rfl, Or.inl rfl, trivial⟩) (lp192 _ 0 (mA M 6) (mset M4 49 (fun _ => nI 0)) rfl (mFr.set (by decide) hF4) rfl (fun r hr => (congrFun h464 r).trans (hG3 r hr)) (fun i hi => (h444 i (by omega)).trans (iH i hi).1) hpm6 ev.symm (by rw [Nat.add_zero, ev]) lt_0)
                            · skip
                              refine n_aload_n hC dX3_fewest_167 rfl ?_
                              refine m_getA hC 44 dX3_fewest_168 rfl rfl ?_
                              refine n_iload hC dX3_fewest_171 rfl ?_
                              refine n_aload_n hC dX3_fewest_173 rfl ?_
                              refine m_getA hC 6 dX3_fewest_174 rfl rfl ?_
                              refine n_iload hC dX3_fewest_177 rfl ?_
                              refine m_aldN hC 6 (v := M 6 p) dX3_fewest_179 rfl rfl (by have h9 : mLen 6 = 9 := rfl; omega) (congrFun (hF4 6 (by decide)) _) ?_
                              refine m_astN hC 44 (M2 := mset M4 44 (upd (M4 44) p (M 6 p))) dX3_fewest_180 rfl rfl (by have h9 : mLen 44 = 7 := rfl; omega) rfl ?_
                              refine n_iincN hC dX3_fewest_181 (j := 1) (c := p + 1) rfl (by decide) rfl ?_
                              refine n_goto hC (tgt := 158) dX3_fewest_184 (by decide) ?_
                              exact WN.forget (L' := [some (.ref (na 61)), some (.int (nI z)), some (.int what), some (.int (nI u)), some (.int (nI (p + 1))), none]) (⟨Or.inr rfl, Or.inr rfl, Or.inr rfl, Or.inr rfl, Or.inr rfl, Or.inl rfl, trivial⟩) (ih158 _ (by omega) (p + 1) (mset M4 44 (upd (M4 44) p (M 6 p))) rfl (by omega) (mFr.set (by decide) hF4) h464 (lt_s (fun q hq => (if_neg (by omega)).trans (h444 q hq)) (if_pos rfl)))
                        exact WN.forget (L' := [some (.ref (na 61)), some (.int (nI z)), some (.int what), some (.int (nI u)), some (.int (nI 0)), none]) (⟨Or.inr rfl, Or.inr rfl, Or.inr rfl, Or.inr rfl, Or.inr rfl, Or.inl rfl, trivial⟩) (lp158 _ 0 M3 rfl (by omega) hF3 rfl lt_0)
                      · skip
                        refine n_bipush hC (v := (-2)) dX3_fewest_148 (by decide) ?_
                        exact n_iret hC dX3_fewest_150 (by decide) (by decide) (⟨rfl, by unfold o_fewest; dsimp only; rw [if_neg hne, if_neg hn7, hzc, if_neg hn1, if_neg (fun e => e h570), if_neg (by omega), ← egl]; exact if_neg (fun w => c_145 (hfull.mpr w.2)), M2, rfl, mEq.fr (by decide) (hF2)⟩)
                    · skip
                      refine n_aload_n hC dX3_fewest_88 rfl ?_
                      refine m_getA hC 59 dX3_fewest_89 rfl rfl ?_
                      refine n_bipush hC (v := nI 60) dX3_fewest_92 (by decide) ?_
                      refine n_iload_n hC dX3_fewest_94 rfl ?_
                      refine n_imulN hC dX3_fewest_95 rfl ?_
                      refine n_iload hC dX3_fewest_96 rfl ?_
                      refine n_iaddN hC dX3_fewest_98 rfl ?_
                      refine m_aldN hC 59 (v := M 59 (60 * z + p)) dX3_fewest_99 rfl rfl (by have h9 : mLen 59 = 360 := rfl; omega) (congrFun (hF2 59 (by decide)) _) ?_
                      refine n_istore hC dX3_fewest_100 (Nat.le_of_ble_eq_true rfl) ?_
                      refine n_aload_n hC dX3_fewest_102 rfl ?_
                      refine n_iload hC dX3_fewest_103 rfl ?_
                      refine n_callV1z hC (mt_X3_isPlace na h (M2) (M 59 (60 * z + p)) (n := mN M 1) ((congrFun (hF2 1 (by decide)) 0).trans h1) (by omega)) md_X3_isPlace q1305 dX3_fewest_105 rfl (mPut_o _ _ _) rfl rfl ⟨rfl, rfl, by decide, by decide⟩ rfl (Nat.le_of_ble_eq_true rfl) (by decide) (by decide) (fun r8 na8 h8 hp8 => ?_)
                      obtain ⟨rfl, rfl, rfl⟩ := hp8
                      refine n_if_neB hC (tgt := 114) dX3_fewest_108 (by decide) (fun c_108 => ?_) (fun c_108 => ?_)
                      · skip
                        obtain ⟨r, hr, er⟩ := (nin_t (by omega)).mp c_108
                        rw [er]
                        refine n_iload_n hC dX3_fewest_114 rfl ?_
                        refine n_iconst hC (v := nI 1) dX3_fewest_115 (by decide) ?_
                        refine n_iload hC dX3_fewest_116 rfl ?_
                        refine n_ishl hC dX3_fewest_118 ?_
                        rw [show (nI 1) <<< ((nI r) &&& 31) = nI (2 ^ r) from shl1 (by omega)]
                        refine n_ior hC dX3_fewest_119 ?_
                        rw [show (nI u) ||| (nI (2 ^ r)) = nI (u ||| 2 ^ r) from orN (Nat.lt_of_lt_of_le hu (Nat.pow_le_pow_right (by decide) (by omega))) (Nat.pow_lt_pow_right (by decide) (by omega))]
                        refine n_istore_n hC dX3_fewest_120 (Nat.le_of_ble_eq_true rfl) ?_
                        refine n_aload_n hC dX3_fewest_121 rfl ?_
                        refine m_getA hC 45 dX3_fewest_122 rfl rfl ?_
                        refine n_iload hC dX3_fewest_125 rfl ?_
                        refine n_iload hC dX3_fewest_127 rfl ?_
                        refine m_astN hC 45 (M2 := mset M2 45 (upd (M2 45) p (nI r))) dX3_fewest_129 rfl rfl (by have h9 : mLen 45 = 7 := rfl; omega) rfl ?_
                        refine n_iincN hC dX3_fewest_130 (j := 1) (c := p + 1) rfl (by decide) rfl ?_
                        refine n_goto hC (tgt := 79) dX3_fewest_133 (by decide) ?_
                        exact WN.forget (L' := [some (.ref (na 61)), some (.int (nI z)), some (.int what), some (.int (nI (u ||| 2 ^ r))), some (.int (nI (p + 1))), none]) (⟨Or.inr rfl, Or.inr rfl, Or.inr rfl, Or.inr rfl, Or.inr rfl, Or.inl rfl, trivial⟩) (ih79 _ (by omega) (p + 1) (u ||| 2 ^ r) (mset M2 45 (upd (M2 45) p (nI r))) rfl (by omega) (mFr.set (by decide) hF2) (lt_s hin c_108) (lt_s (fun q hq => (if_neg (by omega)).trans (h45 q hq)) ((if_pos rfl).trans er.symm)) (Nat.or_lt_two_pow hu (Nat.pow_lt_pow_right (by decide) hr)) (fun x => by show _ = (anyb p _ || decide _); rw [Nat.testBit_or, hbt x, Nat.testBit_two_pow, er, nI_clamp (by omega)]))
                      · skip
                        skip
                        refine n_bipush hC (v := (-2)) dX3_fewest_111 (by decide) ?_
                        exact n_iret hC dX3_fewest_113 (by decide) (by decide) (⟨rfl, by unfold o_fewest; dsimp only; rw [if_neg hne, if_neg hn7, hzc, if_neg hn1, if_neg (fun e => e h570), if_neg (by omega)]; exact if_neg (fun w => by have := w.1 p (by omega); rw [c_108] at this; cases this), M2, rfl, mEq.fr (by decide) (hF2)⟩)
                exact WN.forget (L' := [some (.ref (na 61)), some (.int (nI z)), some (.int what), some (.int (nI 0)), some (.int (nI 0)), none]) (⟨Or.inr rfl, Or.inr rfl, Or.inr rfl, Or.inr rfl, Or.inr rfl, Or.inl rfl, trivial⟩) (lp79 _ 0 0 M rfl (by omega) mFr.rf lt_0 lt_0 (Nat.two_pow_pos _) (fun x => Nat.zero_testBit x))
              · skip
                refine n_bipush hC (v := (-13)) dX3_fewest_71 (by decide) ?_
                exact n_iret hC dX3_fewest_73 (by decide) (by decide) (⟨rfl, by unfold o_fewest; dsimp only; rw [if_neg hne, if_neg hn7, hzc, if_neg hn1, if_neg (fun e => e h570), if_pos (by omega)], M, rfl, mEq.rf⟩)
            · skip
              refine n_bipush hC (v := (-12)) dX3_fewest_55 (by decide) ?_
              exact n_iret hC dX3_fewest_57 (by decide) (by decide) (⟨rfl, by unfold o_fewest; dsimp only; rw [if_neg hne, if_neg hn7, hzc, if_neg hn1, if_pos (fun e => c_52 (nI_inj (by omega) (by decide) (e57.symm.trans e)))], M, rfl, mEq.rf⟩)
        · skip
          refine n_bipush hC (v := (-3)) dX3_fewest_31 (by decide) ?_
          exact n_iret hC dX3_fewest_33 (by decide) (by decide) (⟨rfl, by unfold o_fewest; dsimp only; rw [if_neg hne, if_pos (Or.inr (by omega))], M, rfl, mEq.rf⟩)
    · skip
      refine n_iconst hC (v := (-1)) dX3_fewest_13 (by decide) ?_
      exact n_iret hC dX3_fewest_14 (by decide) (by decide) (⟨rfl, by unfold o_fewest; dsimp only; rw [if_pos (Or.inr (Int32.not_le.mp c_10))], M, rfl, mEq.rf⟩)

