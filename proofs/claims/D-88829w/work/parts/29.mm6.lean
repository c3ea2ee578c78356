/-! ===== THE REFERENCE's methods: forms ===== -/
set_option maxRecDepth 100000
set_option maxHeartbeats 4000000 in
set_option maxRecDepth 100000 in
theorem mt_X3_abs (na : nA) (h : nH) (M : nMem) {p q : Nat} (hp : p < 100) (hq : q < 100) : nM yX3_abs cX3_abs 2 (some .int) (nRm 0 0 0) [.ref (na 61), .int (nI p - nI q)] na (mPut na h M) (nQi (mPure na h M (nI (if p < q then q - p else p - q)))) 0 0 := by
  refine nM.ofN RX3 rfl (by decide) (by intro v hv; simp only [List.mem_cons, List.not_mem_nil, or_false] at hv; rcases hv with rfl | rfl <;> rfl) (Nat.le_of_ble_eq_true rfl) (fun K hC hnm => ?_)
  show WN K na (mPut na h M) 0 0 (nE K (nQi (mPure na h M (nI (if p < q then q - p else p - q)))) 0 0) 0 [some (.ref (na 61)), some (.int (nI p - nI q))] []
  let Q9 : State → Prop := nE K (nQi (mPure na h M (nI (if p < q then q - p else p - q)))) 0 0
  show WN K na (mPut na h M) 0 0 Q9 0 [some (.ref (na 61)), some (.int (nI p - nI q))] []
  refine n_iload_n hC dX3_abs_0 rfl ?_
  refine n_if_ge hC (tgt := 9) dX3_abs_1 (by decide) (fun c_1 => ?_) (fun c_1 => ?_)
  · skip
    rw [Int32.le_iff_toInt_le, nI_subT (by omega) (by omega), Int32.toInt_zero] at c_1
    refine n_iload_n hC dX3_abs_9 rfl ?_
    exact n_iret hC dX3_abs_10 (by decide) (by decide) (⟨by rw [if_neg (by omega), pk_sub (by omega)], rfl, rfl⟩)
  · skip
    rw [Int32.le_iff_toInt_le, nI_subT (by omega) (by omega), Int32.toInt_zero] at c_1
    refine n_iload_n hC dX3_abs_4 rfl ?_
    refine n_ineg hC dX3_abs_5 ?_
    refine n_goto hC (tgt := 10) dX3_abs_6 (by decide) ?_
    exact n_iret hC dX3_abs_10 (by decide) (by decide) (⟨by rw [if_pos (by omega)]; apply Int32.toInt_inj.mp; rw [nI_toInt (by omega), Int32.toInt_neg, nI_subT (by omega) (by omega)]; have h9 := bmod_id (z := -((p : Int) - q)) (by omega) (by omega); show _ = Int.bmod _ 4294967296; rw [h9]; omega, rfl, rfl⟩)

set_option maxHeartbeats 4000000 in
set_option maxRecDepth 100000 in
theorem mt_X3_areFar (na : nA) (h : nH) (M : nMem) {p q n : Nat} (hn : M 1 0 = nI n) (hn3 : 3 ≤ n) (hn9 : n ≤ 9) (hp : p < 100) (hq : q < 100) : nM yX3_areFar cX3_areFar 4 (some .boolean) (nRm 1 0 0) [.ref (na 61), .int (nI p), .int (nI q)] na (mPut na h M) (nQi (mPure na h M (nbo (farb n p q)))) 0 0 := by
  refine nM.ofN RX3 rfl (by decide) (by intro v hv; simp only [List.mem_cons, List.not_mem_nil, or_false] at hv; rcases hv with rfl | rfl | rfl <;> rfl) (Nat.le_of_ble_eq_true rfl) (fun K hC hnm => ?_)
  show WN K na (mPut na h M) 0 0 (nE K (nQi (mPure na h M (nbo (farb n p q)))) 0 0) 0 [some (.ref (na 61)), some (.int (nI p)), some (.int (nI q)), none] []
  let Q9 : State → Prop := nE K (nQi (mPure na h M (nbo (farb n p q)))) 0 0
  show WN K na (mPut na h M) 0 0 Q9 0 [some (.ref (na 61)), some (.int (nI p)), some (.int (nI q)), none] []
  refine n_aload_n hC dX3_areFar_0 rfl ?_
  refine n_iload_n hC dX3_areFar_1 rfl ?_
  refine n_iload_n hC dX3_areFar_2 rfl ?_
  refine n_isub hC dX3_areFar_3 ?_
  refine n_callV1i hC (mt_X3_abs na h (M) (p := p) (q := q) (by omega) (by omega)) md_X3_abs q1469 dX3_areFar_4 rfl (mPut_o _ _ _) rfl rfl ⟨rfl, rfl, by decide, by decide⟩ rfl (Nat.le_of_ble_eq_true rfl) (by decide) (by decide) (fun r0 na0 h0 hp0 => ?_)
  obtain ⟨rfl, rfl, rfl⟩ := hp0
  obtain ⟨d, hd⟩ : ∃ z, z = if p < q then q - p else p - q := ⟨_, rfl⟩
  rw [← hd]
  have hd9 : d < 100 := by rw [hd]; split <;> omega
  have hF : farb n p q = decide (1 < d ∧ d < n - 1) := by unfold farb; rw [hd]; split <;> rfl
  refine n_istore_n hC dX3_areFar_7 (Nat.le_of_ble_eq_true rfl) ?_
  refine n_iload_n hC dX3_areFar_8 rfl ?_
  refine n_iconst hC (v := nI 1) dX3_areFar_9 (by decide) ?_
  refine n_icmp_leN hC (tgt := 27) dX3_areFar_10 (by decide) (by omega) (by omega) (fun c_10 => ?_) (fun c_10 => ?_)
  · skip
    refine n_iconst hC (v := nI 0) dX3_areFar_27 (by decide) ?_
    exact n_zret hC dX3_areFar_28 rfl (by decide) (by decide) (⟨by rw [hF, decide_eq_false (by omega)]; rfl, rfl, rfl⟩)
  · skip
    refine n_iload_n hC dX3_areFar_13 rfl ?_
    refine n_aload_n hC dX3_areFar_14 rfl ?_
    refine m_getI hC 1 (v := nI n) dX3_areFar_15 rfl rfl (by decide) hn ?_
    refine n_iconst hC (v := nI 1) dX3_areFar_18 (by decide) ?_
    refine n_isubN hC dX3_areFar_19 (by omega) rfl ?_
    refine n_icmp_geN hC (tgt := 27) dX3_areFar_20 (by decide) (by omega) (by omega) (fun c_20 => ?_) (fun c_20 => ?_)
    · skip
      refine n_iconst hC (v := nI 0) dX3_areFar_27 (by decide) ?_
      exact n_zret hC dX3_areFar_28 rfl (by decide) (by decide) (⟨by rw [hF, decide_eq_false (by omega)]; rfl, rfl, rfl⟩)
    · skip
      refine n_iconst hC (v := nI 1) dX3_areFar_23 (by decide) ?_
      refine n_goto hC (tgt := 28) dX3_areFar_24 (by decide) ?_
      exact n_zret hC dX3_areFar_28 rfl (by decide) (by decide) (⟨by rw [hF, decide_eq_true (by omega)]; rfl, rfl, rfl⟩)

set_option maxHeartbeats 4000000 in
set_option maxRecDepth 100000 in
theorem mt_X3_take (na : nA) (h : nH) (M : nMem) {n m x : Nat} {f : Nat → Nat} (hn : M 1 0 = nI n) (hn3 : 3 ≤ n) (hn9 : n ≤ 9) (hm : m < 300) (hx : x < 100) (hf : frR M f m) (hf9 : ∀ k, k < m → f k < 100) : nM yX3_take cX3_take 4 (none) (nRm 2 0 0) [.ref (na 61), .int (nI x)] na (mPut na h M) (nQv (mRelV na h (fun M2 => mFr [35, 37] M M2 ∧ frR M2 (ftake n f m x).1 (ftake n f m x).2))) 0 0 := by
  refine nM.ofN RX3 rfl (by decide) (by intro v hv; simp only [List.mem_cons, List.not_mem_nil, or_false] at hv; rcases hv with rfl | rfl <;> rfl) (Nat.le_of_ble_eq_true rfl) (fun K hC hnm => ?_)
  show WN K na (mPut na h M) 0 0 (nE K (nQv (mRelV na h (fun M2 => mFr [35, 37] M M2 ∧ frR M2 (ftake n f m x).1 (ftake n f m x).2))) 0 0) 0 [some (.ref (na 61)), some (.int (nI x)), none, none] []
  let Q9 : State → Prop := nE K (nQv (mRelV na h (fun M2 => mFr [35, 37] M M2 ∧ frR M2 (ftake n f m x).1 (ftake n f m x).2))) 0 0
  show WN K na (mPut na h M) 0 0 Q9 0 [some (.ref (na 61)), some (.int (nI x)), none, none] []
  refine n_aload_n hC dX3_take_0 rfl ?_
  refine m_getI hC 37 (v := nI m) dX3_take_1 rfl rfl (by decide) hf.1 ?_
  refine n_iconst hC (v := nI 1) dX3_take_4 (by decide) ?_
  refine n_isub hC dX3_take_5 ?_
  refine n_istore_n hC dX3_take_6 (Nat.le_of_ble_eq_true rfl) ?_
  have lp7 : ∀ d9 : Nat, ∀ (q : Nat), q = d9 → (q ≤ m) → (kdn n f x q = kdn n f x m) → WN K na (mPut na h M) 0 0 Q9 7 [some (.ref (na 61)), some (.int (nI x)), some (.int (pmi q)), none] [] := by
    intro d9
    induction d9 using Nat.strongRecOn with
    | _ d9 ih7 =>
      intro q hd7 hq hk
      refine n_iload_n hC dX3_take_7 rfl ?_
      refine n_if_lt hC (tgt := 37) dX3_take_8 (by decide) (fun c_8 => ?_) (fun c_8 => ?_)
      · skip
        have hq0 := pmi_z (by omega) c_8
        subst hq0
        have hk0 : kdn n f x m = 0 := hk.symm
        refine n_iload_n hC dX3_take_37 rfl ?_
        refine n_if_lt hC (tgt := 94) dX3_take_38 (by decide) (fun c_38 => ?_) (fun c_38 => (absurd (pmi_0 ▸ (by decide)) c_38))
        refine n_aload_n hC dX3_take_94 rfl ?_
        refine m_getA hC 35 dX3_take_95 rfl rfl ?_
        refine n_aload_n hC dX3_take_98 rfl ?_
        refine m_getI hC 37 (v := nI m) dX3_take_99 rfl rfl (by decide) hf.1 ?_
        refine n_iload_n hC dX3_take_102 rfl ?_
        refine m_astN hC 35 (M2 := mset M 35 (upd (M 35) m (nI x))) dX3_take_103 rfl rfl (by have h9 : mLen 35 = 300 := rfl; omega) rfl ?_
        refine n_aload_n hC dX3_take_104 rfl ?_
        refine n_dup hC dX3_take_105 rfl ?_
        refine m_getI hC 37 (v := nI m) dX3_take_106 rfl rfl (by decide) hf.1 ?_
        refine n_iconst hC (v := nI 1) dX3_take_109 (by decide) ?_
        refine n_iaddN hC dX3_take_110 rfl ?_
        refine m_putI hC 37 (M2 := mset (mset M 35 (upd (M 35) m (nI x))) 37 (fun _ => nI (m + 1))) dX3_take_111 rfl rfl (by decide) rfl rfl rfl rfl rfl ?_
        exact n_vret hC dX3_take_114 (by decide) (by decide) (by
    refine ⟨rfl, _, rfl, mFr.set (by decide) (mFr.set (by decide) mFr.rf), ?_⟩
    rw [ftake_ad (fun z => absurd z.1 (by omega))]
    refine ⟨rfl, fun k hk => ?_⟩
    dsimp only at hk ⊢
    show upd (M 35) m (nI x) k = nI (updN f m x k)
    unfold upd updN
    by_cases e : k = m
    · rw [if_pos e, if_pos e]
    · rw [if_neg e, if_neg e]; exact hf.2 k (by omega))
      · skip
        obtain ⟨q1, rfl⟩ := pmi_n c_8
        simp only [pmi_s]
        have hfq := hf9 q1 (by omega)
        refine n_aload_n hC dX3_take_11 rfl ?_
        refine n_aload_n hC dX3_take_12 rfl ?_
        refine m_getA hC 35 dX3_take_13 rfl rfl ?_
        refine n_iload_n hC dX3_take_16 rfl ?_
        refine m_aldN hC 35 (v := nI (f q1)) dX3_take_17 rfl rfl (by have h9 : mLen 35 = 300 := rfl; omega) (hf.2 q1 (by omega)) ?_
        refine n_bipush hC (v := nI 10) dX3_take_18 (by decide) ?_
        refine n_idivN hC dX3_take_20 (by omega) (by omega) (by omega) rfl ?_
        refine n_iload_n hC dX3_take_21 rfl ?_
        refine n_bipush hC (v := nI 10) dX3_take_22 (by decide) ?_
        refine n_idivN hC dX3_take_24 (by omega) (by omega) (by omega) rfl ?_
        refine n_callV2z hC (mt_X3_areFar na h (M) (p := (f q1) / 10) (q := x / 10) hn (by omega) (by omega) (by omega) (by omega)) md_X3_areFar q1465 dX3_take_25 rfl (mPut_o _ _ _) rfl rfl ⟨rfl, rfl, by decide, by decide⟩ rfl (Nat.le_of_ble_eq_true rfl) (by decide) (by decide) (fun r0 na0 h0 hp0 => ?_)
        obtain ⟨rfl, rfl, rfl⟩ := hp0
        refine n_if_eqB hC (tgt := 37) dX3_take_28 (by decide) (fun c_28 => ?_) (fun c_28 => ?_)
        · skip
          have hkq : kdn n f x m = q1 + 1 := by rw [← hk]; exact kdn_f c_28
          refine n_iload_n hC dX3_take_37 rfl ?_
          refine n_if_ltN hC (tgt := 94) dX3_take_38 (by decide) (by omega) ?_
          refine n_aload_n hC dX3_take_41 rfl ?_
          refine m_getA hC 35 dX3_take_42 rfl rfl ?_
          refine n_iload_n hC dX3_take_45 rfl ?_
          refine m_aldN hC 35 (v := nI (f q1)) dX3_take_46 rfl rfl (by have h9 : mLen 35 = 300 := rfl; omega) (hf.2 q1 (by omega)) ?_
          refine n_iload_n hC dX3_take_47 rfl ?_
          refine n_iconst hC (v := nI 1) dX3_take_48 (by decide) ?_
          refine n_ixor hC dX3_take_49 ?_
          rw [show (nI x) ^^^ (nI 1) = nI (flp x) from flp_x hx]
          refine n_icmp_neN hC (tgt := 94) dX3_take_50 (by decide) (by omega) (by have := flp_lt hx; omega) (fun c_50 => ?_) (fun c_50 => ?_)
          · skip
            refine n_aload_n hC dX3_take_94 rfl ?_
            refine m_getA hC 35 dX3_take_95 rfl rfl ?_
            refine n_aload_n hC dX3_take_98 rfl ?_
            refine m_getI hC 37 (v := nI m) dX3_take_99 rfl rfl (by decide) hf.1 ?_
            refine n_iload_n hC dX3_take_102 rfl ?_
            refine m_astN hC 35 (M2 := mset M 35 (upd (M 35) m (nI x))) dX3_take_103 rfl rfl (by have h9 : mLen 35 = 300 := rfl; omega) rfl ?_
            refine n_aload_n hC dX3_take_104 rfl ?_
            refine n_dup hC dX3_take_105 rfl ?_
            refine m_getI hC 37 (v := nI m) dX3_take_106 rfl rfl (by decide) hf.1 ?_
            refine n_iconst hC (v := nI 1) dX3_take_109 (by decide) ?_
            refine n_iaddN hC dX3_take_110 rfl ?_
            refine m_putI hC 37 (M2 := mset (mset M 35 (upd (M 35) m (nI x))) 37 (fun _ => nI (m + 1))) dX3_take_111 rfl rfl (by decide) rfl rfl rfl rfl rfl ?_
            exact n_vret hC dX3_take_114 (by decide) (by decide) (by
    refine ⟨rfl, _, rfl, mFr.set (by decide) (mFr.set (by decide) mFr.rf), ?_⟩
    rw [ftake_ad (fun z => c_50 (by rw [hkq] at z; exact z.2))]
    refine ⟨rfl, fun k hk => ?_⟩
    dsimp only at hk ⊢
    show upd (M 35) m (nI x) k = nI (updN f m x k)
    unfold upd updN
    by_cases e : k = m
    · rw [if_pos e, if_pos e]
    · rw [if_neg e, if_neg e]; exact hf.2 k (by omega))
          · skip
            refine n_aload_n hC dX3_take_53 rfl ?_
            refine n_dup hC dX3_take_54 rfl ?_
            refine m_getI hC 37 (v := nI m) dX3_take_55 rfl rfl (by decide) hf.1 ?_
            refine n_iconst hC (v := nI 1) dX3_take_58 (by decide) ?_
            refine n_isubN hC dX3_take_59 (by omega) rfl ?_
            refine m_putI hC 37 (M2 := mset M 37 (fun _ => nI (m - 1))) dX3_take_60 rfl rfl (by decide) rfl rfl rfl rfl rfl ?_
            refine n_iload_n hC dX3_take_63 rfl ?_
            refine n_istore_n hC dX3_take_64 (Nat.le_of_ble_eq_true rfl) ?_
            have lp65 : ∀ d9 : Nat, ∀ (j : Nat) (M2 : nMem), m - j = d9 → (q1 ≤ j ∧ j ≤ m - 1) → (mFr [35, 37] M M2) → (M2 37 0 = nI (m - 1)) → (∀ k, k < m → M2 35 k = nI (if k < q1 then f k else if k < j then f (k + 1) else f k)) → WN K na (mPut na h M2) 0 0 Q9 65 [some (.ref (na 61)), some (.int (nI x)), some (.int (nI q1)), some (.int (nI j))] [] := by
              intro d9
              induction d9 using Nat.strongRecOn with
              | _ d9 ih65 =>
                intro j M2 hd65 hj hF2 h37 h35
                refine n_iload_n hC dX3_take_65 rfl ?_
                refine n_aload_n hC dX3_take_66 rfl ?_
                refine m_getI hC 37 (v := nI (m - 1)) dX3_take_67 rfl rfl (by decide) h37 ?_
                refine n_icmp_geN hC (tgt := 93) dX3_take_70 (by decide) (by omega) (by omega) (fun c_70 => ?_) (fun c_70 => ?_)
                · skip
                  have hj9 : j = m - 1 := by omega
                  subst hj9
                  exact n_vret hC dX3_take_93 (by decide) (by decide) (by
    refine ⟨rfl, M2, rfl, hF2, ?_⟩
    rw [ftake_rm ⟨by omega, by rw [hkq]; exact c_50⟩, hkq]
    refine ⟨h37, fun k hk => ?_⟩
    dsimp only at hk ⊢
    rw [h35 k (by omega), show q1 + 1 - 1 = q1 from rfl]
    by_cases e : k < q1
    · rw [if_pos e, if_pos e]
    · rw [if_neg e, if_neg e, if_pos hk])
                · skip
                  refine n_aload_n hC dX3_take_73 rfl ?_
                  refine m_getA hC 35 dX3_take_74 rfl rfl ?_
                  refine n_iload_n hC dX3_take_77 rfl ?_
                  refine n_aload_n hC dX3_take_78 rfl ?_
                  refine m_getA hC 35 dX3_take_79 rfl rfl ?_
                  refine n_iload_n hC dX3_take_82 rfl ?_
                  refine n_iconst hC (v := nI 1) dX3_take_83 (by decide) ?_
                  refine n_iaddN hC dX3_take_84 rfl ?_
                  refine m_aldN hC 35 (v := M2 35 (j + 1)) dX3_take_85 rfl rfl (by have h9 : mLen 35 = 300 := rfl; omega) rfl ?_
                  refine m_astN hC 35 (M2 := mset M2 35 (upd (M2 35) j (M2 35 (j + 1)))) dX3_take_86 rfl rfl (by have h9 : mLen 35 = 300 := rfl; omega) rfl ?_
                  refine n_iincN hC dX3_take_87 (j := 1) (c := j + 1) rfl (by decide) rfl ?_
                  refine n_goto hC (tgt := 65) dX3_take_90 (by decide) ?_
                  exact WN.forget (L' := [some (.ref (na 61)), some (.int (nI x)), some (.int (nI q1)), some (.int (nI (j + 1)))]) (⟨Or.inr rfl, Or.inr rfl, Or.inr rfl, Or.inr rfl, trivial⟩) (ih65 _ (by omega) (j + 1) (mset M2 35 (upd (M2 35) j (M2 35 (j + 1)))) rfl (by omega) (mFr.set (by decide) hF2) h37 (fun k hk => by show upd (M2 35) j _ k = _; unfold upd; by_cases e : k = j; rw [if_pos e, h35 (j + 1) (by omega), if_neg (by omega), if_neg (by omega), if_neg (by omega), if_pos (by omega), e]; rw [if_neg e, h35 k hk]; congr 1; split; rfl; split; rw [if_pos (by omega)]; rw [if_neg (by omega)]))
            exact WN.forget (L' := [some (.ref (na 61)), some (.int (nI x)), some (.int (nI q1)), some (.int (nI q1))]) (⟨Or.inr rfl, Or.inr rfl, Or.inr rfl, Or.inr rfl, trivial⟩) (lp65 _ q1 (mset M 37 (fun _ => nI (m - 1))) rfl (by omega) (mFr.set (by decide) mFr.rf) rfl (fun k hk => by rw [show (if k < q1 then f k else if k < q1 then f (k + 1) else f k) = f k by split; rfl; rfl]; exact hf.2 k hk))
        · skip
          refine n_iinc hC dX3_take_31 (v := pmi q1) rfl rfl ?_
          refine n_goto hC (tgt := 7) dX3_take_34 (by decide) ?_
          exact WN.forget (L' := [some (.ref (na 61)), some (.int (nI x)), some (.int (pmi q1)), none]) (⟨Or.inr rfl, Or.inr rfl, Or.inr rfl, Or.inl rfl, trivial⟩) (ih7 _ (by omega) q1 rfl (by omega) (by rw [← hk, kdn_t (by assumption)]))
  rw [pmi_sub]
  exact WN.forget (L' := [some (.ref (na 61)), some (.int (nI x)), some (.int (pmi m)), none]) (⟨Or.inr rfl, Or.inr rfl, Or.inr rfl, Or.inl rfl, trivial⟩) (lp7 _ m rfl (by omega) rfl)

set_option maxHeartbeats 4000000 in
set_option maxRecDepth 100000 in
theorem mt_X3_bringLeast (na : nA) (h : nH) (M : nMem) {n m i : Nat} {f : Nat → Nat} (hn : M 1 0 = nI n) (hn3 : 3 ≤ n) (hn9 : n ≤ 9) (hm : m ≤ 300) (hi : i < m) (hf : frR M f m) (hf9 : ∀ k, k < m → f k < 100) : nM yX3_bringLeast cX3_bringLeast 6 (none) (nRm 2 0 0) [.ref (na 61), .int (nI i)] na (mPut na h M) (nQv (mRelV na h (fun M2 => mFr [35] M M2 ∧ frR M2 (fbring n f m i) m))) 0 0 := by
  refine nM.ofN RX3 rfl (by decide) (by intro v hv; simp only [List.mem_cons, List.not_mem_nil, or_false] at hv; rcases hv with rfl | rfl <;> rfl) (Nat.le_of_ble_eq_true rfl) (fun K hC hnm => ?_)
  show WN K na (mPut na h M) 0 0 (nE K (nQv (mRelV na h (fun M2 => mFr [35] M M2 ∧ frR M2 (fbring n f m i) m))) 0 0) 0 [some (.ref (na 61)), some (.int (nI i)), none, none, none, none] []
  let Q9 : State → Prop := nE K (nQv (mRelV na h (fun M2 => mFr [35] M M2 ∧ frR M2 (fbring n f m i) m))) 0 0
  show WN K na (mPut na h M) 0 0 Q9 0 [some (.ref (na 61)), some (.int (nI i)), none, none, none, none] []
  refine n_iload_n hC dX3_bringLeast_0 rfl ?_
  refine n_istore_n hC dX3_bringLeast_1 (Nat.le_of_ble_eq_true rfl) ?_
  refine n_iload_n hC dX3_bringLeast_2 rfl ?_
  refine n_iconst hC (v := nI 1) dX3_bringLeast_3 (by decide) ?_
  refine n_iaddN hC dX3_bringLeast_4 rfl ?_
  refine n_istore_n hC dX3_bringLeast_5 (Nat.le_of_ble_eq_true rfl) ?_
  have lp6 : ∀ d9 : Nat, ∀ (k : Nat) (b : Nat), m - k = d9 → (i + 1 ≤ k ∧ k ≤ m) → (bsel n f i (k - (i + 1)) = b) → (i ≤ b ∧ b < k) → WN K na (mPut na h M) 0 0 Q9 6 [some (.ref (na 61)), some (.int (nI i)), some (.int (nI b)), some (.int (nI k)), none, none] [] := by
    intro d9
    induction d9 using Nat.strongRecOn with
    | _ d9 ih6 =>
      intro k b hd6 hk hb hb9
      refine n_iload_n hC dX3_bringLeast_6 rfl ?_
      refine n_aload_n hC dX3_bringLeast_7 rfl ?_
      refine m_getI hC 37 (v := nI m) dX3_bringLeast_8 rfl rfl (by decide) hf.1 ?_
      refine n_icmp_geN hC (tgt := 102) dX3_bringLeast_11 (by decide) (by omega) (by omega) (fun c_11 => ?_) (fun c_11 => ?_)
      · skip
        have hk9 : m = k := by omega
        subst hk9
        refine n_aload_n hC dX3_bringLeast_102 rfl ?_
        refine m_getA hC 35 dX3_bringLeast_103 rfl rfl ?_
        refine n_iload_n hC dX3_bringLeast_106 rfl ?_
        refine m_aldN hC 35 (v := nI (f b)) dX3_bringLeast_107 rfl rfl (by have h9 : mLen 35 = 300 := rfl; omega) (hf.2 _ (by omega)) ?_
        refine n_istore_n hC dX3_bringLeast_108 (Nat.le_of_ble_eq_true rfl) ?_
        refine n_iload_n hC dX3_bringLeast_109 rfl ?_
        refine n_istore hC dX3_bringLeast_110 (Nat.le_of_ble_eq_true rfl) ?_
        have lp112 : ∀ d9 : Nat, ∀ (k : Nat) (M2 : nMem), k = d9 → (i ≤ k ∧ k ≤ b) → (mFr [35] M M2) → (∀ q, q < m → M2 35 q = nI (if k < q ∧ q ≤ b then f (q - 1) else f q)) → WN K na (mPut na h M2) 0 0 Q9 112 [some (.ref (na 61)), some (.int (nI i)), some (.int (nI b)), some (.int (nI (f b))), some (.int (nI k)), none] [] := by
          intro d9
          induction d9 using Nat.strongRecOn with
          | _ d9 ih112 =>
            intro k M2 hd112 hk3 hF2 h35
            refine n_iload hC dX3_bringLeast_112 rfl ?_
            refine n_iload_n hC dX3_bringLeast_114 rfl ?_
            refine n_icmp_leN hC (tgt := 140) dX3_bringLeast_115 (by decide) (by omega) (by omega) (fun c_115 => ?_) (fun c_115 => ?_)
            · skip
              refine n_aload_n hC dX3_bringLeast_140 rfl ?_
              refine m_getA hC 35 dX3_bringLeast_141 rfl rfl ?_
              refine n_iload_n hC dX3_bringLeast_144 rfl ?_
              refine n_iload_n hC dX3_bringLeast_145 rfl ?_
              refine m_astN hC 35 (M2 := mset M2 35 (upd (M2 35) i (nI (f b)))) dX3_bringLeast_146 rfl rfl (by have h9 : mLen 35 = 300 := rfl; omega) rfl ?_
              exact n_vret hC dX3_bringLeast_147 (by decide) (by decide) (by
    refine ⟨rfl, _, rfl, mFr.set (by decide) hF2, (congrFun (hF2 37 (by decide)) 0).trans hf.1, fun q hq => ?_⟩
    have hik : k = i := by omega
    show upd (M2 35) i _ q = nI (fbring n f m i q)
    unfold upd fbring
    rw [show m - 1 - i = m - (i + 1) by omega, hb]
    by_cases e : q = i
    · rw [if_pos e, if_pos e]
    · rw [if_neg e, if_neg e, h35 q hq, hik])
            · skip
              refine n_aload_n hC dX3_bringLeast_118 rfl ?_
              refine m_getA hC 35 dX3_bringLeast_119 rfl rfl ?_
              refine n_iload hC dX3_bringLeast_122 rfl ?_
              refine n_aload_n hC dX3_bringLeast_124 rfl ?_
              refine m_getA hC 35 dX3_bringLeast_125 rfl rfl ?_
              refine n_iload hC dX3_bringLeast_128 rfl ?_
              refine n_iconst hC (v := nI 1) dX3_bringLeast_130 (by decide) ?_
              refine n_isubN hC dX3_bringLeast_131 (by omega) rfl ?_
              refine m_aldN hC 35 (v := M2 35 (k - 1)) dX3_bringLeast_132 rfl rfl (by have h9 : mLen 35 = 300 := rfl; omega) rfl ?_
              refine m_astN hC 35 (M2 := mset M2 35 (upd (M2 35) k (M2 35 (k - 1)))) dX3_bringLeast_133 rfl rfl (by have h9 : mLen 35 = 300 := rfl; omega) rfl ?_
              refine n_idecN hC dX3_bringLeast_134 rfl (by omega) rfl ?_
              refine n_goto hC (tgt := 112) dX3_bringLeast_137 (by decide) ?_
              exact WN.forget (L' := [some (.ref (na 61)), some (.int (nI i)), some (.int (nI b)), some (.int (nI (f b))), some (.int (nI (k - 1))), none]) (⟨Or.inr rfl, Or.inr rfl, Or.inr rfl, Or.inr rfl, Or.inr rfl, Or.inl rfl, trivial⟩) (ih112 _ (by omega) (k - 1) (mset M2 35 (upd (M2 35) k (M2 35 (k - 1)))) rfl (by omega) (mFr.set (by decide) hF2) (fun q hq => by show upd (M2 35) k _ q = _; unfold upd; by_cases e : q = k; rw [if_pos e, h35 (k - 1) (by omega), if_neg (by omega), if_pos (by omega), e]; rw [if_neg e, h35 q hq]; congr 1; exact nif (by omega)))
        exact WN.forget (L' := [some (.ref (na 61)), some (.int (nI i)), some (.int (nI b)), some (.int (nI (f b))), some (.int (nI b)), none]) (⟨Or.inr rfl, Or.inr rfl, Or.inr rfl, Or.inr rfl, Or.inr rfl, Or.inl rfl, trivial⟩) (lp112 _ b M rfl (by omega) mFr.rf (fun q hq => by rw [if_neg (by omega)]; exact hf.2 q hq))
      · skip
        have hfk := hf9 k (by omega)
        have hfb := hf9 b (by omega)
        refine n_aload_n hC dX3_bringLeast_14 rfl ?_
        refine m_getA hC 35 dX3_bringLeast_15 rfl rfl ?_
        refine n_iload_n hC dX3_bringLeast_18 rfl ?_
        refine m_aldN hC 35 (v := nI (f k)) dX3_bringLeast_19 rfl rfl (by have h9 : mLen 35 = 300 := rfl; omega) (hf.2 _ (by omega)) ?_
        refine n_aload_n hC dX3_bringLeast_20 rfl ?_
        refine m_getA hC 35 dX3_bringLeast_21 rfl rfl ?_
        refine n_iload_n hC dX3_bringLeast_24 rfl ?_
        refine m_aldN hC 35 (v := nI (f b)) dX3_bringLeast_25 rfl rfl (by have h9 : mLen 35 = 300 := rfl; omega) (hf.2 _ (by omega)) ?_
        refine n_icmp_geN hC (tgt := 33) dX3_bringLeast_26 (by decide) (by have := hf9 k (by omega); omega) (by have := hf9 b (by omega); omega) (fun c_26 => ?_) (fun c_26 => ?_)
        · skip
          refine n_iconst hC (v := nbo false) dX3_bringLeast_33 (by decide) ?_
          refine n_istore hC dX3_bringLeast_34 (Nat.le_of_ble_eq_true rfl) ?_
          refine n_iload_n hC dX3_bringLeast_36 rfl ?_
          refine n_istore hC dX3_bringLeast_37 (Nat.le_of_ble_eq_true rfl) ?_
          have lp39 : ∀ d9 : Nat, ∀ (j : Nat) (g : Bool), k - j = d9 → (i ≤ j ∧ j ≤ k) → ((decide (f k < f b) && allb (j - i) (fun z => farb n (f (i + z) / 10) (f k / 10))) = g) → WN K na (mPut na h M) 0 0 Q9 39 [some (.ref (na 61)), some (.int (nI i)), some (.int (nI b)), some (.int (nI k)), some (.int (nbo g)), some (.int (nI j))] [] := by
            intro d9
            induction d9 using Nat.strongRecOn with
            | _ d9 ih39 =>
              intro j g hd39 hj hg
              have hfj : j < m → f j < 100 := fun h => hf9 j h
              refine n_iload hC dX3_bringLeast_39 rfl ?_
              refine n_iload_n hC dX3_bringLeast_41 rfl ?_
              refine n_icmp_geN hC (tgt := 89) dX3_bringLeast_42 (by decide) (by omega) (by omega) (fun c_42 => ?_) (fun c_42 => ?_)
              · skip
                refine n_iload hC dX3_bringLeast_89 rfl ?_
                refine n_if_eqB hC (tgt := 96) dX3_bringLeast_91 (by decide) (fun c_91 => ?_) (fun c_91 => ?_)
                · skip
                  have hgg := hg.trans c_91
                  rw [show j - i = k - i by omega] at hgg
                  refine n_iincN hC dX3_bringLeast_96 (j := 1) (c := k + 1) rfl (by decide) rfl ?_
                  refine n_goto hC (tgt := 6) dX3_bringLeast_99 (by decide) ?_
                  exact WN.forget (L' := [some (.ref (na 61)), some (.int (nI i)), some (.int (nI b)), some (.int (nI (k + 1))), none, none]) (⟨Or.inr rfl, Or.inr rfl, Or.inr rfl, Or.inr rfl, Or.inl rfl, Or.inl rfl, trivial⟩) (ih6 _ (by omega) (k + 1) b rfl (by omega) (by rw [show k + 1 - (i + 1) = (k - (i + 1)) + 1 by omega, bsel_s (g := false) (by rw [show i + (k - (i + 1)) + 1 = k by omega, hb, show k - (i + 1) + 1 = k - i by omega]; exact hgg)]; rw [if_neg (by decide)]; exact hb) (by omega))
                · skip
                  have hgg := hg.trans c_91
                  rw [show j - i = k - i by omega] at hgg
                  refine n_iload_n hC dX3_bringLeast_94 rfl ?_
                  refine n_istore_n hC dX3_bringLeast_95 (Nat.le_of_ble_eq_true rfl) ?_
                  refine n_iincN hC dX3_bringLeast_96 (j := 1) (c := k + 1) rfl (by decide) rfl ?_
                  refine n_goto hC (tgt := 6) dX3_bringLeast_99 (by decide) ?_
                  exact WN.forget (L' := [some (.ref (na 61)), some (.int (nI i)), some (.int (nI k)), some (.int (nI (k + 1))), none, none]) (⟨Or.inr rfl, Or.inr rfl, Or.inr rfl, Or.inr rfl, Or.inl rfl, Or.inl rfl, trivial⟩) (ih6 _ (by omega) (k + 1) k rfl (by omega) (by rw [show k + 1 - (i + 1) = (k - (i + 1)) + 1 by omega, bsel_s (g := true) (by rw [show i + (k - (i + 1)) + 1 = k by omega, hb, show k - (i + 1) + 1 = k - i by omega]; exact hgg)]; rw [if_pos rfl]; omega) (by omega))
              · skip
                refine n_iload hC dX3_bringLeast_45 rfl ?_
                refine n_if_eqB hC (tgt := 80) dX3_bringLeast_47 (by decide) (fun c_47 => ?_) (fun c_47 => ?_)
                · skip
                  refine n_iconst hC (v := nbo false) dX3_bringLeast_80 (by decide) ?_
                  refine n_istore hC dX3_bringLeast_81 (Nat.le_of_ble_eq_true rfl) ?_
                  refine n_iincN hC dX3_bringLeast_83 (j := 1) (c := j + 1) rfl (by decide) rfl ?_
                  refine n_goto hC (tgt := 39) dX3_bringLeast_86 (by decide) ?_
                  exact WN.forget (L' := [some (.ref (na 61)), some (.int (nI i)), some (.int (nI b)), some (.int (nI k)), some (.int (nbo false)), some (.int (nI (j + 1)))]) (⟨Or.inr rfl, Or.inr rfl, Or.inr rfl, Or.inr rfl, Or.inr rfl, Or.inr rfl, trivial⟩) (ih39 _ (by omega) (j + 1) false rfl (by omega) (by rw [show j + 1 - i = (j - i) + 1 by omega]; show (decide _ && (allb (j - i) _ && farb n (f (i + (j - i)) / 10) (f k / 10))) = false; rw [← Bool.and_assoc, hg, show i + (j - i) = j by omega]; simp [*]))
                · skip
                  refine n_aload_n hC dX3_bringLeast_50 rfl ?_
                  refine n_aload_n hC dX3_bringLeast_51 rfl ?_
                  refine m_getA hC 35 dX3_bringLeast_52 rfl rfl ?_
                  refine n_iload hC dX3_bringLeast_55 rfl ?_
                  refine m_aldN hC 35 (v := nI (f j)) dX3_bringLeast_57 rfl rfl (by have h9 : mLen 35 = 300 := rfl; omega) (hf.2 _ (by omega)) ?_
                  refine n_bipush hC (v := nI 10) dX3_bringLeast_58 (by decide) ?_
                  refine n_idivN hC dX3_bringLeast_60 (by omega) (by have := hf9 j (by omega); omega) (by omega) rfl ?_
                  refine n_aload_n hC dX3_bringLeast_61 rfl ?_
                  refine m_getA hC 35 dX3_bringLeast_62 rfl rfl ?_
                  refine n_iload_n hC dX3_bringLeast_65 rfl ?_
                  refine m_aldN hC 35 (v := nI (f k)) dX3_bringLeast_66 rfl rfl (by have h9 : mLen 35 = 300 := rfl; omega) (hf.2 _ (by omega)) ?_
                  refine n_bipush hC (v := nI 10) dX3_bringLeast_67 (by decide) ?_
                  refine n_idivN hC dX3_bringLeast_69 (by omega) (by have := hf9 k (by omega); omega) (by omega) rfl ?_
                  refine n_callV2z hC (mt_X3_areFar na h (M) (p := (f j) / 10) (q := (f k) / 10) hn (by omega) (by omega) (by omega) (by omega)) md_X3_areFar q1465 dX3_bringLeast_70 rfl (mPut_o _ _ _) rfl rfl ⟨rfl, rfl, by decide, by decide⟩ rfl (Nat.le_of_ble_eq_true rfl) (by decide) (by decide) (fun r0 na0 h0 hp0 => ?_)
                  obtain ⟨rfl, rfl, rfl⟩ := hp0
                  refine n_if_eqB hC (tgt := 80) dX3_bringLeast_73 (by decide) (fun c_73 => ?_) (fun c_73 => ?_)
                  · skip
                    refine n_iconst hC (v := nbo false) dX3_bringLeast_80 (by decide) ?_
                    refine n_istore hC dX3_bringLeast_81 (Nat.le_of_ble_eq_true rfl) ?_
                    refine n_iincN hC dX3_bringLeast_83 (j := 1) (c := j + 1) rfl (by decide) rfl ?_
                    refine n_goto hC (tgt := 39) dX3_bringLeast_86 (by decide) ?_
                    exact WN.forget (L' := [some (.ref (na 61)), some (.int (nI i)), some (.int (nI b)), some (.int (nI k)), some (.int (nbo false)), some (.int (nI (j + 1)))]) (⟨Or.inr rfl, Or.inr rfl, Or.inr rfl, Or.inr rfl, Or.inr rfl, Or.inr rfl, trivial⟩) (ih39 _ (by omega) (j + 1) false rfl (by omega) (by rw [show j + 1 - i = (j - i) + 1 by omega]; show (decide _ && (allb (j - i) _ && farb n (f (i + (j - i)) / 10) (f k / 10))) = false; rw [← Bool.and_assoc, hg, show i + (j - i) = j by omega]; simp [*]))
                  · skip
                    refine n_iconst hC (v := nbo true) dX3_bringLeast_76 (by decide) ?_
                    refine n_goto hC (tgt := 81) dX3_bringLeast_77 (by decide) ?_
                    refine n_istore hC dX3_bringLeast_81 (Nat.le_of_ble_eq_true rfl) ?_
                    refine n_iincN hC dX3_bringLeast_83 (j := 1) (c := j + 1) rfl (by decide) rfl ?_
                    refine n_goto hC (tgt := 39) dX3_bringLeast_86 (by decide) ?_
                    exact WN.forget (L' := [some (.ref (na 61)), some (.int (nI i)), some (.int (nI b)), some (.int (nI k)), some (.int (nbo true)), some (.int (nI (j + 1)))]) (⟨Or.inr rfl, Or.inr rfl, Or.inr rfl, Or.inr rfl, Or.inr rfl, Or.inr rfl, trivial⟩) (ih39 _ (by omega) (j + 1) true rfl (by omega) (by rw [show j + 1 - i = (j - i) + 1 by omega]; show (decide _ && (allb (j - i) _ && farb n (f (i + (j - i)) / 10) (f k / 10))) = true; rw [← Bool.and_assoc, hg, show i + (j - i) = j by omega]; simp [*]))
          exact WN.forget (L' := [some (.ref (na 61)), some (.int (nI i)), some (.int (nI b)), some (.int (nI k)), some (.int (nbo false)), some (.int (nI i))]) (⟨Or.inr rfl, Or.inr rfl, Or.inr rfl, Or.inr rfl, Or.inr rfl, Or.inr rfl, trivial⟩) (lp39 _ i false rfl (by omega) (by rw [Nat.sub_self]; show (decide _ && true) = false; rw [Bool.and_true]; exact decide_eq_false (by omega)))
        · skip
          refine n_iconst hC (v := nbo true) dX3_bringLeast_29 (by decide) ?_
          refine n_goto hC (tgt := 34) dX3_bringLeast_30 (by decide) ?_
          refine n_istore hC dX3_bringLeast_34 (Nat.le_of_ble_eq_true rfl) ?_
          refine n_iload_n hC dX3_bringLeast_36 rfl ?_
          refine n_istore hC dX3_bringLeast_37 (Nat.le_of_ble_eq_true rfl) ?_
          have lp39 : ∀ d9 : Nat, ∀ (j : Nat) (g : Bool), k - j = d9 → (i ≤ j ∧ j ≤ k) → ((decide (f k < f b) && allb (j - i) (fun z => farb n (f (i + z) / 10) (f k / 10))) = g) → WN K na (mPut na h M) 0 0 Q9 39 [some (.ref (na 61)), some (.int (nI i)), some (.int (nI b)), some (.int (nI k)), some (.int (nbo g)), some (.int (nI j))] [] := by
            intro d9
            induction d9 using Nat.strongRecOn with
            | _ d9 ih39 =>
              intro j g hd39 hj hg
              have hfj : j < m → f j < 100 := fun h => hf9 j h
              refine n_iload hC dX3_bringLeast_39 rfl ?_
              refine n_iload_n hC dX3_bringLeast_41 rfl ?_
              refine n_icmp_geN hC (tgt := 89) dX3_bringLeast_42 (by decide) (by omega) (by omega) (fun c_42 => ?_) (fun c_42 => ?_)
              · skip
                refine n_iload hC dX3_bringLeast_89 rfl ?_
                refine n_if_eqB hC (tgt := 96) dX3_bringLeast_91 (by decide) (fun c_91 => ?_) (fun c_91 => ?_)
                · skip
                  have hgg := hg.trans c_91
                  rw [show j - i = k - i by omega] at hgg
                  refine n_iincN hC dX3_bringLeast_96 (j := 1) (c := k + 1) rfl (by decide) rfl ?_
                  refine n_goto hC (tgt := 6) dX3_bringLeast_99 (by decide) ?_
                  exact WN.forget (L' := [some (.ref (na 61)), some (.int (nI i)), some (.int (nI b)), some (.int (nI (k + 1))), none, none]) (⟨Or.inr rfl, Or.inr rfl, Or.inr rfl, Or.inr rfl, Or.inl rfl, Or.inl rfl, trivial⟩) (ih6 _ (by omega) (k + 1) b rfl (by omega) (by rw [show k + 1 - (i + 1) = (k - (i + 1)) + 1 by omega, bsel_s (g := false) (by rw [show i + (k - (i + 1)) + 1 = k by omega, hb, show k - (i + 1) + 1 = k - i by omega]; exact hgg)]; rw [if_neg (by decide)]; exact hb) (by omega))
                · skip
                  have hgg := hg.trans c_91
                  rw [show j - i = k - i by omega] at hgg
                  refine n_iload_n hC dX3_bringLeast_94 rfl ?_
                  refine n_istore_n hC dX3_bringLeast_95 (Nat.le_of_ble_eq_true rfl) ?_
                  refine n_iincN hC dX3_bringLeast_96 (j := 1) (c := k + 1) rfl (by decide) rfl ?_
                  refine n_goto hC (tgt := 6) dX3_bringLeast_99 (by decide) ?_
                  exact WN.forget (L' := [some (.ref (na 61)), some (.int (nI i)), some (.int (nI k)), some (.int (nI (k + 1))), none, none]) (⟨Or.inr rfl, Or.inr rfl, Or.inr rfl, Or.inr rfl, Or.inl rfl, Or.inl rfl, trivial⟩) (ih6 _ (by omega) (k + 1) k rfl (by omega) (by rw [show k + 1 - (i + 1) = (k - (i + 1)) + 1 by omega, bsel_s (g := true) (by rw [show i + (k - (i + 1)) + 1 = k by omega, hb, show k - (i + 1) + 1 = k - i by omega]; exact hgg)]; rw [if_pos rfl]; omega) (by omega))
              · skip
                refine n_iload hC dX3_bringLeast_45 rfl ?_
                refine n_if_eqB hC (tgt := 80) dX3_bringLeast_47 (by decide) (fun c_47 => ?_) (fun c_47 => ?_)
                · skip
                  refine n_iconst hC (v := nbo false) dX3_bringLeast_80 (by decide) ?_
                  refine n_istore hC dX3_bringLeast_81 (Nat.le_of_ble_eq_true rfl) ?_
                  refine n_iincN hC dX3_bringLeast_83 (j := 1) (c := j + 1) rfl (by decide) rfl ?_
                  refine n_goto hC (tgt := 39) dX3_bringLeast_86 (by decide) ?_
                  exact WN.forget (L' := [some (.ref (na 61)), some (.int (nI i)), some (.int (nI b)), some (.int (nI k)), some (.int (nbo false)), some (.int (nI (j + 1)))]) (⟨Or.inr rfl, Or.inr rfl, Or.inr rfl, Or.inr rfl, Or.inr rfl, Or.inr rfl, trivial⟩) (ih39 _ (by omega) (j + 1) false rfl (by omega) (by rw [show j + 1 - i = (j - i) + 1 by omega]; show (decide _ && (allb (j - i) _ && farb n (f (i + (j - i)) / 10) (f k / 10))) = false; rw [← Bool.and_assoc, hg, show i + (j - i) = j by omega]; simp [*]))
                · skip
                  refine n_aload_n hC dX3_bringLeast_50 rfl ?_
                  refine n_aload_n hC dX3_bringLeast_51 rfl ?_
                  refine m_getA hC 35 dX3_bringLeast_52 rfl rfl ?_
                  refine n_iload hC dX3_bringLeast_55 rfl ?_
                  refine m_aldN hC 35 (v := nI (f j)) dX3_bringLeast_57 rfl rfl (by have h9 : mLen 35 = 300 := rfl; omega) (hf.2 _ (by omega)) ?_
                  refine n_bipush hC (v := nI 10) dX3_bringLeast_58 (by decide) ?_
                  refine n_idivN hC dX3_bringLeast_60 (by omega) (by have := hf9 j (by omega); omega) (by omega) rfl ?_
                  refine n_aload_n hC dX3_bringLeast_61 rfl ?_
                  refine m_getA hC 35 dX3_bringLeast_62 rfl rfl ?_
                  refine n_iload_n hC dX3_bringLeast_65 rfl ?_
                  refine m_aldN hC 35 (v := nI (f k)) dX3_bringLeast_66 rfl rfl (by have h9 : mLen 35 = 300 := rfl; omega) (hf.2 _ (by omega)) ?_
                  refine n_bipush hC (v := nI 10) dX3_bringLeast_67 (by decide) ?_
                  refine n_idivN hC dX3_bringLeast_69 (by omega) (by have := hf9 k (by omega); omega) (by omega) rfl ?_
                  refine n_callV2z hC (mt_X3_areFar na h (M) (p := (f j) / 10) (q := (f k) / 10) hn (by omega) (by omega) (by omega) (by omega)) md_X3_areFar q1465 dX3_bringLeast_70 rfl (mPut_o _ _ _) rfl rfl ⟨rfl, rfl, by decide, by decide⟩ rfl (Nat.le_of_ble_eq_true rfl) (by decide) (by decide) (fun r1 na1 h1 hp1 => ?_)
                  obtain ⟨rfl, rfl, rfl⟩ := hp1
                  refine n_if_eqB hC (tgt := 80) dX3_bringLeast_73 (by decide) (fun c_73 => ?_) (fun c_73 => ?_)
                  · skip
                    refine n_iconst hC (v := nbo false) dX3_bringLeast_80 (by decide) ?_
                    refine n_istore hC dX3_bringLeast_81 (Nat.le_of_ble_eq_true rfl) ?_
                    refine n_iincN hC dX3_bringLeast_83 (j := 1) (c := j + 1) rfl (by decide) rfl ?_
                    refine n_goto hC (tgt := 39) dX3_bringLeast_86 (by decide) ?_
                    exact WN.forget (L' := [some (.ref (na 61)), some (.int (nI i)), some (.int (nI b)), some (.int (nI k)), some (.int (nbo false)), some (.int (nI (j + 1)))]) (⟨Or.inr rfl, Or.inr rfl, Or.inr rfl, Or.inr rfl, Or.inr rfl, Or.inr rfl, trivial⟩) (ih39 _ (by omega) (j + 1) false rfl (by omega) (by rw [show j + 1 - i = (j - i) + 1 by omega]; show (decide _ && (allb (j - i) _ && farb n (f (i + (j - i)) / 10) (f k / 10))) = false; rw [← Bool.and_assoc, hg, show i + (j - i) = j by omega]; simp [*]))
                  · skip
                    refine n_iconst hC (v := nbo true) dX3_bringLeast_76 (by decide) ?_
                    refine n_goto hC (tgt := 81) dX3_bringLeast_77 (by decide) ?_
                    refine n_istore hC dX3_bringLeast_81 (Nat.le_of_ble_eq_true rfl) ?_
                    refine n_iincN hC dX3_bringLeast_83 (j := 1) (c := j + 1) rfl (by decide) rfl ?_
                    refine n_goto hC (tgt := 39) dX3_bringLeast_86 (by decide) ?_
                    exact WN.forget (L' := [some (.ref (na 61)), some (.int (nI i)), some (.int (nI b)), some (.int (nI k)), some (.int (nbo true)), some (.int (nI (j + 1)))]) (⟨Or.inr rfl, Or.inr rfl, Or.inr rfl, Or.inr rfl, Or.inr rfl, Or.inr rfl, trivial⟩) (ih39 _ (by omega) (j + 1) true rfl (by omega) (by rw [show j + 1 - i = (j - i) + 1 by omega]; show (decide _ && (allb (j - i) _ && farb n (f (i + (j - i)) / 10) (f k / 10))) = true; rw [← Bool.and_assoc, hg, show i + (j - i) = j by omega]; simp [*]))
          exact WN.forget (L' := [some (.ref (na 61)), some (.int (nI i)), some (.int (nI b)), some (.int (nI k)), some (.int (nbo true)), some (.int (nI i))]) (⟨Or.inr rfl, Or.inr rfl, Or.inr rfl, Or.inr rfl, Or.inr rfl, Or.inr rfl, trivial⟩) (lp39 _ i true rfl (by omega) (by rw [Nat.sub_self]; show (decide _ && true) = true; rw [Bool.and_true]; exact decide_eq_true c_26))
  exact WN.forget (L' := [some (.ref (na 61)), some (.int (nI i)), some (.int (nI i)), some (.int (nI (i + 1))), none, none]) (⟨Or.inr rfl, Or.inr rfl, Or.inr rfl, Or.inr rfl, Or.inl rfl, Or.inl rfl, trivial⟩) (lp6 _ (i + 1) i rfl (by omega) (by rw [Nat.sub_self]; rfl) (by omega))

set_option maxHeartbeats 4000000 in
set_option maxRecDepth 100000 in
theorem mt_X3_stepsOf (na : nA) (h : nH) (M : nMem) {f : Int32} {c : Nat} (hc : mCn M f c) : nM yX3_stepsOf cX3_stepsOf 2 (some .int) (nRm 0 0 0) [.ref (na 61), .int f] na (mPut na h M) (nQi (mPure na h M (nI c))) 0 0 := by
  refine nM.ofN RX3 rfl (by decide) (by intro v hv; simp only [List.mem_cons, List.not_mem_nil, or_false] at hv; rcases hv with rfl | rfl <;> rfl) (Nat.le_of_ble_eq_true rfl) (fun K hC hnm => ?_)
  show WN K na (mPut na h M) 0 0 (nE K (nQi (mPure na h M (nI c))) 0 0) 0 [some (.ref (na 61)), some (.int f)] []
  let Q9 : State → Prop := nE K (nQi (mPure na h M (nI c))) 0 0
  show WN K na (mPut na h M) 0 0 Q9 0 [some (.ref (na 61)), some (.int f)] []
  rcases hc with ⟨e, hcc⟩ | ⟨z, hz, e, hcc⟩
  · skip
    subst e
    refine n_iload_n hC dX3_stepsOf_0 rfl ?_
    refine n_if_ge hC (tgt := 11) dX3_stepsOf_1 (by decide) (fun c_1 => absurd c_1 (by decide)) (fun c_1 => ?_)
    refine n_aload_n hC dX3_stepsOf_4 rfl ?_
    refine m_getI hC 14 (v := nI c) dX3_stepsOf_5 rfl rfl (by decide) hcc ?_
    refine n_goto hC (tgt := 17) dX3_stepsOf_8 (by decide) ?_
    exact n_iret hC dX3_stepsOf_17 (by decide) (by decide) (⟨rfl, rfl, rfl⟩)
  · skip
    subst e
    refine n_iload_n hC dX3_stepsOf_0 rfl ?_
    refine n_if_geN hC (tgt := 11) dX3_stepsOf_1 (by decide) (by omega) ?_
    refine n_aload_n hC dX3_stepsOf_11 rfl ?_
    refine m_getA hC 28 dX3_stepsOf_12 rfl rfl ?_
    refine n_iload_n hC dX3_stepsOf_15 rfl ?_
    refine m_aldN hC 28 (v := nI c) dX3_stepsOf_16 rfl rfl (by have h9 : mLen 28 = 11 := rfl; omega) hcc ?_
    exact n_iret hC dX3_stepsOf_17 (by decide) (by decide) (⟨rfl, rfl, rfl⟩)

set_option maxHeartbeats 4000000 in
set_option maxRecDepth 100000 in
theorem mt_X3_stepOf (na : nA) (h : nH) (M : nMem) {f : Int32} {k t : Nat} (hk : k < 300) (hc : mSk M f k t) : nM yX3_stepOf cX3_stepOf 3 (some .int) (nRm 0 0 0) [.ref (na 61), .int f, .int (nI k)] na (mPut na h M) (nQi (mPure na h M (nI t))) 0 0 := by
  refine nM.ofN RX3 rfl (by decide) (by intro v hv; simp only [List.mem_cons, List.not_mem_nil, or_false] at hv; rcases hv with rfl | rfl | rfl <;> rfl) (Nat.le_of_ble_eq_true rfl) (fun K hC hnm => ?_)
  show WN K na (mPut na h M) 0 0 (nE K (nQi (mPure na h M (nI t))) 0 0) 0 [some (.ref (na 61)), some (.int f), some (.int (nI k))] []
  let Q9 : State → Prop := nE K (nQi (mPure na h M (nI t))) 0 0
  show WN K na (mPut na h M) 0 0 Q9 0 [some (.ref (na 61)), some (.int f), some (.int (nI k))] []
  rcases hc with ⟨e, hcc⟩ | ⟨z, hz, e, hcc⟩
  · skip
    subst e
    refine n_iload_n hC dX3_stepOf_0 rfl ?_
    refine n_if_ge hC (tgt := 13) dX3_stepOf_1 (by decide) (fun c_1 => absurd c_1 (by decide)) (fun c_1 => ?_)
    refine n_aload_n hC dX3_stepOf_4 rfl ?_
    refine m_getA hC 16 dX3_stepOf_5 rfl rfl ?_
    refine n_iload_n hC dX3_stepOf_8 rfl ?_
    refine m_aldN hC 16 (v := nI t) dX3_stepOf_9 rfl rfl (by have h9 : mLen 16 = 300 := rfl; omega) hcc ?_
    refine n_goto hC (tgt := 25) dX3_stepOf_10 (by decide) ?_
    exact n_iret hC dX3_stepOf_25 (by decide) (by decide) (⟨rfl, rfl, rfl⟩)
  · skip
    subst e
    refine n_iload_n hC dX3_stepOf_0 rfl ?_
    refine n_if_geN hC (tgt := 13) dX3_stepOf_1 (by decide) (by omega) ?_
    refine n_aload_n hC dX3_stepOf_13 rfl ?_
    refine m_getA hC 29 dX3_stepOf_14 rfl rfl ?_
    refine n_sipush hC (v := nI 300) dX3_stepOf_17 (by decide) ?_
    refine n_iload_n hC dX3_stepOf_20 rfl ?_
    refine n_imulN hC dX3_stepOf_21 rfl ?_
    refine n_iload_n hC dX3_stepOf_22 rfl ?_
    refine n_iaddN hC dX3_stepOf_23 rfl ?_
    refine m_aldN hC 29 (v := nI t) dX3_stepOf_24 rfl rfl (by have h9 : mLen 29 = 3300 := rfl; omega) hcc ?_
    exact n_iret hC dX3_stepOf_25 (by decide) (by decide) (⟨rfl, rfl, rfl⟩)

set_option maxHeartbeats 4000000 in
set_option maxRecDepth 100000 in
theorem mt_X3_findForm (na : nA) (h : nH) (M : nMem) {f : Int32} {n c : Nat} {st : Nat → Nat} (hn : M 1 0 = nI n) (hn3 : 3 ≤ n) (hn9 : n ≤ 9) (hc : mCn M f c) (hc9 : c ≤ 300) (hs : ∀ k, k < c → mSk M f k (st k) ∧ stp (st k)) : nM yX3_findForm cX3_findForm 5 (some .boolean) (nRm 3 0 0) [.ref (na 61), .int f] na (mPut na h M) (nQi (mRel na h (fun r M2 => mFF M (fform n st c) r M2))) 0 0 := by
  refine nM.ofN RX3 rfl (by decide) (by intro v hv; simp only [List.mem_cons, List.not_mem_nil, or_false] at hv; rcases hv with rfl | rfl <;> rfl) (Nat.le_of_ble_eq_true rfl) (fun K hC hnm => ?_)
  show WN K na (mPut na h M) 0 0 (nE K (nQi (mRel na h (fun r M2 => mFF M (fform n st c) r M2))) 0 0) 0 [some (.ref (na 61)), some (.int f), none, none, none] []
  let Q9 : State → Prop := nE K (nQi (mRel na h (fun r M2 => mFF M (fform n st c) r M2))) 0 0
  show WN K na (mPut na h M) 0 0 Q9 0 [some (.ref (na 61)), some (.int f), none, none, none] []
  refine n_aload_n hC dX3_findForm_0 rfl ?_
  refine n_iconst hC (v := nI 0) dX3_findForm_1 (by decide) ?_
  refine m_putI hC 38 (M2 := mset M 38 (fun _ => nI 0)) dX3_findForm_2 rfl rfl (by decide) rfl rfl rfl rfl rfl ?_
  refine n_aload_n hC dX3_findForm_5 rfl ?_
  refine n_iconst hC (v := nI 0) dX3_findForm_6 (by decide) ?_
  refine m_putI hC 37 (M2 := mset (mset M 38 (fun _ => nI 0)) 37 (fun _ => nI 0)) dX3_findForm_7 rfl rfl (by decide) rfl rfl rfl rfl rfl ?_
  refine n_iconst hC (v := nI 0) dX3_findForm_10 (by decide) ?_
  refine n_istore_n hC dX3_findForm_11 (Nat.le_of_ble_eq_true rfl) ?_
  have lp12 : ∀ d9 : Nat, ∀ (k : Nat) (M2 : nMem) (t : Int) (g : Nat → Nat) (m : Nat), c - k = d9 → (k ≤ c) → (mFr [35, 37, 38] M M2) → (ffold n st k = some (t, g, m)) → (frR M2 g m) → (M2 38 0 = iI t) → WN K na (mPut na h M2) 0 0 Q9 12 [some (.ref (na 61)), some (.int f), some (.int (nI k)), none, none] [] := by
    intro d9
    induction d9 using Nat.strongRecOn with
    | _ d9 ih12 =>
      intro k M2 t g m hd12 hk hF he hf h38
      obtain ⟨k1, k2, k3, k4⟩ := ffold_ok (by omega) hn9 he
      refine n_iload_n hC dX3_findForm_12 rfl ?_
      refine n_aload_n hC dX3_findForm_13 rfl ?_
      refine n_iload_n hC dX3_findForm_14 rfl ?_
      refine n_callV1i hC (mt_X3_stepsOf na h (M2) (c := c) (hc.fr hF (by decide))) md_X3_stepsOf q1453 dX3_findForm_15 rfl (mPut_o _ _ _) rfl rfl ⟨rfl, rfl, by decide, by decide⟩ rfl (Nat.le_of_ble_eq_true rfl) (by decide) (by decide) (fun r0 na0 h0 hp0 => ?_)
      obtain ⟨rfl, rfl, rfl⟩ := hp0
      refine n_icmp_geN hC (tgt := 116) dX3_findForm_18 (by decide) (by omega) (by omega) (fun c_18 => ?_) (fun c_18 => ?_)
      · skip
        have hk9 : c = k := by omega
        subst hk9
        refine n_iconst hC (v := nI 0) dX3_findForm_116 (by decide) ?_
        refine n_istore_n hC dX3_findForm_117 (Nat.le_of_ble_eq_true rfl) ?_
        have lp118 : ∀ d9 : Nat, ∀ (i : Nat) (M3 : nMem), m - i = d9 → (i ≤ m) → (mFr [35, 37, 38] M M3) → (frR M3 (fords n m i g) m) → (M3 38 0 = iI t) → WN K na (mPut na h M3) 0 0 Q9 118 [some (.ref (na 61)), some (.int f), some (.int (nI i)), none, none] [] := by
          intro d9
          induction d9 using Nat.strongRecOn with
          | _ d9 ih118 =>
            intro i M3 hd118 hi hF3 hf3 g38
            refine n_iload_n hC dX3_findForm_118 rfl ?_
            refine n_aload_n hC dX3_findForm_119 rfl ?_
            refine m_getI hC 37 (v := nI m) dX3_findForm_120 rfl rfl (by decide) hf3.1 ?_
            refine n_icmp_geN hC (tgt := 137) dX3_findForm_123 (by decide) (by omega) (by omega) (fun c_123 => ?_) (fun c_123 => ?_)
            · skip
              have hi9 : i = m := by omega
              refine n_iconst hC (v := nI 1) dX3_findForm_137 (by decide) ?_
              exact n_zret hC dX3_findForm_138 rfl (by decide) (by decide) (⟨rfl, M3, rfl, hF3, by rw [fform_s he]; exact ⟨rfl, by rw [hi9] at hf3; exact hf3, g38⟩⟩)
            · skip
              refine n_aload_n hC dX3_findForm_126 rfl ?_
              refine n_iload_n hC dX3_findForm_127 rfl ?_
              refine n_callV1v hC (mt_X3_bringLeast na h M3 (n := n) (m := m) (i := i) (f := fords n m i g) ((congrFun (hF3 1 (by decide)) 0).trans hn) hn3 hn9 (by omega) (by omega) hf3 (fords_lt (by omega) k4)) md_X3_bringLeast q1473 dX3_findForm_128 rfl (mPut_o _ _ _) rfl rfl ⟨rfl, rfl, by decide, by decide⟩ rfl (Nat.le_of_ble_eq_true rfl) (by decide) (by decide) (fun na1 h1 hp1 => ?_)
              obtain ⟨rfl, M4, rfl, hF4, hf4⟩ := hp1
              skip
              refine n_iincN hC dX3_findForm_131 (j := 1) (c := i + 1) rfl (by decide) rfl ?_
              refine n_goto hC (tgt := 118) dX3_findForm_134 (by decide) ?_
              exact WN.forget (L' := [some (.ref (na 61)), some (.int f), some (.int (nI (i + 1))), none, none]) (⟨Or.inr rfl, Or.inr rfl, Or.inr rfl, Or.inl rfl, Or.inl rfl, trivial⟩) (ih118 _ (by omega) (i + 1) M4 rfl (by omega) (mFr.cmp (by decide) (by decide) hF3 hF4) hf4 ((congrFun (hF4 38 (by decide)) 0).trans g38))
        exact WN.forget (L' := [some (.ref (na 61)), some (.int f), some (.int (nI 0)), none, none]) (⟨Or.inr rfl, Or.inr rfl, Or.inr rfl, Or.inl rfl, Or.inl rfl, trivial⟩) (lp118 _ 0 M2 rfl (by omega) hF hf h38)
      · skip
        have hsk := hs k (by omega)
        have hsl := stp_lt hsk.2
        refine n_aload_n hC dX3_findForm_21 rfl ?_
        refine n_iload_n hC dX3_findForm_22 rfl ?_
        refine n_iload_n hC dX3_findForm_23 rfl ?_
        refine n_callV2i hC (mt_X3_stepOf na h (M2) (k := k) (t := st k) (by omega) (hsk.1.fr hF (by decide))) md_X3_stepOf q1457 dX3_findForm_24 rfl (mPut_o _ _ _) rfl rfl ⟨rfl, rfl, by decide, by decide⟩ rfl (Nat.le_of_ble_eq_true rfl) (by decide) (by decide) (fun r2 na2 h2 hp2 => ?_)
        obtain ⟨rfl, rfl, rfl⟩ := hp2
        refine n_istore_n hC dX3_findForm_27 (Nat.le_of_ble_eq_true rfl) ?_
        refine n_iload_n hC dX3_findForm_28 rfl ?_
        refine n_bipush hC (v := nI 100) dX3_findForm_29 (by decide) ?_
        refine n_icmp_ltN hC (tgt := 57) dX3_findForm_31 (by decide) (by omega) (by omega) (fun c_31 => ?_) (fun c_31 => ?_)
        · skip
          refine n_iload_n hC dX3_findForm_57 rfl ?_
          refine n_bipush hC (v := nI 10) dX3_findForm_58 (by decide) ?_
          refine n_idivN hC dX3_findForm_60 (by omega) (by omega) (by omega) rfl ?_
          refine n_aload_n hC dX3_findForm_61 rfl ?_
          refine m_getI hC 1 (v := nI n) dX3_findForm_62 rfl rfl (by decide) ((congrFun (hF 1 (by decide)) 0).trans hn) ?_
          refine n_icmp_ltN hC (tgt := 70) dX3_findForm_65 (by decide) (by omega) (by omega) (fun c_65 => ?_) (fun c_65 => ?_)
          · skip
            obtain ⟨r1, r2, r3⟩ := rem2 (a := st k / 10) (n := n) (t := t) (by omega) (by omega) (by omega) (by omega) hn9
            have r4 := emod_lt9 (a := ((st k / 10 : Nat) : Int) - t) (n := n) (by omega)
            have r5 : st k % 10 < 10 := Nat.mod_lt _ (by decide)
            refine n_iload_n hC dX3_findForm_70 rfl ?_
            refine n_bipush hC (v := nI 10) dX3_findForm_71 (by decide) ?_
            refine n_idivN hC dX3_findForm_73 (by omega) (by omega) (by omega) rfl ?_
            refine n_aload_n hC dX3_findForm_74 rfl ?_
            refine m_getI hC 38 (v := iI t) dX3_findForm_75 rfl rfl (by decide) h38 ?_
            refine n_isub hC dX3_findForm_78 ?_
            refine n_aload_n hC dX3_findForm_79 rfl ?_
            refine m_getI hC 1 (v := nI n) dX3_findForm_80 rfl rfl (by decide) ((congrFun (hF 1 (by decide)) 0).trans hn) ?_
            refine n_irem hC dX3_findForm_83 (nI_ne0 (by omega) (by omega)) ?_
            refine n_aload_n hC dX3_findForm_84 rfl ?_
            refine m_getI hC 1 (v := nI n) dX3_findForm_85 rfl rfl (by decide) ((congrFun (hF 1 (by decide)) 0).trans hn) ?_
            refine n_iadd hC dX3_findForm_88 ?_
            rw [show (((nI ((st k) / 10)) - (iI t)) - ((nI ((st k) / 10)) - (iI t)) / (nI n) * (nI n)) + (nI n) = nI (((((st k / 10 : Nat) : Int) - t).tmod n + n).toNat) from r1]
            refine n_aload_n hC dX3_findForm_89 rfl ?_
            refine m_getI hC 1 (v := nI n) dX3_findForm_90 rfl rfl (by decide) ((congrFun (hF 1 (by decide)) 0).trans hn) ?_
            refine n_iremN hC dX3_findForm_93 (by omega) (by omega) (by omega) rfl ?_
            rw [show nI ((((((st k / 10 : Nat) : Int) - t).tmod n + n).toNat) % n) = nI (((((st k / 10 : Nat) : Int) - t).emod n).toNat) from by rw [r2]]
            refine n_istore hC dX3_findForm_94 (Nat.le_of_ble_eq_true rfl) ?_
            refine n_aload_n hC dX3_findForm_96 rfl ?_
            refine n_bipush hC (v := nI 10) dX3_findForm_97 (by decide) ?_
            refine n_iload hC dX3_findForm_99 rfl ?_
            refine n_imulN hC dX3_findForm_101 rfl ?_
            refine n_iload_n hC dX3_findForm_102 rfl ?_
            refine n_bipush hC (v := nI 10) dX3_findForm_103 (by decide) ?_
            refine n_iremN hC dX3_findForm_105 (by omega) (by omega) (by omega) rfl ?_
            refine n_iaddN hC dX3_findForm_106 rfl ?_
            refine n_callV1v hC (mt_X3_take na h M2 (n := n) (m := m) (x := 10 * ((((st k / 10 : Nat) : Int) - t).emod n).toNat + st k % 10) (f := g) ((congrFun (hF 1 (by decide)) 0).trans hn) hn3 hn9 (by omega) (by omega) hf k4) md_X3_take q1461 dX3_findForm_107 rfl (mPut_o _ _ _) rfl rfl ⟨rfl, rfl, by decide, by decide⟩ rfl (Nat.le_of_ble_eq_true rfl) (by decide) (by decide) (fun na3 h3 hp3 => ?_)
            obtain ⟨rfl, M3, rfl, hF3, hf3⟩ := hp3
            skip
            skip
            refine n_iincN hC dX3_findForm_110 (j := 1) (c := k + 1) rfl (by decide) rfl ?_
            refine n_goto hC (tgt := 12) dX3_findForm_113 (by decide) ?_
            exact WN.forget (L' := [some (.ref (na 61)), some (.int f), some (.int (nI (k + 1))), none, none]) (⟨Or.inr rfl, Or.inr rfl, Or.inr rfl, Or.inl rfl, Or.inl rfl, trivial⟩) (ih12 _ (by omega) (k + 1) M3 t ((ftake n g m (10 * ((((st k / 10 : Nat) : Int) - t).emod n).toNat + st k % 10)).1) ((ftake n g m (10 * ((((st k / 10 : Nat) : Int) - t).emod n).toNat + st k % 10)).2) rfl (by omega) (mFr.cmp (by decide) (by decide) hF hF3) (ffold_tk he c_31 c_65) hf3 ((congrFun (hF3 38 (by decide)) 0).trans h38))
          · skip
            refine n_iconst hC (v := nI 0) dX3_findForm_68 (by decide) ?_
            exact n_zret hC dX3_findForm_69 rfl (by decide) (by decide) (⟨rfl, M2, rfl, hF, by rw [fform_n (ffold_x he c_31 c_65) (by omega)]⟩)
        · skip
          refine n_aload_n hC dX3_findForm_34 rfl ?_
          refine n_dup hC dX3_findForm_35 rfl ?_
          refine m_getI hC 38 (v := iI t) dX3_findForm_36 rfl rfl (by decide) h38 ?_
          refine n_iload_n hC dX3_findForm_39 rfl ?_
          refine n_bipush hC (v := nI 100) dX3_findForm_40 (by decide) ?_
          refine n_icmp_neN hC (tgt := 49) dX3_findForm_42 (by decide) (by omega) (by omega) (fun c_42 => ?_) (fun c_42 => ?_)
          · skip
            refine n_iconst hC (v := (-1)) dX3_findForm_49 (by decide) ?_
            refine n_iadd hC dX3_findForm_50 ?_
            rw [show (iI t) + (-1) = iI (t - 1) from iI_m1 t]
            refine m_putI hC 38 (M2 := mset M2 38 (fun _ => iI (t - 1))) dX3_findForm_51 rfl rfl (by decide) rfl rfl rfl rfl rfl ?_
            refine n_goto hC (tgt := 110) dX3_findForm_54 (by decide) ?_
            refine n_iincN hC dX3_findForm_110 (j := 1) (c := k + 1) rfl (by decide) rfl ?_
            refine n_goto hC (tgt := 12) dX3_findForm_113 (by decide) ?_
            exact WN.forget (L' := [some (.ref (na 61)), some (.int f), some (.int (nI (k + 1))), none, none]) (⟨Or.inr rfl, Or.inr rfl, Or.inr rfl, Or.inl rfl, Or.inl rfl, trivial⟩) (ih12 _ (by omega) (k + 1) (mset M2 38 (fun _ => iI (t - 1))) (t - 1) g m rfl (by omega) (mFr.set (by decide) hF) (ffold_101 he c_42 c_31) hf rfl)
          · skip
            refine n_iconst hC (v := nI 1) dX3_findForm_45 (by decide) ?_
            refine n_goto hC (tgt := 50) dX3_findForm_46 (by decide) ?_
            refine n_iadd hC dX3_findForm_50 ?_
            rw [show (iI t) + (nI 1) = iI (t + 1) from iI_p1 t]
            refine m_putI hC 38 (M2 := mset M2 38 (fun _ => iI (t + 1))) dX3_findForm_51 rfl rfl (by decide) rfl rfl rfl rfl rfl ?_
            refine n_goto hC (tgt := 110) dX3_findForm_54 (by decide) ?_
            refine n_iincN hC dX3_findForm_110 (j := 1) (c := k + 1) rfl (by decide) rfl ?_
            refine n_goto hC (tgt := 12) dX3_findForm_113 (by decide) ?_
            exact WN.forget (L' := [some (.ref (na 61)), some (.int f), some (.int (nI (k + 1))), none, none]) (⟨Or.inr rfl, Or.inr rfl, Or.inr rfl, Or.inl rfl, Or.inl rfl, trivial⟩) (ih12 _ (by omega) (k + 1) (mset M2 38 (fun _ => iI (t + 1))) (t + 1) g m rfl (by omega) (mFr.set (by decide) hF) (ffold_100 he c_42) hf rfl)
  exact WN.forget (L' := [some (.ref (na 61)), some (.int f), some (.int (nI 0)), none, none]) (⟨Or.inr rfl, Or.inr rfl, Or.inr rfl, Or.inl rfl, Or.inl rfl, trivial⟩) (lp12 _ 0 (mset (mset M 38 (fun _ => nI 0)) 37 (fun _ => nI 0)) 0 (fun _ => 0) 0 rfl (by omega) (mFr.set (by decide) (mFr.set (by decide) mFr.rf)) rfl (⟨rfl, fun k hk => absurd hk (Nat.not_lt_zero k)⟩) rfl)

set_option maxHeartbeats 4000000 in
set_option maxRecDepth 100000 in
theorem mt_X3_form (na : nA) (h : nH) (M : nMem) (hI : mInv M) (f w : Int32) : nM yX3_form cX3_form 3 (some .int) (nRm 9 0 0) [.ref (na 61), .int f, .int w] na (mPut na h M) (nQi (mOp na h (o_form f w M))) 0 0 := by
  refine nM.ofN RX3 rfl (by decide) (by intro v hv; simp only [List.mem_cons, List.not_mem_nil, or_false] at hv; rcases hv with rfl | rfl | rfl <;> rfl) (Nat.le_of_ble_eq_true rfl) (fun K hC hnm => ?_)
  show WN K na (mPut na h M) 0 0 (nE K (nQi (mOp na h (o_form f w M))) 0 0) 0 [some (.ref (na 61)), some (.int f), some (.int w)] []
  let Q9 : State → Prop := nE K (nQi (mOp na h (o_form f w M))) 0 0
  show WN K na (mPut na h M) 0 0 Q9 0 [some (.ref (na 61)), some (.int f), some (.int w)] []
  have hI9 := hI
  obtain ⟨⟨h0, b0⟩, ⟨h1, b1a, b1⟩, ⟨h11, b11⟩, ⟨h14, b14⟩, ⟨h15, b15, b15n⟩, ⟨h20, b20⟩, ⟨h26, b26⟩, ⟨h27, b27⟩, ⟨h55, b55⟩, iP, iH, iHi, iHd, iC, iT, iF, iG, iS, iZ⟩ := hI
  refine n_iload_n hC dX3_form_0 rfl ?_
  refine n_iconst hC (v := (-1)) dX3_form_1 (by decide) ?_
  refine n_icmp_eq hC (tgt := 13) dX3_form_2 (by decide) (fun c_2 => ?_) (fun c_2 => ?_)
  · skip
    have hfv : f = -1 ∨ nin f (mN M 26) = true := Or.inl c_2
    have hnf : ¬ (f ≠ -1 ∧ nin f (mN M 26) = false) := fun z => hfv.elim z.1 (fun e => by rw [e] at z; exact absurd z.2 (by decide))
    refine n_iload_n hC dX3_form_13 rfl ?_
    refine n_bipush hC (v := (-2)) dX3_form_14 (by decide) ?_
    refine n_icmp_ge hC (tgt := 22) dX3_form_16 (by decide) (fun c_16 => ?_) (fun c_16 => ?_)
    · skip
      refine n_aload_n hC dX3_form_22 rfl ?_
      refine m_getI hC 1 (v := nI (mN M 1)) dX3_form_23 rfl rfl (by decide) h1 ?_
      refine n_if_neN hC (tgt := 32) dX3_form_26 (by decide) (by omega) (fun c_26 => ?_) (fun c_26 => ?_)
      · skip
        have hx1 := mSx hI9 hfv
        refine n_aload_n hC dX3_form_32 rfl ?_
        refine n_iload_n hC dX3_form_33 rfl ?_
        refine n_callV1z hC (mt_X3_findForm na h M (f := f) (n := mN M 1) (c := mSn M f) (st := mSt M f) h1 (by omega) b1 hx1.1 hx1.2.1 hx1.2.2) md_X3_findForm q1449 dX3_form_34 rfl (mPut_o _ _ _) rfl rfl ⟨rfl, rfl, by decide, by decide⟩ rfl (Nat.le_of_ble_eq_true rfl) (by decide) (by decide) (fun r0 na0 h0 hp0 => ?_)
        obtain ⟨rfl, M2, rfl, hF1, hmf1⟩ := hp0
        skip
        rcases hff1 : fform (mN M 1) (mSt M f) (mSn M f) with _ | ⟨t, g, m⟩ <;> rw [hff1] at hmf1
        · skip
          dsimp only at hmf1
          subst hmf1
          refine n_if_neN hC (tgt := 43) dX3_form_37 (by decide) (by omega) (fun c_37 => absurd c_37 (by decide)) (fun c_37 => ?_)
          refine n_bipush hC (v := (-97)) dX3_form_40 (by decide) ?_
          exact n_iret hC dX3_form_42 (by decide) (by decide) (⟨rfl, by unfold o_form; dsimp only; rw [if_neg hnf, if_neg (Int32.not_lt.mpr c_16), if_neg c_26, hff1], M2, rfl, mEq.fr (by decide) hF1⟩)
        · skip
          obtain ⟨hr1, hfr1, h38_1⟩ := hmf1
          subst hr1
          obtain ⟨k11, k12, k13, k14⟩ := fform_ok (by omega) b1 hff1
          refine n_if_neN hC (tgt := 43) dX3_form_37 (by decide) (by omega) (fun c_37 => ?_) (fun c_37 => absurd c_37 (by decide))
          refine n_iload_n hC dX3_form_43 rfl ?_
          refine n_bipush hC (v := (-2)) dX3_form_44 (by decide) ?_
          refine n_icmp_ne hC (tgt := 56) dX3_form_46 (by decide) (fun c_46 => ?_) (fun c_46 => ?_)
          · skip
            refine n_iload_n hC dX3_form_56 rfl ?_
            refine n_iconst hC (v := (-1)) dX3_form_57 (by decide) ?_
            refine n_icmp_ne hC (tgt := 68) dX3_form_58 (by decide) (fun c_58 => ?_) (fun c_58 => ?_)
            · skip
              refine n_iload_n hC dX3_form_68 rfl ?_
              refine n_aload_n hC dX3_form_69 rfl ?_
              refine m_getI hC 37 (v := nI m) dX3_form_70 rfl rfl (by decide) hfr1.1 ?_
              refine n_icmp_ge hC (tgt := 85) dX3_form_73 (by decide) (fun c_73 => ?_) (fun c_73 => ?_)
              · skip
                have c_73 := Int32.not_lt.mpr c_73
                refine n_bipush hC (v := (-99)) dX3_form_85 (by decide) ?_
                exact n_iret hC dX3_form_87 (by decide) (by decide) (⟨rfl, by unfold o_form; dsimp only; rw [if_neg hnf, if_neg (Int32.not_lt.mpr c_16), if_neg c_26, hff1]; dsimp only; rw [if_neg c_46, if_neg c_58, if_neg c_73], M2, rfl, mEq.fr (by decide) hF1⟩)
              · skip
                have c_73 := Int32.not_le.mp c_73
                obtain ⟨j, hj, ej⟩ := nI_of (w_nn c_16 c_46 c_58)
                subst ej
                have hjm : j < m := (nI_ltI hj (by omega)).mp c_73
                refine n_aload_n hC dX3_form_76 rfl ?_
                refine m_getA hC 35 dX3_form_77 rfl rfl ?_
                refine n_iload_n hC dX3_form_80 rfl ?_
                refine m_aldN hC 35 (v := nI (g j)) dX3_form_81 rfl rfl (by have h9 : mLen 35 = 300 := rfl; omega) (hfr1.2 j hjm) ?_
                refine n_goto hC (tgt := 87) dX3_form_82 (by decide) ?_
                exact n_iret hC dX3_form_87 (by decide) (by decide) (⟨rfl, by unfold o_form; dsimp only; rw [if_neg hnf, if_neg (Int32.not_lt.mpr c_16), if_neg c_26, hff1]; dsimp only; rw [if_neg c_46, if_neg c_58, if_pos c_73, nI_clamp hj], M2, rfl, mEq.fr (by decide) hF1⟩)
            · skip
              refine n_aload_n hC dX3_form_61 rfl ?_
              refine m_getI hC 37 (v := nI m) dX3_form_62 rfl rfl (by decide) hfr1.1 ?_
              refine n_goto hC (tgt := 87) dX3_form_65 (by decide) ?_
              exact n_iret hC dX3_form_87 (by decide) (by decide) (⟨rfl, by unfold o_form; dsimp only; rw [if_neg hnf, if_neg (Int32.not_lt.mpr c_16), if_neg c_26, hff1]; dsimp only; rw [if_neg c_46, if_pos c_58], M2, rfl, mEq.fr (by decide) hF1⟩)
          · skip
            refine n_aload_n hC dX3_form_49 rfl ?_
            refine m_getI hC 38 (v := iI t) dX3_form_50 rfl rfl (by decide) h38_1 ?_
            refine n_goto hC (tgt := 87) dX3_form_53 (by decide) ?_
            exact n_iret hC dX3_form_87 (by decide) (by decide) (⟨rfl, by unfold o_form; dsimp only; rw [if_neg hnf, if_neg (Int32.not_lt.mpr c_16), if_neg c_26, hff1]; dsimp only; rw [if_pos c_46], M2, rfl, mEq.fr (by decide) hF1⟩)
      · skip
        refine n_bipush hC (v := (-98)) dX3_form_29 (by decide) ?_
        exact n_iret hC dX3_form_31 (by decide) (by decide) (⟨rfl, by unfold o_form; dsimp only; rw [if_neg hnf, if_neg (Int32.not_lt.mpr c_16), if_pos c_26], M, rfl, mEq.rf⟩)
    · skip
      refine n_bipush hC (v := (-99)) dX3_form_19 (by decide) ?_
      exact n_iret hC dX3_form_21 (by decide) (by decide) (⟨rfl, by unfold o_form; dsimp only; rw [if_neg hnf, if_pos (Int32.not_le.mp c_16)], M, rfl, mEq.rf⟩)
  · skip
    refine n_aload_n hC dX3_form_5 rfl ?_
    refine n_iload_n hC dX3_form_6 rfl ?_
    refine n_callV1z hC (mt_X3_isFigure na h (M) (f) (n := mN M 26) h26 (by omega)) md_X3_isFigure q1419 dX3_form_7 rfl (mPut_o _ _ _) rfl rfl ⟨rfl, rfl, by decide, by decide⟩ rfl (Nat.le_of_ble_eq_true rfl) (by decide) (by decide) (fun r1 na1 h1 hp1 => ?_)
    obtain ⟨rfl, rfl, rfl⟩ := hp1
    refine n_if_eqB hC (tgt := 19) dX3_form_10 (by decide) (fun c_10 => ?_) (fun c_10 => ?_)
    · skip
      refine n_bipush hC (v := (-99)) dX3_form_19 (by decide) ?_
      exact n_iret hC dX3_form_21 (by decide) (by decide) (⟨rfl, by unfold o_form; dsimp only; rw [if_pos ⟨c_2, c_10⟩], M, rfl, mEq.rf⟩)
    · skip
      have hfv : f = -1 ∨ nin f (mN M 26) = true := Or.inr c_10
      have hnf : ¬ (f ≠ -1 ∧ nin f (mN M 26) = false) := fun z => hfv.elim z.1 (fun e => by rw [e] at z; exact absurd z.2 (by decide))
      refine n_iload_n hC dX3_form_13 rfl ?_
      refine n_bipush hC (v := (-2)) dX3_form_14 (by decide) ?_
      refine n_icmp_ge hC (tgt := 22) dX3_form_16 (by decide) (fun c_16 => ?_) (fun c_16 => ?_)
      · skip
        refine n_aload_n hC dX3_form_22 rfl ?_
        refine m_getI hC 1 (v := nI (mN M 1)) dX3_form_23 rfl rfl (by decide) h1 ?_
        refine n_if_neN hC (tgt := 32) dX3_form_26 (by decide) (by omega) (fun c_26 => ?_) (fun c_26 => ?_)
        · skip
          have hx1 := mSx hI9 hfv
          refine n_aload_n hC dX3_form_32 rfl ?_
          refine n_iload_n hC dX3_form_33 rfl ?_
          refine n_callV1z hC (mt_X3_findForm na h M (f := f) (n := mN M 1) (c := mSn M f) (st := mSt M f) h1 (by omega) b1 hx1.1 hx1.2.1 hx1.2.2) md_X3_findForm q1449 dX3_form_34 rfl (mPut_o _ _ _) rfl rfl ⟨rfl, rfl, by decide, by decide⟩ rfl (Nat.le_of_ble_eq_true rfl) (by decide) (by decide) (fun r2 na2 h2 hp2 => ?_)
          obtain ⟨rfl, M2, rfl, hF1, hmf1⟩ := hp2
          skip
          rcases hff1 : fform (mN M 1) (mSt M f) (mSn M f) with _ | ⟨t, g, m⟩ <;> rw [hff1] at hmf1
          · skip
            dsimp only at hmf1
            subst hmf1
            refine n_if_neN hC (tgt := 43) dX3_form_37 (by decide) (by omega) (fun c_37 => absurd c_37 (by decide)) (fun c_37 => ?_)
            refine n_bipush hC (v := (-97)) dX3_form_40 (by decide) ?_
            exact n_iret hC dX3_form_42 (by decide) (by decide) (⟨rfl, by unfold o_form; dsimp only; rw [if_neg hnf, if_neg (Int32.not_lt.mpr c_16), if_neg c_26, hff1], M2, rfl, mEq.fr (by decide) hF1⟩)
          · skip
            obtain ⟨hr1, hfr1, h38_1⟩ := hmf1
            subst hr1
            obtain ⟨k11, k12, k13, k14⟩ := fform_ok (by omega) b1 hff1
            refine n_if_neN hC (tgt := 43) dX3_form_37 (by decide) (by omega) (fun c_37 => ?_) (fun c_37 => absurd c_37 (by decide))
            refine n_iload_n hC dX3_form_43 rfl ?_
            refine n_bipush hC (v := (-2)) dX3_form_44 (by decide) ?_
            refine n_icmp_ne hC (tgt := 56) dX3_form_46 (by decide) (fun c_46 => ?_) (fun c_46 => ?_)
            · skip
              refine n_iload_n hC dX3_form_56 rfl ?_
              refine n_iconst hC (v := (-1)) dX3_form_57 (by decide) ?_
              refine n_icmp_ne hC (tgt := 68) dX3_form_58 (by decide) (fun c_58 => ?_) (fun c_58 => ?_)
              · skip
                refine n_iload_n hC dX3_form_68 rfl ?_
                refine n_aload_n hC dX3_form_69 rfl ?_
                refine m_getI hC 37 (v := nI m) dX3_form_70 rfl rfl (by decide) hfr1.1 ?_
                refine n_icmp_ge hC (tgt := 85) dX3_form_73 (by decide) (fun c_73 => ?_) (fun c_73 => ?_)
                · skip
                  have c_73 := Int32.not_lt.mpr c_73
                  refine n_bipush hC (v := (-99)) dX3_form_85 (by decide) ?_
                  exact n_iret hC dX3_form_87 (by decide) (by decide) (⟨rfl, by unfold o_form; dsimp only; rw [if_neg hnf, if_neg (Int32.not_lt.mpr c_16), if_neg c_26, hff1]; dsimp only; rw [if_neg c_46, if_neg c_58, if_neg c_73], M2, rfl, mEq.fr (by decide) hF1⟩)
                · skip
                  have c_73 := Int32.not_le.mp c_73
                  obtain ⟨j, hj, ej⟩ := nI_of (w_nn c_16 c_46 c_58)
                  subst ej
                  have hjm : j < m := (nI_ltI hj (by omega)).mp c_73
                  refine n_aload_n hC dX3_form_76 rfl ?_
                  refine m_getA hC 35 dX3_form_77 rfl rfl ?_
                  refine n_iload_n hC dX3_form_80 rfl ?_
                  refine m_aldN hC 35 (v := nI (g j)) dX3_form_81 rfl rfl (by have h9 : mLen 35 = 300 := rfl; omega) (hfr1.2 j hjm) ?_
                  refine n_goto hC (tgt := 87) dX3_form_82 (by decide) ?_
                  exact n_iret hC dX3_form_87 (by decide) (by decide) (⟨rfl, by unfold o_form; dsimp only; rw [if_neg hnf, if_neg (Int32.not_lt.mpr c_16), if_neg c_26, hff1]; dsimp only; rw [if_neg c_46, if_neg c_58, if_pos c_73, nI_clamp hj], M2, rfl, mEq.fr (by decide) hF1⟩)
              · skip
                refine n_aload_n hC dX3_form_61 rfl ?_
                refine m_getI hC 37 (v := nI m) dX3_form_62 rfl rfl (by decide) hfr1.1 ?_
                refine n_goto hC (tgt := 87) dX3_form_65 (by decide) ?_
                exact n_iret hC dX3_form_87 (by decide) (by decide) (⟨rfl, by unfold o_form; dsimp only; rw [if_neg hnf, if_neg (Int32.not_lt.mpr c_16), if_neg c_26, hff1]; dsimp only; rw [if_neg c_46, if_pos c_58], M2, rfl, mEq.fr (by decide) hF1⟩)
            · skip
              refine n_aload_n hC dX3_form_49 rfl ?_
              refine m_getI hC 38 (v := iI t) dX3_form_50 rfl rfl (by decide) h38_1 ?_
              refine n_goto hC (tgt := 87) dX3_form_53 (by decide) ?_
              exact n_iret hC dX3_form_87 (by decide) (by decide) (⟨rfl, by unfold o_form; dsimp only; rw [if_neg hnf, if_neg (Int32.not_lt.mpr c_16), if_neg c_26, hff1]; dsimp only; rw [if_pos c_46], M2, rfl, mEq.fr (by decide) hF1⟩)
        · skip
          refine n_bipush hC (v := (-98)) dX3_form_29 (by decide) ?_
          exact n_iret hC dX3_form_31 (by decide) (by decide) (⟨rfl, by unfold o_form; dsimp only; rw [if_neg hnf, if_neg (Int32.not_lt.mpr c_16), if_pos c_26], M, rfl, mEq.rf⟩)
      · skip
        refine n_bipush hC (v := (-99)) dX3_form_19 (by decide) ?_
        exact n_iret hC dX3_form_21 (by decide) (by decide) (⟨rfl, by unfold o_form; dsimp only; rw [if_neg hnf, if_pos (Int32.not_le.mp c_16)], M, rfl, mEq.rf⟩)

set_option maxHeartbeats 4000000 in
set_option maxRecDepth 100000 in
theorem mt_X3_akin (na : nA) (h : nH) (M : nMem) (hI : mInv M) (a b : Int32) : nM yX3_akin cX3_akin 7 (some .int) (nRm 9 0 0) [.ref (na 61), .int a, .int b] na (mPut na h M) (nQi (mOp na h (o_akin a b M))) 0 0 := by
  refine nM.ofN RX3 rfl (by decide) (by intro v hv; simp only [List.mem_cons, List.not_mem_nil, or_false] at hv; rcases hv with rfl | rfl | rfl <;> rfl) (Nat.le_of_ble_eq_true rfl) (fun K hC hnm => ?_)
  show WN K na (mPut na h M) 0 0 (nE K (nQi (mOp na h (o_akin a b M))) 0 0) 0 [some (.ref (na 61)), some (.int a), some (.int b), none, none, none, none] []
  let Q9 : State → Prop := nE K (nQi (mOp na h (o_akin a b M))) 0 0
  show WN K na (mPut na h M) 0 0 Q9 0 [some (.ref (na 61)), some (.int a), some (.int b), none, none, none, none] []
  have hI9 := hI
  obtain ⟨⟨h0, b0⟩, ⟨h1, b1a, b1⟩, ⟨h11, b11⟩, ⟨h14, b14⟩, ⟨h15, b15, b15n⟩, ⟨h20, b20⟩, ⟨h26, b26⟩, ⟨h27, b27⟩, ⟨h55, b55⟩, iP, iH, iHi, iHd, iC, iT, iF, iG, iS, iZ⟩ := hI
  refine n_iload_n hC dX3_akin_0 rfl ?_
  refine n_iconst hC (v := (-1)) dX3_akin_1 (by decide) ?_
  refine n_icmp_eq hC (tgt := 13) dX3_akin_2 (by decide) (fun c_2 => ?_) (fun c_2 => ?_)
  · skip
    have hav : a = -1 ∨ nin a (mN M 26) = true := Or.inl c_2
    have hna : ¬ (a ≠ -1 ∧ nin a (mN M 26) = false) := fun z => hav.elim z.1 (fun e => by rw [e] at z; exact absurd z.2 (by decide))
    refine n_iload_n hC dX3_akin_13 rfl ?_
    refine n_iconst hC (v := (-1)) dX3_akin_14 (by decide) ?_
    refine n_icmp_eq hC (tgt := 28) dX3_akin_15 (by decide) (fun c_15 => ?_) (fun c_15 => ?_)
    · skip
      have hbv : b = -1 ∨ nin b (mN M 26) = true := Or.inl c_15
      have hnb : ¬ (b ≠ -1 ∧ nin b (mN M 26) = false) := fun z => hbv.elim z.1 (fun e => by rw [e] at z; exact absurd z.2 (by decide))
      have hx1 := mSx hI9 hav
      have hx2 := mSx hI9 hbv
      refine n_aload_n hC dX3_akin_28 rfl ?_
      refine m_getI hC 1 (v := nI (mN M 1)) dX3_akin_29 rfl rfl (by decide) h1 ?_
      refine n_if_eqN hC (tgt := 43) dX3_akin_32 (by decide) (by omega) (fun c_32 => ?_) (fun c_32 => ?_)
      · skip
        refine n_bipush hC (v := (-3)) dX3_akin_43 (by decide) ?_
        exact n_iret hC dX3_akin_45 (by decide) (by decide) (⟨rfl, by unfold o_akin; dsimp only; rw [if_neg hna, if_neg hnb, if_pos c_32], _, rfl, mEq.fr (S := [35, 36, 37, 38]) (by decide) (mFr.rf)⟩)
      · skip
        refine n_aload_n hC dX3_akin_35 rfl ?_
        refine n_iload_n hC dX3_akin_36 rfl ?_
        refine n_callV1z hC (mt_X3_findForm na h M (f := a) (n := mN M 1) (c := mSn M a) (st := mSt M a) h1 (by omega) b1 hx1.1 hx1.2.1 hx1.2.2) md_X3_findForm q1449 dX3_akin_37 rfl (mPut_o _ _ _) rfl rfl ⟨rfl, rfl, by decide, by decide⟩ rfl (Nat.le_of_ble_eq_true rfl) (by decide) (by decide) (fun r0 na0 h0 hp0 => ?_)
        obtain ⟨rfl, M2, rfl, hF1, hmf1⟩ := hp0
        skip
        rcases hff1 : fform (mN M 1) (mSt M a) (mSn M a) with _ | ⟨t, g, m⟩ <;> rw [hff1] at hmf1
        · skip
          dsimp only at hmf1
          subst hmf1
          refine n_if_neN hC (tgt := 46) dX3_akin_40 (by decide) (by omega) (fun c_40 => absurd c_40 (by decide)) (fun c_40 => ?_)
          refine n_bipush hC (v := (-3)) dX3_akin_43 (by decide) ?_
          exact n_iret hC dX3_akin_45 (by decide) (by decide) (⟨rfl, by unfold o_akin; dsimp only; rw [if_neg hna, if_neg hnb, if_neg c_32, hff1], _, rfl, mEq.fr (S := [35, 36, 37, 38]) (by decide) (mFr.wk (by decide) hF1)⟩)
        · skip
          obtain ⟨hr1, hfr1, h38_1⟩ := hmf1
          subst hr1
          obtain ⟨k11, k12, k13, k14⟩ := fform_ok (by omega) b1 hff1
          refine n_if_neN hC (tgt := 46) dX3_akin_40 (by decide) (by omega) (fun c_40 => ?_) (fun c_40 => absurd c_40 (by decide))
          refine n_aload_n hC dX3_akin_46 rfl ?_
          refine m_getI hC 38 (v := iI t) dX3_akin_47 rfl rfl (by decide) h38_1 ?_
          refine n_istore_n hC dX3_akin_50 (Nat.le_of_ble_eq_true rfl) ?_
          refine n_aload_n hC dX3_akin_51 rfl ?_
          refine m_getI hC 37 (v := nI m) dX3_akin_52 rfl rfl (by decide) hfr1.1 ?_
          refine n_istore hC dX3_akin_55 (Nat.le_of_ble_eq_true rfl) ?_
          refine n_iconst hC (v := nI 0) dX3_akin_57 (by decide) ?_
          refine n_istore hC dX3_akin_58 (Nat.le_of_ble_eq_true rfl) ?_
          have lp60 : ∀ d9 : Nat, ∀ (k : Nat) (M3 : nMem), m - k = d9 → (k ≤ m) → (mFr [35, 36, 37, 38] M M3) → (∀ q, q < m → M3 35 q = nI (g q)) → (∀ q, q < k → M3 36 q = nI (g q)) → WN K na (mPut na h M3) 0 0 Q9 60 [some (.ref (na 61)), some (.int a), some (.int b), some (.int (iI t)), some (.int (nI m)), some (.int (nI k)), none] [] := by
            intro d9
            induction d9 using Nat.strongRecOn with
            | _ d9 ih60 =>
              intro k M3 hd60 hk hF3 h35 h36
              refine n_iload hC dX3_akin_60 rfl ?_
              refine n_iload hC dX3_akin_62 rfl ?_
              refine n_icmp_geN hC (tgt := 87) dX3_akin_64 (by decide) (by omega) (by omega) (fun c_64 => ?_) (fun c_64 => ?_)
              · skip
                have hk9 : k = m := by omega
                refine n_aload_n hC dX3_akin_87 rfl ?_
                refine n_iload_n hC dX3_akin_88 rfl ?_
                refine n_callV1z hC (mt_X3_findForm na h M3 (f := b) (n := mN M 1) (c := mSn M b) (st := mSt M b) ((congrFun (hF3 1 (by decide)) 0).trans h1) (by omega) b1 (hx2.1.fr hF3 (by decide)) hx2.2.1 (fun k hk => ⟨(hx2.2.2 k hk).1.fr hF3 (by decide), (hx2.2.2 k hk).2⟩)) md_X3_findForm q1449 dX3_akin_89 rfl (mPut_o _ _ _) rfl rfl ⟨rfl, rfl, by decide, by decide⟩ rfl (Nat.le_of_ble_eq_true rfl) (by decide) (by decide) (fun r1 na1 h1 hp1 => ?_)
                obtain ⟨rfl, M4, rfl, hF2, hmf2⟩ := hp1
                skip
                rcases hff2 : fform (mN M 1) (mSt M b) (mSn M b) with _ | ⟨t2, g2, m2⟩ <;> rw [hff2] at hmf2
                · skip
                  dsimp only at hmf2
                  subst hmf2
                  refine n_if_neN hC (tgt := 98) dX3_akin_92 (by decide) (by omega) (fun c_92 => absurd c_92 (by decide)) (fun c_92 => ?_)
                  refine n_bipush hC (v := (-3)) dX3_akin_95 (by decide) ?_
                  exact n_iret hC dX3_akin_97 (by decide) (by decide) (⟨rfl, by unfold o_akin; dsimp only; rw [if_neg hna, if_neg hnb, if_neg c_32, hff1, hff2], _, rfl, mEq.fr (S := [35, 36, 37, 38]) (by decide) (mFr.cmp (by decide) (by decide) hF3 hF2)⟩)
                · skip
                  obtain ⟨hr2, hfr2, h38_2⟩ := hmf2
                  subst hr2
                  obtain ⟨k21, k22, k23, k24⟩ := fform_ok (by omega) b1 hff2
                  refine n_if_neN hC (tgt := 98) dX3_akin_92 (by decide) (by omega) (fun c_92 => ?_) (fun c_92 => absurd c_92 (by decide))
                  have h36m : ∀ q, q < m → M4 36 q = nI (g q) := fun q hq => (congrFun (hF2 36 (by decide)) q).trans (h36 q (by omega))
                  have hx12 := hx1.2.1
                  have hx22 := hx2.2.1
                  refine n_iload_n hC dX3_akin_98 rfl ?_
                  refine n_aload_n hC dX3_akin_99 rfl ?_
                  refine m_getI hC 38 (v := iI t2) dX3_akin_100 rfl rfl (by decide) h38_2 ?_
                  refine n_icmp_ne hC (tgt := 119) dX3_akin_103 (by decide) (fun c_103 => ?_) (fun c_103 => ?_)
                  · skip
                    refine n_iconst hC (v := nbo false) dX3_akin_119 (by decide) ?_
                    refine n_istore hC dX3_akin_120 (Nat.le_of_ble_eq_true rfl) ?_
                    refine n_iconst hC (v := nI 0) dX3_akin_122 (by decide) ?_
                    refine n_istore hC dX3_akin_123 (Nat.le_of_ble_eq_true rfl) ?_
                    have lp125 : ∀ d9 : Nat, ∀ (k : Nat) (b9 : Bool), m - k = d9 → (k ≤ m) → ((decide (t = t2) && (decide (m = m2) && allb k (fun k => decide (g k = g2 k)))) = b9) → WN K na (mPut na h M4) 0 0 Q9 125 [some (.ref (na 61)), some (.int a), some (.int b), some (.int (iI t)), some (.int (nI m)), some (.int (nbo b9)), some (.int (nI k))] [] := by
                      intro d9
                      induction d9 using Nat.strongRecOn with
                      | _ d9 ih125 =>
                        intro k b9 hd125 hk2 hb
                        refine n_iload hC dX3_akin_125 rfl ?_
                        refine n_iload hC dX3_akin_127 rfl ?_
                        refine n_icmp_geN hC (tgt := 167) dX3_akin_129 (by decide) (by omega) (by omega) (fun c_129 => ?_) (fun c_129 => ?_)
                        · skip
                          have hb9 : (decide (t = t2) && (decide (m = m2) && allb m (fun k => decide (g k = g2 k)))) = b9 := by rw [← hb, show k = m by omega]
                          refine n_iload hC dX3_akin_167 rfl ?_
                          refine n_if_eqB hC (tgt := 176) dX3_akin_169 (by decide) (fun c_169 => ?_) (fun c_169 => ?_)
                          · skip
                            refine n_iconst hC (v := nI 0) dX3_akin_176 (by decide) ?_
                            exact n_iret hC dX3_akin_177 (by decide) (by decide) (⟨rfl, by unfold o_akin; dsimp only; rw [if_neg hna, if_neg hnb, if_neg c_32, hff1, hff2]; dsimp only; rw [hb9, c_169]; rfl, _, rfl, mEq.fr (S := [35, 36, 37, 38]) (by decide) (mFr.cmp (by decide) (by decide) hF3 hF2)⟩)
                          · skip
                            refine n_iconst hC (v := nI 1) dX3_akin_172 (by decide) ?_
                            refine n_goto hC (tgt := 177) dX3_akin_173 (by decide) ?_
                            exact n_iret hC dX3_akin_177 (by decide) (by decide) (⟨rfl, by unfold o_akin; dsimp only; rw [if_neg hna, if_neg hnb, if_neg c_32, hff1, hff2]; dsimp only; rw [hb9, c_169]; rfl, _, rfl, mEq.fr (S := [35, 36, 37, 38]) (by decide) (mFr.cmp (by decide) (by decide) hF3 hF2)⟩)
                        · skip
                          refine n_iload hC dX3_akin_132 rfl ?_
                          refine n_if_eqB hC (tgt := 167) dX3_akin_134 (by decide) (fun c_134 => ?_) (fun c_134 => ?_)
                          · skip
                            have hb9 : (decide (t = t2) && (decide (m = m2) && allb m (fun k => decide (g k = g2 k)))) = b9 := by rw [c_134] at hb; cases hz : (decide (t = t2) && (decide (m = m2) && allb m (fun k => decide (g k = g2 k)))) with
                              | false => exact c_134.symm
                              | true =>
                                rw [Bool.and_eq_true, Bool.and_eq_true] at hz
                                rw [hz.1, hz.2.1, allb_mono (by omega) hz.2.2] at hb
                                cases hb
                            refine n_iload hC dX3_akin_167 rfl ?_
                            refine n_if_eqB hC (tgt := 176) dX3_akin_169 (by decide) (fun c_169 => ?_) (fun c_169 => ?_)
                            · skip
                              refine n_iconst hC (v := nI 0) dX3_akin_176 (by decide) ?_
                              exact n_iret hC dX3_akin_177 (by decide) (by decide) (⟨rfl, by unfold o_akin; dsimp only; rw [if_neg hna, if_neg hnb, if_neg c_32, hff1, hff2]; dsimp only; rw [hb9, c_169]; rfl, _, rfl, mEq.fr (S := [35, 36, 37, 38]) (by decide) (mFr.cmp (by decide) (by decide) hF3 hF2)⟩)
                            · skip
                              refine n_iconst hC (v := nI 1) dX3_akin_172 (by decide) ?_
                              refine n_goto hC (tgt := 177) dX3_akin_173 (by decide) ?_
                              exact n_iret hC dX3_akin_177 (by decide) (by decide) (⟨rfl, by unfold o_akin; dsimp only; rw [if_neg hna, if_neg hnb, if_neg c_32, hff1, hff2]; dsimp only; rw [hb9, c_169]; rfl, _, rfl, mEq.fr (S := [35, 36, 37, 38]) (by decide) (mFr.cmp (by decide) (by decide) hF3 hF2)⟩)
                          · skip
                            have hb3 := hb.trans c_134
                            rw [Bool.and_eq_true, Bool.and_eq_true, decide_eq_true_iff, decide_eq_true_iff] at hb3
                            have hmm := hb3.2.1
                            have gk1 := k14 k (by omega)
                            have gk2 := k24 k (by omega)
                            refine n_aload_n hC dX3_akin_137 rfl ?_
                            refine m_getA hC 35 dX3_akin_138 rfl rfl ?_
                            refine n_iload hC dX3_akin_141 rfl ?_
                            refine m_aldN hC 35 (v := nI (g2 k)) dX3_akin_143 rfl rfl (by have h9 : mLen 35 = 300 := rfl; omega) (hfr2.2 k (by omega)) ?_
                            refine n_aload_n hC dX3_akin_144 rfl ?_
                            refine m_getA hC 36 dX3_akin_145 rfl rfl ?_
                            refine n_iload hC dX3_akin_148 rfl ?_
                            refine m_aldN hC 36 (v := nI (g k)) dX3_akin_150 rfl rfl (by have h9 : mLen 36 = 300 := rfl; omega) (h36m k (by omega)) ?_
                            refine n_icmp_neN hC (tgt := 158) dX3_akin_151 (by decide) (by omega) (by omega) (fun c_151 => ?_) (fun c_151 => ?_)
                            · skip
                              refine n_iconst hC (v := nbo false) dX3_akin_158 (by decide) ?_
                              refine n_istore hC dX3_akin_159 (Nat.le_of_ble_eq_true rfl) ?_
                              refine n_iincN hC dX3_akin_161 (j := 1) (c := k + 1) rfl (by decide) rfl ?_
                              refine n_goto hC (tgt := 125) dX3_akin_164 (by decide) ?_
                              exact WN.forget (L' := [some (.ref (na 61)), some (.int a), some (.int b), some (.int (iI t)), some (.int (nI m)), some (.int (nbo false)), some (.int (nI (k + 1)))]) (⟨Or.inr rfl, Or.inr rfl, Or.inr rfl, Or.inr rfl, Or.inr rfl, Or.inr rfl, Or.inr rfl, trivial⟩) (ih125 _ (by omega) (k + 1) false rfl (by omega) (by show (decide _ && (decide _ && (allb k _ && decide (g k = g2 k)))) = false; rw [← Bool.and_assoc (decide (m = m2)), ← Bool.and_assoc (decide (t = t2)), hb, c_134]; exact decide_eq_false (by omega)))
                            · skip
                              refine n_iconst hC (v := nbo true) dX3_akin_154 (by decide) ?_
                              refine n_goto hC (tgt := 159) dX3_akin_155 (by decide) ?_
                              refine n_istore hC dX3_akin_159 (Nat.le_of_ble_eq_true rfl) ?_
                              refine n_iincN hC dX3_akin_161 (j := 1) (c := k + 1) rfl (by decide) rfl ?_
                              refine n_goto hC (tgt := 125) dX3_akin_164 (by decide) ?_
                              exact WN.forget (L' := [some (.ref (na 61)), some (.int a), some (.int b), some (.int (iI t)), some (.int (nI m)), some (.int (nbo true)), some (.int (nI (k + 1)))]) (⟨Or.inr rfl, Or.inr rfl, Or.inr rfl, Or.inr rfl, Or.inr rfl, Or.inr rfl, Or.inr rfl, trivial⟩) (ih125 _ (by omega) (k + 1) true rfl (by omega) (by show (decide _ && (decide _ && (allb k _ && decide (g k = g2 k)))) = true; rw [← Bool.and_assoc (decide (m = m2)), ← Bool.and_assoc (decide (t = t2)), hb, c_134]; exact decide_eq_true (by omega)))
                    exact WN.forget (L' := [some (.ref (na 61)), some (.int a), some (.int b), some (.int (iI t)), some (.int (nI m)), some (.int (nbo false)), some (.int (nI 0))]) (⟨Or.inr rfl, Or.inr rfl, Or.inr rfl, Or.inr rfl, Or.inr rfl, Or.inr rfl, Or.inr rfl, trivial⟩) (lp125 _ 0 false rfl (by omega) (by show (decide _ && (decide _ && true)) = _; rw [decide_eq_false (fun e => c_103 (by rw [e]))]; rfl))
                  · skip
                    have ett := iI_inj (by omega) (by omega) c_103
                    refine n_iload hC dX3_akin_106 rfl ?_
                    refine n_aload_n hC dX3_akin_108 rfl ?_
                    refine m_getI hC 37 (v := nI m2) dX3_akin_109 rfl rfl (by decide) hfr2.1 ?_
                    refine n_icmp_neN hC (tgt := 119) dX3_akin_112 (by decide) (by omega) (by omega) (fun c_112 => ?_) (fun c_112 => ?_)
                    · skip
                      refine n_iconst hC (v := nbo false) dX3_akin_119 (by decide) ?_
                      refine n_istore hC dX3_akin_120 (Nat.le_of_ble_eq_true rfl) ?_
                      refine n_iconst hC (v := nI 0) dX3_akin_122 (by decide) ?_
                      refine n_istore hC dX3_akin_123 (Nat.le_of_ble_eq_true rfl) ?_
                      have lp125 : ∀ d9 : Nat, ∀ (k : Nat) (b9 : Bool), m - k = d9 → (k ≤ m) → ((decide (t = t2) && (decide (m = m2) && allb k (fun k => decide (g k = g2 k)))) = b9) → WN K na (mPut na h M4) 0 0 Q9 125 [some (.ref (na 61)), some (.int a), some (.int b), some (.int (iI t)), some (.int (nI m)), some (.int (nbo b9)), some (.int (nI k))] [] := by
                        intro d9
                        induction d9 using Nat.strongRecOn with
                        | _ d9 ih125 =>
                          intro k b9 hd125 hk2 hb
                          refine n_iload hC dX3_akin_125 rfl ?_
                          refine n_iload hC dX3_akin_127 rfl ?_
                          refine n_icmp_geN hC (tgt := 167) dX3_akin_129 (by decide) (by omega) (by omega) (fun c_129 => ?_) (fun c_129 => ?_)
                          · skip
                            have hb9 : (decide (t = t2) && (decide (m = m2) && allb m (fun k => decide (g k = g2 k)))) = b9 := by rw [← hb, show k = m by omega]
                            refine n_iload hC dX3_akin_167 rfl ?_
                            refine n_if_eqB hC (tgt := 176) dX3_akin_169 (by decide) (fun c_169 => ?_) (fun c_169 => ?_)
                            · skip
                              refine n_iconst hC (v := nI 0) dX3_akin_176 (by decide) ?_
                              exact n_iret hC dX3_akin_177 (by decide) (by decide) (⟨rfl, by unfold o_akin; dsimp only; rw [if_neg hna, if_neg hnb, if_neg c_32, hff1, hff2]; dsimp only; rw [hb9, c_169]; rfl, _, rfl, mEq.fr (S := [35, 36, 37, 38]) (by decide) (mFr.cmp (by decide) (by decide) hF3 hF2)⟩)
                            · skip
                              refine n_iconst hC (v := nI 1) dX3_akin_172 (by decide) ?_
                              refine n_goto hC (tgt := 177) dX3_akin_173 (by decide) ?_
                              exact n_iret hC dX3_akin_177 (by decide) (by decide) (⟨rfl, by unfold o_akin; dsimp only; rw [if_neg hna, if_neg hnb, if_neg c_32, hff1, hff2]; dsimp only; rw [hb9, c_169]; rfl, _, rfl, mEq.fr (S := [35, 36, 37, 38]) (by decide) (mFr.cmp (by decide) (by decide) hF3 hF2)⟩)
                          · skip
                            refine n_iload hC dX3_akin_132 rfl ?_
                            refine n_if_eqB hC (tgt := 167) dX3_akin_134 (by decide) (fun c_134 => ?_) (fun c_134 => ?_)
                            · skip
                              have hb9 : (decide (t = t2) && (decide (m = m2) && allb m (fun k => decide (g k = g2 k)))) = b9 := by rw [c_134] at hb; cases hz : (decide (t = t2) && (decide (m = m2) && allb m (fun k => decide (g k = g2 k)))) with
                                | false => exact c_134.symm
                                | true =>
                                  rw [Bool.and_eq_true, Bool.and_eq_true] at hz
                                  rw [hz.1, hz.2.1, allb_mono (by omega) hz.2.2] at hb
                                  cases hb
                              refine n_iload hC dX3_akin_167 rfl ?_
                              refine n_if_eqB hC (tgt := 176) dX3_akin_169 (by decide) (fun c_169 => ?_) (fun c_169 => ?_)
                              · skip
                                refine n_iconst hC (v := nI 0) dX3_akin_176 (by decide) ?_
                                exact n_iret hC dX3_akin_177 (by decide) (by decide) (⟨rfl, by unfold o_akin; dsimp only; rw [if_neg hna, if_neg hnb, if_neg c_32, hff1, hff2]; dsimp only; rw [hb9, c_169]; rfl, _, rfl, mEq.fr (S := [35, 36, 37, 38]) (by decide) (mFr.cmp (by decide) (by decide) hF3 hF2)⟩)
                              · skip
                                refine n_iconst hC (v := nI 1) dX3_akin_172 (by decide) ?_
                                refine n_goto hC (tgt := 177) dX3_akin_173 (by decide) ?_
                                exact n_iret hC dX3_akin_177 (by decide) (by decide) (⟨rfl, by unfold o_akin; dsimp only; rw [if_neg hna, if_neg hnb, if_neg c_32, hff1, hff2]; dsimp only; rw [hb9, c_169]; rfl, _, rfl, mEq.fr (S := [35, 36, 37, 38]) (by decide) (mFr.cmp (by decide) (by decide) hF3 hF2)⟩)
                            · skip
                              have hb3 := hb.trans c_134
                              rw [Bool.and_eq_true, Bool.and_eq_true, decide_eq_true_iff, decide_eq_true_iff] at hb3
                              have hmm := hb3.2.1
                              have gk1 := k14 k (by omega)
                              have gk2 := k24 k (by omega)
                              refine n_aload_n hC dX3_akin_137 rfl ?_
                              refine m_getA hC 35 dX3_akin_138 rfl rfl ?_
                              refine n_iload hC dX3_akin_141 rfl ?_
                              refine m_aldN hC 35 (v := nI (g2 k)) dX3_akin_143 rfl rfl (by have h9 : mLen 35 = 300 := rfl; omega) (hfr2.2 k (by omega)) ?_
                              refine n_aload_n hC dX3_akin_144 rfl ?_
                              refine m_getA hC 36 dX3_akin_145 rfl rfl ?_
                              refine n_iload hC dX3_akin_148 rfl ?_
                              refine m_aldN hC 36 (v := nI (g k)) dX3_akin_150 rfl rfl (by have h9 : mLen 36 = 300 := rfl; omega) (h36m k (by omega)) ?_
                              refine n_icmp_neN hC (tgt := 158) dX3_akin_151 (by decide) (by omega) (by omega) (fun c_151 => ?_) (fun c_151 => ?_)
                              · skip
                                refine n_iconst hC (v := nbo false) dX3_akin_158 (by decide) ?_
                                refine n_istore hC dX3_akin_159 (Nat.le_of_ble_eq_true rfl) ?_
                                refine n_iincN hC dX3_akin_161 (j := 1) (c := k + 1) rfl (by decide) rfl ?_
                                refine n_goto hC (tgt := 125) dX3_akin_164 (by decide) ?_
                                exact WN.forget (L' := [some (.ref (na 61)), some (.int a), some (.int b), some (.int (iI t)), some (.int (nI m)), some (.int (nbo false)), some (.int (nI (k + 1)))]) (⟨Or.inr rfl, Or.inr rfl, Or.inr rfl, Or.inr rfl, Or.inr rfl, Or.inr rfl, Or.inr rfl, trivial⟩) (ih125 _ (by omega) (k + 1) false rfl (by omega) (by show (decide _ && (decide _ && (allb k _ && decide (g k = g2 k)))) = false; rw [← Bool.and_assoc (decide (m = m2)), ← Bool.and_assoc (decide (t = t2)), hb, c_134]; exact decide_eq_false (by omega)))
                              · skip
                                refine n_iconst hC (v := nbo true) dX3_akin_154 (by decide) ?_
                                refine n_goto hC (tgt := 159) dX3_akin_155 (by decide) ?_
                                refine n_istore hC dX3_akin_159 (Nat.le_of_ble_eq_true rfl) ?_
                                refine n_iincN hC dX3_akin_161 (j := 1) (c := k + 1) rfl (by decide) rfl ?_
                                refine n_goto hC (tgt := 125) dX3_akin_164 (by decide) ?_
                                exact WN.forget (L' := [some (.ref (na 61)), some (.int a), some (.int b), some (.int (iI t)), some (.int (nI m)), some (.int (nbo true)), some (.int (nI (k + 1)))]) (⟨Or.inr rfl, Or.inr rfl, Or.inr rfl, Or.inr rfl, Or.inr rfl, Or.inr rfl, Or.inr rfl, trivial⟩) (ih125 _ (by omega) (k + 1) true rfl (by omega) (by show (decide _ && (decide _ && (allb k _ && decide (g k = g2 k)))) = true; rw [← Bool.and_assoc (decide (m = m2)), ← Bool.and_assoc (decide (t = t2)), hb, c_134]; exact decide_eq_true (by omega)))
                      exact WN.forget (L' := [some (.ref (na 61)), some (.int a), some (.int b), some (.int (iI t)), some (.int (nI m)), some (.int (nbo false)), some (.int (nI 0))]) (⟨Or.inr rfl, Or.inr rfl, Or.inr rfl, Or.inr rfl, Or.inr rfl, Or.inr rfl, Or.inr rfl, trivial⟩) (lp125 _ 0 false rfl (by omega) (by show (decide _ && (decide _ && true)) = _; rw [decide_eq_false (show ¬ m = m2 from c_112), Bool.false_and, Bool.and_false]))
                    · skip
                      refine n_iconst hC (v := nbo true) dX3_akin_115 (by decide) ?_
                      refine n_goto hC (tgt := 120) dX3_akin_116 (by decide) ?_
                      refine n_istore hC dX3_akin_120 (Nat.le_of_ble_eq_true rfl) ?_
                      refine n_iconst hC (v := nI 0) dX3_akin_122 (by decide) ?_
                      refine n_istore hC dX3_akin_123 (Nat.le_of_ble_eq_true rfl) ?_
                      have lp125 : ∀ d9 : Nat, ∀ (k : Nat) (b9 : Bool), m - k = d9 → (k ≤ m) → ((decide (t = t2) && (decide (m = m2) && allb k (fun k => decide (g k = g2 k)))) = b9) → WN K na (mPut na h M4) 0 0 Q9 125 [some (.ref (na 61)), some (.int a), some (.int b), some (.int (iI t)), some (.int (nI m)), some (.int (nbo b9)), some (.int (nI k))] [] := by
                        intro d9
                        induction d9 using Nat.strongRecOn with
                        | _ d9 ih125 =>
                          intro k b9 hd125 hk2 hb
                          refine n_iload hC dX3_akin_125 rfl ?_
                          refine n_iload hC dX3_akin_127 rfl ?_
                          refine n_icmp_geN hC (tgt := 167) dX3_akin_129 (by decide) (by omega) (by omega) (fun c_129 => ?_) (fun c_129 => ?_)
                          · skip
                            have hb9 : (decide (t = t2) && (decide (m = m2) && allb m (fun k => decide (g k = g2 k)))) = b9 := by rw [← hb, show k = m by omega]
                            refine n_iload hC dX3_akin_167 rfl ?_
                            refine n_if_eqB hC (tgt := 176) dX3_akin_169 (by decide) (fun c_169 => ?_) (fun c_169 => ?_)
                            · skip
                              refine n_iconst hC (v := nI 0) dX3_akin_176 (by decide) ?_
                              exact n_iret hC dX3_akin_177 (by decide) (by decide) (⟨rfl, by unfold o_akin; dsimp only; rw [if_neg hna, if_neg hnb, if_neg c_32, hff1, hff2]; dsimp only; rw [hb9, c_169]; rfl, _, rfl, mEq.fr (S := [35, 36, 37, 38]) (by decide) (mFr.cmp (by decide) (by decide) hF3 hF2)⟩)
                            · skip
                              refine n_iconst hC (v := nI 1) dX3_akin_172 (by decide) ?_
                              refine n_goto hC (tgt := 177) dX3_akin_173 (by decide) ?_
                              exact n_iret hC dX3_akin_177 (by decide) (by decide) (⟨rfl, by unfold o_akin; dsimp only; rw [if_neg hna, if_neg hnb, if_neg c_32, hff1, hff2]; dsimp only; rw [hb9, c_169]; rfl, _, rfl, mEq.fr (S := [35, 36, 37, 38]) (by decide) (mFr.cmp (by decide) (by decide) hF3 hF2)⟩)
                          · skip
                            refine n_iload hC dX3_akin_132 rfl ?_
                            refine n_if_eqB hC (tgt := 167) dX3_akin_134 (by decide) (fun c_134 => ?_) (fun c_134 => ?_)
                            · skip
                              have hb9 : (decide (t = t2) && (decide (m = m2) && allb m (fun k => decide (g k = g2 k)))) = b9 := by rw [c_134] at hb; cases hz : (decide (t = t2) && (decide (m = m2) && allb m (fun k => decide (g k = g2 k)))) with
                                | false => exact c_134.symm
                                | true =>
                                  rw [Bool.and_eq_true, Bool.and_eq_true] at hz
                                  rw [hz.1, hz.2.1, allb_mono (by omega) hz.2.2] at hb
                                  cases hb
                              refine n_iload hC dX3_akin_167 rfl ?_
                              refine n_if_eqB hC (tgt := 176) dX3_akin_169 (by decide) (fun c_169 => ?_) (fun c_169 => ?_)
                              · skip
                                refine n_iconst hC (v := nI 0) dX3_akin_176 (by decide) ?_
                                exact n_iret hC dX3_akin_177 (by decide) (by decide) (⟨rfl, by unfold o_akin; dsimp only; rw [if_neg hna, if_neg hnb, if_neg c_32, hff1, hff2]; dsimp only; rw [hb9, c_169]; rfl, _, rfl, mEq.fr (S := [35, 36, 37, 38]) (by decide) (mFr.cmp (by decide) (by decide) hF3 hF2)⟩)
                              · skip
                                refine n_iconst hC (v := nI 1) dX3_akin_172 (by decide) ?_
                                refine n_goto hC (tgt := 177) dX3_akin_173 (by decide) ?_
                                exact n_iret hC dX3_akin_177 (by decide) (by decide) (⟨rfl, by unfold o_akin; dsimp only; rw [if_neg hna, if_neg hnb, if_neg c_32, hff1, hff2]; dsimp only; rw [hb9, c_169]; rfl, _, rfl, mEq.fr (S := [35, 36, 37, 38]) (by decide) (mFr.cmp (by decide) (by decide) hF3 hF2)⟩)
                            · skip
                              have hb3 := hb.trans c_134
                              rw [Bool.and_eq_true, Bool.and_eq_true, decide_eq_true_iff, decide_eq_true_iff] at hb3
                              have hmm := hb3.2.1
                              have gk1 := k14 k (by omega)
                              have gk2 := k24 k (by omega)
                              refine n_aload_n hC dX3_akin_137 rfl ?_
                              refine m_getA hC 35 dX3_akin_138 rfl rfl ?_
                              refine n_iload hC dX3_akin_141 rfl ?_
                              refine m_aldN hC 35 (v := nI (g2 k)) dX3_akin_143 rfl rfl (by have h9 : mLen 35 = 300 := rfl; omega) (hfr2.2 k (by omega)) ?_
                              refine n_aload_n hC dX3_akin_144 rfl ?_
                              refine m_getA hC 36 dX3_akin_145 rfl rfl ?_
                              refine n_iload hC dX3_akin_148 rfl ?_
                              refine m_aldN hC 36 (v := nI (g k)) dX3_akin_150 rfl rfl (by have h9 : mLen 36 = 300 := rfl; omega) (h36m k (by omega)) ?_
                              refine n_icmp_neN hC (tgt := 158) dX3_akin_151 (by decide) (by omega) (by omega) (fun c_151 => ?_) (fun c_151 => ?_)
                              · skip
                                refine n_iconst hC (v := nbo false) dX3_akin_158 (by decide) ?_
                                refine n_istore hC dX3_akin_159 (Nat.le_of_ble_eq_true rfl) ?_
                                refine n_iincN hC dX3_akin_161 (j := 1) (c := k + 1) rfl (by decide) rfl ?_
                                refine n_goto hC (tgt := 125) dX3_akin_164 (by decide) ?_
                                exact WN.forget (L' := [some (.ref (na 61)), some (.int a), some (.int b), some (.int (iI t)), some (.int (nI m)), some (.int (nbo false)), some (.int (nI (k + 1)))]) (⟨Or.inr rfl, Or.inr rfl, Or.inr rfl, Or.inr rfl, Or.inr rfl, Or.inr rfl, Or.inr rfl, trivial⟩) (ih125 _ (by omega) (k + 1) false rfl (by omega) (by show (decide _ && (decide _ && (allb k _ && decide (g k = g2 k)))) = false; rw [← Bool.and_assoc (decide (m = m2)), ← Bool.and_assoc (decide (t = t2)), hb, c_134]; exact decide_eq_false (by omega)))
                              · skip
                                refine n_iconst hC (v := nbo true) dX3_akin_154 (by decide) ?_
                                refine n_goto hC (tgt := 159) dX3_akin_155 (by decide) ?_
                                refine n_istore hC dX3_akin_159 (Nat.le_of_ble_eq_true rfl) ?_
                                refine n_iincN hC dX3_akin_161 (j := 1) (c := k + 1) rfl (by decide) rfl ?_
                                refine n_goto hC (tgt := 125) dX3_akin_164 (by decide) ?_
                                exact WN.forget (L' := [some (.ref (na 61)), some (.int a), some (.int b), some (.int (iI t)), some (.int (nI m)), some (.int (nbo true)), some (.int (nI (k + 1)))]) (⟨Or.inr rfl, Or.inr rfl, Or.inr rfl, Or.inr rfl, Or.inr rfl, Or.inr rfl, Or.inr rfl, trivial⟩) (ih125 _ (by omega) (k + 1) true rfl (by omega) (by show (decide _ && (decide _ && (allb k _ && decide (g k = g2 k)))) = true; rw [← Bool.and_assoc (decide (m = m2)), ← Bool.and_assoc (decide (t = t2)), hb, c_134]; exact decide_eq_true (by omega)))
                      exact WN.forget (L' := [some (.ref (na 61)), some (.int a), some (.int b), some (.int (iI t)), some (.int (nI m)), some (.int (nbo true)), some (.int (nI 0))]) (⟨Or.inr rfl, Or.inr rfl, Or.inr rfl, Or.inr rfl, Or.inr rfl, Or.inr rfl, Or.inr rfl, trivial⟩) (lp125 _ 0 true rfl (by omega) (by show (decide _ && (decide _ && true)) = _; rw [decide_eq_true (show m = m2 from c_112), decide_eq_true ett]; rfl))
              · skip
                refine n_aload_n hC dX3_akin_67 rfl ?_
                refine m_getA hC 36 dX3_akin_68 rfl rfl ?_
                refine n_iload hC dX3_akin_71 rfl ?_
                refine n_aload_n hC dX3_akin_73 rfl ?_
                refine m_getA hC 35 dX3_akin_74 rfl rfl ?_
                refine n_iload hC dX3_akin_77 rfl ?_
                refine m_aldN hC 35 (v := M3 35 k) dX3_akin_79 rfl rfl (by have h9 : mLen 35 = 300 := rfl; omega) rfl ?_
                refine m_astN hC 36 (M2 := mset M3 36 (upd (M3 36) k (M3 35 k))) dX3_akin_80 rfl rfl (by have h9 : mLen 36 = 300 := rfl; omega) rfl ?_
                refine n_iincN hC dX3_akin_81 (j := 1) (c := k + 1) rfl (by decide) rfl ?_
                refine n_goto hC (tgt := 60) dX3_akin_84 (by decide) ?_
                exact WN.forget (L' := [some (.ref (na 61)), some (.int a), some (.int b), some (.int (iI t)), some (.int (nI m)), some (.int (nI (k + 1))), none]) (⟨Or.inr rfl, Or.inr rfl, Or.inr rfl, Or.inr rfl, Or.inr rfl, Or.inr rfl, Or.inl rfl, trivial⟩) (ih60 _ (by omega) (k + 1) (mset M3 36 (upd (M3 36) k (M3 35 k))) rfl (by omega) (mFr.set (by decide) hF3) h35 (lt_s (fun q hq => by show upd (M3 36) k _ q = _; unfold upd; rw [if_neg (by omega)]; exact h36 q hq) (by show upd (M3 36) k _ k = _; unfold upd; rw [if_pos rfl]; exact h35 k (by omega))))
          exact WN.forget (L' := [some (.ref (na 61)), some (.int a), some (.int b), some (.int (iI t)), some (.int (nI m)), some (.int (nI 0)), none]) (⟨Or.inr rfl, Or.inr rfl, Or.inr rfl, Or.inr rfl, Or.inr rfl, Or.inr rfl, Or.inl rfl, trivial⟩) (lp60 _ 0 M2 rfl (by omega) (mFr.wk (by decide) hF1) hfr1.2 lt_0)
    · skip
      refine n_aload_n hC dX3_akin_18 rfl ?_
      refine n_iload_n hC dX3_akin_19 rfl ?_
      refine n_callV1z hC (mt_X3_isFigure na h (M) (b) (n := mN M 26) h26 (by omega)) md_X3_isFigure q1419 dX3_akin_20 rfl (mPut_o _ _ _) rfl rfl ⟨rfl, rfl, by decide, by decide⟩ rfl (Nat.le_of_ble_eq_true rfl) (by decide) (by decide) (fun r2 na2 h2 hp2 => ?_)
      obtain ⟨rfl, rfl, rfl⟩ := hp2
      refine n_if_neB hC (tgt := 28) dX3_akin_23 (by decide) (fun c_23 => ?_) (fun c_23 => ?_)
      · skip
        have hbv : b = -1 ∨ nin b (mN M 26) = true := Or.inr c_23
        have hnb : ¬ (b ≠ -1 ∧ nin b (mN M 26) = false) := fun z => hbv.elim z.1 (fun e => by rw [e] at z; exact absurd z.2 (by decide))
        have hx1 := mSx hI9 hav
        have hx2 := mSx hI9 hbv
        refine n_aload_n hC dX3_akin_28 rfl ?_
        refine m_getI hC 1 (v := nI (mN M 1)) dX3_akin_29 rfl rfl (by decide) h1 ?_
        refine n_if_eqN hC (tgt := 43) dX3_akin_32 (by decide) (by omega) (fun c_32 => ?_) (fun c_32 => ?_)
        · skip
          refine n_bipush hC (v := (-3)) dX3_akin_43 (by decide) ?_
          exact n_iret hC dX3_akin_45 (by decide) (by decide) (⟨rfl, by unfold o_akin; dsimp only; rw [if_neg hna, if_neg hnb, if_pos c_32], _, rfl, mEq.fr (S := [35, 36, 37, 38]) (by decide) (mFr.rf)⟩)
        · skip
          refine n_aload_n hC dX3_akin_35 rfl ?_
          refine n_iload_n hC dX3_akin_36 rfl ?_
          refine n_callV1z hC (mt_X3_findForm na h M (f := a) (n := mN M 1) (c := mSn M a) (st := mSt M a) h1 (by omega) b1 hx1.1 hx1.2.1 hx1.2.2) md_X3_findForm q1449 dX3_akin_37 rfl (mPut_o _ _ _) rfl rfl ⟨rfl, rfl, by decide, by decide⟩ rfl (Nat.le_of_ble_eq_true rfl) (by decide) (by decide) (fun r3 na3 h3 hp3 => ?_)
          obtain ⟨rfl, M2, rfl, hF1, hmf1⟩ := hp3
          skip
          rcases hff1 : fform (mN M 1) (mSt M a) (mSn M a) with _ | ⟨t, g, m⟩ <;> rw [hff1] at hmf1
          · skip
            dsimp only at hmf1
            subst hmf1
            refine n_if_neN hC (tgt := 46) dX3_akin_40 (by decide) (by omega) (fun c_40 => absurd c_40 (by decide)) (fun c_40 => ?_)
            refine n_bipush hC (v := (-3)) dX3_akin_43 (by decide) ?_
            exact n_iret hC dX3_akin_45 (by decide) (by decide) (⟨rfl, by unfold o_akin; dsimp only; rw [if_neg hna, if_neg hnb, if_neg c_32, hff1], _, rfl, mEq.fr (S := [35, 36, 37, 38]) (by decide) (mFr.wk (by decide) hF1)⟩)
          · skip
            obtain ⟨hr1, hfr1, h38_1⟩ := hmf1
            subst hr1
            obtain ⟨k11, k12, k13, k14⟩ := fform_ok (by omega) b1 hff1
            refine n_if_neN hC (tgt := 46) dX3_akin_40 (by decide) (by omega) (fun c_40 => ?_) (fun c_40 => absurd c_40 (by decide))
            refine n_aload_n hC dX3_akin_46 rfl ?_
            refine m_getI hC 38 (v := iI t) dX3_akin_47 rfl rfl (by decide) h38_1 ?_
            refine n_istore_n hC dX3_akin_50 (Nat.le_of_ble_eq_true rfl) ?_
            refine n_aload_n hC dX3_akin_51 rfl ?_
            refine m_getI hC 37 (v := nI m) dX3_akin_52 rfl rfl (by decide) hfr1.1 ?_
            refine n_istore hC dX3_akin_55 (Nat.le_of_ble_eq_true rfl) ?_
            refine n_iconst hC (v := nI 0) dX3_akin_57 (by decide) ?_
            refine n_istore hC dX3_akin_58 (Nat.le_of_ble_eq_true rfl) ?_
            have lp60 : ∀ d9 : Nat, ∀ (k : Nat) (M3 : nMem), m - k = d9 → (k ≤ m) → (mFr [35, 36, 37, 38] M M3) → (∀ q, q < m → M3 35 q = nI (g q)) → (∀ q, q < k → M3 36 q = nI (g q)) → WN K na (mPut na h M3) 0 0 Q9 60 [some (.ref (na 61)), some (.int a), some (.int b), some (.int (iI t)), some (.int (nI m)), some (.int (nI k)), none] [] := by
              intro d9
              induction d9 using Nat.strongRecOn with
              | _ d9 ih60 =>
                intro k M3 hd60 hk hF3 h35 h36
                refine n_iload hC dX3_akin_60 rfl ?_
                refine n_iload hC dX3_akin_62 rfl ?_
                refine n_icmp_geN hC (tgt := 87) dX3_akin_64 (by decide) (by omega) (by omega) (fun c_64 => ?_) (fun c_64 => ?_)
                · skip
                  have hk9 : k = m := by omega
                  refine n_aload_n hC dX3_akin_87 rfl ?_
                  refine n_iload_n hC dX3_akin_88 rfl ?_
                  refine n_callV1z hC (mt_X3_findForm na h M3 (f := b) (n := mN M 1) (c := mSn M b) (st := mSt M b) ((congrFun (hF3 1 (by decide)) 0).trans h1) (by omega) b1 (hx2.1.fr hF3 (by decide)) hx2.2.1 (fun k hk => ⟨(hx2.2.2 k hk).1.fr hF3 (by decide), (hx2.2.2 k hk).2⟩)) md_X3_findForm q1449 dX3_akin_89 rfl (mPut_o _ _ _) rfl rfl ⟨rfl, rfl, by decide, by decide⟩ rfl (Nat.le_of_ble_eq_true rfl) (by decide) (by decide) (fun r4 na4 h4 hp4 => ?_)
                  obtain ⟨rfl, M4, rfl, hF2, hmf2⟩ := hp4
                  skip
                  rcases hff2 : fform (mN M 1) (mSt M b) (mSn M b) with _ | ⟨t2, g2, m2⟩ <;> rw [hff2] at hmf2
                  · skip
                    dsimp only at hmf2
                    subst hmf2
                    refine n_if_neN hC (tgt := 98) dX3_akin_92 (by decide) (by omega) (fun c_92 => absurd c_92 (by decide)) (fun c_92 => ?_)
                    refine n_bipush hC (v := (-3)) dX3_akin_95 (by decide) ?_
                    exact n_iret hC dX3_akin_97 (by decide) (by decide) (⟨rfl, by unfold o_akin; dsimp only; rw [if_neg hna, if_neg hnb, if_neg c_32, hff1, hff2], _, rfl, mEq.fr (S := [35, 36, 37, 38]) (by decide) (mFr.cmp (by decide) (by decide) hF3 hF2)⟩)
                  · skip
                    obtain ⟨hr2, hfr2, h38_2⟩ := hmf2
                    subst hr2
                    obtain ⟨k21, k22, k23, k24⟩ := fform_ok (by omega) b1 hff2
                    refine n_if_neN hC (tgt := 98) dX3_akin_92 (by decide) (by omega) (fun c_92 => ?_) (fun c_92 => absurd c_92 (by decide))
                    have h36m : ∀ q, q < m → M4 36 q = nI (g q) := fun q hq => (congrFun (hF2 36 (by decide)) q).trans (h36 q (by omega))
                    have hx12 := hx1.2.1
                    have hx22 := hx2.2.1
                    refine n_iload_n hC dX3_akin_98 rfl ?_
                    refine n_aload_n hC dX3_akin_99 rfl ?_
                    refine m_getI hC 38 (v := iI t2) dX3_akin_100 rfl rfl (by decide) h38_2 ?_
                    refine n_icmp_ne hC (tgt := 119) dX3_akin_103 (by decide) (fun c_103 => ?_) (fun c_103 => ?_)
                    · skip
                      refine n_iconst hC (v := nbo false) dX3_akin_119 (by decide) ?_
                      refine n_istore hC dX3_akin_120 (Nat.le_of_ble_eq_true rfl) ?_
                      refine n_iconst hC (v := nI 0) dX3_akin_122 (by decide) ?_
                      refine n_istore hC dX3_akin_123 (Nat.le_of_ble_eq_true rfl) ?_
                      have lp125 : ∀ d9 : Nat, ∀ (k : Nat) (b9 : Bool), m - k = d9 → (k ≤ m) → ((decide (t = t2) && (decide (m = m2) && allb k (fun k => decide (g k = g2 k)))) = b9) → WN K na (mPut na h M4) 0 0 Q9 125 [some (.ref (na 61)), some (.int a), some (.int b), some (.int (iI t)), some (.int (nI m)), some (.int (nbo b9)), some (.int (nI k))] [] := by
                        intro d9
                        induction d9 using Nat.strongRecOn with
                        | _ d9 ih125 =>
                          intro k b9 hd125 hk2 hb
                          refine n_iload hC dX3_akin_125 rfl ?_
                          refine n_iload hC dX3_akin_127 rfl ?_
                          refine n_icmp_geN hC (tgt := 167) dX3_akin_129 (by decide) (by omega) (by omega) (fun c_129 => ?_) (fun c_129 => ?_)
                          · skip
                            have hb9 : (decide (t = t2) && (decide (m = m2) && allb m (fun k => decide (g k = g2 k)))) = b9 := by rw [← hb, show k = m by omega]
                            refine n_iload hC dX3_akin_167 rfl ?_
                            refine n_if_eqB hC (tgt := 176) dX3_akin_169 (by decide) (fun c_169 => ?_) (fun c_169 => ?_)
                            · skip
                              refine n_iconst hC (v := nI 0) dX3_akin_176 (by decide) ?_
                              exact n_iret hC dX3_akin_177 (by decide) (by decide) (⟨rfl, by unfold o_akin; dsimp only; rw [if_neg hna, if_neg hnb, if_neg c_32, hff1, hff2]; dsimp only; rw [hb9, c_169]; rfl, _, rfl, mEq.fr (S := [35, 36, 37, 38]) (by decide) (mFr.cmp (by decide) (by decide) hF3 hF2)⟩)
                            · skip
                              refine n_iconst hC (v := nI 1) dX3_akin_172 (by decide) ?_
                              refine n_goto hC (tgt := 177) dX3_akin_173 (by decide) ?_
                              exact n_iret hC dX3_akin_177 (by decide) (by decide) (⟨rfl, by unfold o_akin; dsimp only; rw [if_neg hna, if_neg hnb, if_neg c_32, hff1, hff2]; dsimp only; rw [hb9, c_169]; rfl, _, rfl, mEq.fr (S := [35, 36, 37, 38]) (by decide) (mFr.cmp (by decide) (by decide) hF3 hF2)⟩)
                          · skip
                            refine n_iload hC dX3_akin_132 rfl ?_
                            refine n_if_eqB hC (tgt := 167) dX3_akin_134 (by decide) (fun c_134 => ?_) (fun c_134 => ?_)
                            · skip
                              have hb9 : (decide (t = t2) && (decide (m = m2) && allb m (fun k => decide (g k = g2 k)))) = b9 := by rw [c_134] at hb; cases hz : (decide (t = t2) && (decide (m = m2) && allb m (fun k => decide (g k = g2 k)))) with
                                | false => exact c_134.symm
                                | true =>
                                  rw [Bool.and_eq_true, Bool.and_eq_true] at hz
                                  rw [hz.1, hz.2.1, allb_mono (by omega) hz.2.2] at hb
                                  cases hb
                              refine n_iload hC dX3_akin_167 rfl ?_
                              refine n_if_eqB hC (tgt := 176) dX3_akin_169 (by decide) (fun c_169 => ?_) (fun c_169 => ?_)
                              · skip
                                refine n_iconst hC (v := nI 0) dX3_akin_176 (by decide) ?_
                                exact n_iret hC dX3_akin_177 (by decide) (by decide) (⟨rfl, by unfold o_akin; dsimp only; rw [if_neg hna, if_neg hnb, if_neg c_32, hff1, hff2]; dsimp only; rw [hb9, c_169]; rfl, _, rfl, mEq.fr (S := [35, 36, 37, 38]) (by decide) (mFr.cmp (by decide) (by decide) hF3 hF2)⟩)
                              · skip
                                refine n_iconst hC (v := nI 1) dX3_akin_172 (by decide) ?_
                                refine n_goto hC (tgt := 177) dX3_akin_173 (by decide) ?_
                                exact n_iret hC dX3_akin_177 (by decide) (by decide) (⟨rfl, by unfold o_akin; dsimp only; rw [if_neg hna, if_neg hnb, if_neg c_32, hff1, hff2]; dsimp only; rw [hb9, c_169]; rfl, _, rfl, mEq.fr (S := [35, 36, 37, 38]) (by decide) (mFr.cmp (by decide) (by decide) hF3 hF2)⟩)
                            · skip
                              have hb3 := hb.trans c_134
                              rw [Bool.and_eq_true, Bool.and_eq_true, decide_eq_true_iff, decide_eq_true_iff] at hb3
                              have hmm := hb3.2.1
                              have gk1 := k14 k (by omega)
                              have gk2 := k24 k (by omega)
                              refine n_aload_n hC dX3_akin_137 rfl ?_
                              refine m_getA hC 35 dX3_akin_138 rfl rfl ?_
                              refine n_iload hC dX3_akin_141 rfl ?_
                              refine m_aldN hC 35 (v := nI (g2 k)) dX3_akin_143 rfl rfl (by have h9 : mLen 35 = 300 := rfl; omega) (hfr2.2 k (by omega)) ?_
                              refine n_aload_n hC dX3_akin_144 rfl ?_
                              refine m_getA hC 36 dX3_akin_145 rfl rfl ?_
                              refine n_iload hC dX3_akin_148 rfl ?_
                              refine m_aldN hC 36 (v := nI (g k)) dX3_akin_150 rfl rfl (by have h9 : mLen 36 = 300 := rfl; omega) (h36m k (by omega)) ?_
                              refine n_icmp_neN hC (tgt := 158) dX3_akin_151 (by decide) (by omega) (by omega) (fun c_151 => ?_) (fun c_151 => ?_)
                              · skip
                                refine n_iconst hC (v := nbo false) dX3_akin_158 (by decide) ?_
                                refine n_istore hC dX3_akin_159 (Nat.le_of_ble_eq_true rfl) ?_
                                refine n_iincN hC dX3_akin_161 (j := 1) (c := k + 1) rfl (by decide) rfl ?_
                                refine n_goto hC (tgt := 125) dX3_akin_164 (by decide) ?_
                                exact WN.forget (L' := [some (.ref (na 61)), some (.int a), some (.int b), some (.int (iI t)), some (.int (nI m)), some (.int (nbo false)), some (.int (nI (k + 1)))]) (⟨Or.inr rfl, Or.inr rfl, Or.inr rfl, Or.inr rfl, Or.inr rfl, Or.inr rfl, Or.inr rfl, trivial⟩) (ih125 _ (by omega) (k + 1) false rfl (by omega) (by show (decide _ && (decide _ && (allb k _ && decide (g k = g2 k)))) = false; rw [← Bool.and_assoc (decide (m = m2)), ← Bool.and_assoc (decide (t = t2)), hb, c_134]; exact decide_eq_false (by omega)))
                              · skip
                                refine n_iconst hC (v := nbo true) dX3_akin_154 (by decide) ?_
                                refine n_goto hC (tgt := 159) dX3_akin_155 (by decide) ?_
                                refine n_istore hC dX3_akin_159 (Nat.le_of_ble_eq_true rfl) ?_
                                refine n_iincN hC dX3_akin_161 (j := 1) (c := k + 1) rfl (by decide) rfl ?_
                                refine n_goto hC (tgt := 125) dX3_akin_164 (by decide) ?_
                                exact WN.forget (L' := [some (.ref (na 61)), some (.int a), some (.int b), some (.int (iI t)), some (.int (nI m)), some (.int (nbo true)), some (.int (nI (k + 1)))]) (⟨Or.inr rfl, Or.inr rfl, Or.inr rfl, Or.inr rfl, Or.inr rfl, Or.inr rfl, Or.inr rfl, trivial⟩) (ih125 _ (by omega) (k + 1) true rfl (by omega) (by show (decide _ && (decide _ && (allb k _ && decide (g k = g2 k)))) = true; rw [← Bool.and_assoc (decide (m = m2)), ← Bool.and_assoc (decide (t = t2)), hb, c_134]; exact decide_eq_true (by omega)))
                      exact WN.forget (L' := [some (.ref (na 61)), some (.int a), some (.int b), some (.int (iI t)), some (.int (nI m)), some (.int (nbo false)), some (.int (nI 0))]) (⟨Or.inr rfl, Or.inr rfl, Or.inr rfl, Or.inr rfl, Or.inr rfl, Or.inr rfl, Or.inr rfl, trivial⟩) (lp125 _ 0 false rfl (by omega) (by show (decide _ && (decide _ && true)) = _; rw [decide_eq_false (fun e => c_103 (by rw [e]))]; rfl))
                    · skip
                      have ett := iI_inj (by omega) (by omega) c_103
                      refine n_iload hC dX3_akin_106 rfl ?_
                      refine n_aload_n hC dX3_akin_108 rfl ?_
                      refine m_getI hC 37 (v := nI m2) dX3_akin_109 rfl rfl (by decide) hfr2.1 ?_
                      refine n_icmp_neN hC (tgt := 119) dX3_akin_112 (by decide) (by omega) (by omega) (fun c_112 => ?_) (fun c_112 => ?_)
                      · skip
                        refine n_iconst hC (v := nbo false) dX3_akin_119 (by decide) ?_
                        refine n_istore hC dX3_akin_120 (Nat.le_of_ble_eq_true rfl) ?_
                        refine n_iconst hC (v := nI 0) dX3_akin_122 (by decide) ?_
                        refine n_istore hC dX3_akin_123 (Nat.le_of_ble_eq_true rfl) ?_
                        have lp125 : ∀ d9 : Nat, ∀ (k : Nat) (b9 : Bool), m - k = d9 → (k ≤ m) → ((decide (t = t2) && (decide (m = m2) && allb k (fun k => decide (g k = g2 k)))) = b9) → WN K na (mPut na h M4) 0 0 Q9 125 [some (.ref (na 61)), some (.int a), some (.int b), some (.int (iI t)), some (.int (nI m)), some (.int (nbo b9)), some (.int (nI k))] [] := by
                          intro d9
                          induction d9 using Nat.strongRecOn with
                          | _ d9 ih125 =>
                            intro k b9 hd125 hk2 hb
                            refine n_iload hC dX3_akin_125 rfl ?_
                            refine n_iload hC dX3_akin_127 rfl ?_
                            refine n_icmp_geN hC (tgt := 167) dX3_akin_129 (by decide) (by omega) (by omega) (fun c_129 => ?_) (fun c_129 => ?_)
                            · skip
                              have hb9 : (decide (t = t2) && (decide (m = m2) && allb m (fun k => decide (g k = g2 k)))) = b9 := by rw [← hb, show k = m by omega]
                              refine n_iload hC dX3_akin_167 rfl ?_
                              refine n_if_eqB hC (tgt := 176) dX3_akin_169 (by decide) (fun c_169 => ?_) (fun c_169 => ?_)
                              · skip
                                refine n_iconst hC (v := nI 0) dX3_akin_176 (by decide) ?_
                                exact n_iret hC dX3_akin_177 (by decide) (by decide) (⟨rfl, by unfold o_akin; dsimp only; rw [if_neg hna, if_neg hnb, if_neg c_32, hff1, hff2]; dsimp only; rw [hb9, c_169]; rfl, _, rfl, mEq.fr (S := [35, 36, 37, 38]) (by decide) (mFr.cmp (by decide) (by decide) hF3 hF2)⟩)
                              · skip
                                refine n_iconst hC (v := nI 1) dX3_akin_172 (by decide) ?_
                                refine n_goto hC (tgt := 177) dX3_akin_173 (by decide) ?_
                                exact n_iret hC dX3_akin_177 (by decide) (by decide) (⟨rfl, by unfold o_akin; dsimp only; rw [if_neg hna, if_neg hnb, if_neg c_32, hff1, hff2]; dsimp only; rw [hb9, c_169]; rfl, _, rfl, mEq.fr (S := [35, 36, 37, 38]) (by decide) (mFr.cmp (by decide) (by decide) hF3 hF2)⟩)
                            · skip
                              refine n_iload hC dX3_akin_132 rfl ?_
                              refine n_if_eqB hC (tgt := 167) dX3_akin_134 (by decide) (fun c_134 => ?_) (fun c_134 => ?_)
                              · skip
                                have hb9 : (decide (t = t2) && (decide (m = m2) && allb m (fun k => decide (g k = g2 k)))) = b9 := by rw [c_134] at hb; cases hz : (decide (t = t2) && (decide (m = m2) && allb m (fun k => decide (g k = g2 k)))) with
                                  | false => exact c_134.symm
                                  | true =>
                                    rw [Bool.and_eq_true, Bool.and_eq_true] at hz
                                    rw [hz.1, hz.2.1, allb_mono (by omega) hz.2.2] at hb
                                    cases hb
                                refine n_iload hC dX3_akin_167 rfl ?_
                                refine n_if_eqB hC (tgt := 176) dX3_akin_169 (by decide) (fun c_169 => ?_) (fun c_169 => ?_)
                                · skip
                                  refine n_iconst hC (v := nI 0) dX3_akin_176 (by decide) ?_
                                  exact n_iret hC dX3_akin_177 (by decide) (by decide) (⟨rfl, by unfold o_akin; dsimp only; rw [if_neg hna, if_neg hnb, if_neg c_32, hff1, hff2]; dsimp only; rw [hb9, c_169]; rfl, _, rfl, mEq.fr (S := [35, 36, 37, 38]) (by decide) (mFr.cmp (by decide) (by decide) hF3 hF2)⟩)
                                · skip
                                  refine n_iconst hC (v := nI 1) dX3_akin_172 (by decide) ?_
                                  refine n_goto hC (tgt := 177) dX3_akin_173 (by decide) ?_
                                  exact n_iret hC dX3_akin_177 (by decide) (by decide) (⟨rfl, by unfold o_akin; dsimp only; rw [if_neg hna, if_neg hnb, if_neg c_32, hff1, hff2]; dsimp only; rw [hb9, c_169]; rfl, _, rfl, mEq.fr (S := [35, 36, 37, 38]) (by decide) (mFr.cmp (by decide) (by decide) hF3 hF2)⟩)
                              · skip
                                have hb3 := hb.trans c_134
                                rw [Bool.and_eq_true, Bool.and_eq_true, decide_eq_true_iff, decide_eq_true_iff] at hb3
                                have hmm := hb3.2.1
                                have gk1 := k14 k (by omega)
                                have gk2 := k24 k (by omega)
                                refine n_aload_n hC dX3_akin_137 rfl ?_
                                refine m_getA hC 35 dX3_akin_138 rfl rfl ?_
                                refine n_iload hC dX3_akin_141 rfl ?_
                                refine m_aldN hC 35 (v := nI (g2 k)) dX3_akin_143 rfl rfl (by have h9 : mLen 35 = 300 := rfl; omega) (hfr2.2 k (by omega)) ?_
                                refine n_aload_n hC dX3_akin_144 rfl ?_
                                refine m_getA hC 36 dX3_akin_145 rfl rfl ?_
                                refine n_iload hC dX3_akin_148 rfl ?_
                                refine m_aldN hC 36 (v := nI (g k)) dX3_akin_150 rfl rfl (by have h9 : mLen 36 = 300 := rfl; omega) (h36m k (by omega)) ?_
                                refine n_icmp_neN hC (tgt := 158) dX3_akin_151 (by decide) (by omega) (by omega) (fun c_151 => ?_) (fun c_151 => ?_)
                                · skip
                                  refine n_iconst hC (v := nbo false) dX3_akin_158 (by decide) ?_
                                  refine n_istore hC dX3_akin_159 (Nat.le_of_ble_eq_true rfl) ?_
                                  refine n_iincN hC dX3_akin_161 (j := 1) (c := k + 1) rfl (by decide) rfl ?_
                                  refine n_goto hC (tgt := 125) dX3_akin_164 (by decide) ?_
                                  exact WN.forget (L' := [some (.ref (na 61)), some (.int a), some (.int b), some (.int (iI t)), some (.int (nI m)), some (.int (nbo false)), some (.int (nI (k + 1)))]) (⟨Or.inr rfl, Or.inr rfl, Or.inr rfl, Or.inr rfl, Or.inr rfl, Or.inr rfl, Or.inr rfl, trivial⟩) (ih125 _ (by omega) (k + 1) false rfl (by omega) (by show (decide _ && (decide _ && (allb k _ && decide (g k = g2 k)))) = false; rw [← Bool.and_assoc (decide (m = m2)), ← Bool.and_assoc (decide (t = t2)), hb, c_134]; exact decide_eq_false (by omega)))
                                · skip
                                  refine n_iconst hC (v := nbo true) dX3_akin_154 (by decide) ?_
                                  refine n_goto hC (tgt := 159) dX3_akin_155 (by decide) ?_
                                  refine n_istore hC dX3_akin_159 (Nat.le_of_ble_eq_true rfl) ?_
                                  refine n_iincN hC dX3_akin_161 (j := 1) (c := k + 1) rfl (by decide) rfl ?_
                                  refine n_goto hC (tgt := 125) dX3_akin_164 (by decide) ?_
                                  exact WN.forget (L' := [some (.ref (na 61)), some (.int a), some (.int b), some (.int (iI t)), some (.int (nI m)), some (.int (nbo true)), some (.int (nI (k + 1)))]) (⟨Or.inr rfl, Or.inr rfl, Or.inr rfl, Or.inr rfl, Or.inr rfl, Or.inr rfl, Or.inr rfl, trivial⟩) (ih125 _ (by omega) (k + 1) true rfl (by omega) (by show (decide _ && (decide _ && (allb k _ && decide (g k = g2 k)))) = true; rw [← Bool.and_assoc (decide (m = m2)), ← Bool.and_assoc (decide (t = t2)), hb, c_134]; exact decide_eq_true (by omega)))
                        exact WN.forget (L' := [some (.ref (na 61)), some (.int a), some (.int b), some (.int (iI t)), some (.int (nI m)), some (.int (nbo false)), some (.int (nI 0))]) (⟨Or.inr rfl, Or.inr rfl, Or.inr rfl, Or.inr rfl, Or.inr rfl, Or.inr rfl, Or.inr rfl, trivial⟩) (lp125 _ 0 false rfl (by omega) (by show (decide _ && (decide _ && true)) = _; rw [decide_eq_false (show ¬ m = m2 from c_112), Bool.false_and, Bool.and_false]))
                      · skip
                        refine n_iconst hC (v := nbo true) dX3_akin_115 (by decide) ?_
                        refine n_goto hC (tgt := 120) dX3_akin_116 (by decide) ?_
                        refine n_istore hC dX3_akin_120 (Nat.le_of_ble_eq_true rfl) ?_
                        refine n_iconst hC (v := nI 0) dX3_akin_122 (by decide) ?_
                        refine n_istore hC dX3_akin_123 (Nat.le_of_ble_eq_true rfl) ?_
                        have lp125 : ∀ d9 : Nat, ∀ (k : Nat) (b9 : Bool), m - k = d9 → (k ≤ m) → ((decide (t = t2) && (decide (m = m2) && allb k (fun k => decide (g k = g2 k)))) = b9) → WN K na (mPut na h M4) 0 0 Q9 125 [some (.ref (na 61)), some (.int a), some (.int b), some (.int (iI t)), some (.int (nI m)), some (.int (nbo b9)), some (.int (nI k))] [] := by
                          intro d9
                          induction d9 using Nat.strongRecOn with
                          | _ d9 ih125 =>
                            intro k b9 hd125 hk2 hb
                            refine n_iload hC dX3_akin_125 rfl ?_
                            refine n_iload hC dX3_akin_127 rfl ?_
                            refine n_icmp_geN hC (tgt := 167) dX3_akin_129 (by decide) (by omega) (by omega) (fun c_129 => ?_) (fun c_129 => ?_)
                            · skip
                              have hb9 : (decide (t = t2) && (decide (m = m2) && allb m (fun k => decide (g k = g2 k)))) = b9 := by rw [← hb, show k = m by omega]
                              refine n_iload hC dX3_akin_167 rfl ?_
                              refine n_if_eqB hC (tgt := 176) dX3_akin_169 (by decide) (fun c_169 => ?_) (fun c_169 => ?_)
                              · skip
                                refine n_iconst hC (v := nI 0) dX3_akin_176 (by decide) ?_
                                exact n_iret hC dX3_akin_177 (by decide) (by decide) (⟨rfl, by unfold o_akin; dsimp only; rw [if_neg hna, if_neg hnb, if_neg c_32, hff1, hff2]; dsimp only; rw [hb9, c_169]; rfl, _, rfl, mEq.fr (S := [35, 36, 37, 38]) (by decide) (mFr.cmp (by decide) (by decide) hF3 hF2)⟩)
                              · skip
                                refine n_iconst hC (v := nI 1) dX3_akin_172 (by decide) ?_
                                refine n_goto hC (tgt := 177) dX3_akin_173 (by decide) ?_
                                exact n_iret hC dX3_akin_177 (by decide) (by decide) (⟨rfl, by unfold o_akin; dsimp only; rw [if_neg hna, if_neg hnb, if_neg c_32, hff1, hff2]; dsimp only; rw [hb9, c_169]; rfl, _, rfl, mEq.fr (S := [35, 36, 37, 38]) (by decide) (mFr.cmp (by decide) (by decide) hF3 hF2)⟩)
                            · skip
                              refine n_iload hC dX3_akin_132 rfl ?_
                              refine n_if_eqB hC (tgt := 167) dX3_akin_134 (by decide) (fun c_134 => ?_) (fun c_134 => ?_)
                              · skip
                                have hb9 : (decide (t = t2) && (decide (m = m2) && allb m (fun k => decide (g k = g2 k)))) = b9 := by rw [c_134] at hb; cases hz : (decide (t = t2) && (decide (m = m2) && allb m (fun k => decide (g k = g2 k)))) with
                                  | false => exact c_134.symm
                                  | true =>
                                    rw [Bool.and_eq_true, Bool.and_eq_true] at hz
                                    rw [hz.1, hz.2.1, allb_mono (by omega) hz.2.2] at hb
                                    cases hb
                                refine n_iload hC dX3_akin_167 rfl ?_
                                refine n_if_eqB hC (tgt := 176) dX3_akin_169 (by decide) (fun c_169 => ?_) (fun c_169 => ?_)
                                · skip
                                  refine n_iconst hC (v := nI 0) dX3_akin_176 (by decide) ?_
                                  exact n_iret hC dX3_akin_177 (by decide) (by decide) (⟨rfl, by unfold o_akin; dsimp only; rw [if_neg hna, if_neg hnb, if_neg c_32, hff1, hff2]; dsimp only; rw [hb9, c_169]; rfl, _, rfl, mEq.fr (S := [35, 36, 37, 38]) (by decide) (mFr.cmp (by decide) (by decide) hF3 hF2)⟩)
                                · skip
                                  refine n_iconst hC (v := nI 1) dX3_akin_172 (by decide) ?_
                                  refine n_goto hC (tgt := 177) dX3_akin_173 (by decide) ?_
                                  exact n_iret hC dX3_akin_177 (by decide) (by decide) (⟨rfl, by unfold o_akin; dsimp only; rw [if_neg hna, if_neg hnb, if_neg c_32, hff1, hff2]; dsimp only; rw [hb9, c_169]; rfl, _, rfl, mEq.fr (S := [35, 36, 37, 38]) (by decide) (mFr.cmp (by decide) (by decide) hF3 hF2)⟩)
                              · skip
                                have hb3 := hb.trans c_134
                                rw [Bool.and_eq_true, Bool.and_eq_true, decide_eq_true_iff, decide_eq_true_iff] at hb3
                                have hmm := hb3.2.1
                                have gk1 := k14 k (by omega)
                                have gk2 := k24 k (by omega)
                                refine n_aload_n hC dX3_akin_137 rfl ?_
                                refine m_getA hC 35 dX3_akin_138 rfl rfl ?_
                                refine n_iload hC dX3_akin_141 rfl ?_
                                refine m_aldN hC 35 (v := nI (g2 k)) dX3_akin_143 rfl rfl (by have h9 : mLen 35 = 300 := rfl; omega) (hfr2.2 k (by omega)) ?_
                                refine n_aload_n hC dX3_akin_144 rfl ?_
                                refine m_getA hC 36 dX3_akin_145 rfl rfl ?_
                                refine n_iload hC dX3_akin_148 rfl ?_
                                refine m_aldN hC 36 (v := nI (g k)) dX3_akin_150 rfl rfl (by have h9 : mLen 36 = 300 := rfl; omega) (h36m k (by omega)) ?_
                                refine n_icmp_neN hC (tgt := 158) dX3_akin_151 (by decide) (by omega) (by omega) (fun c_151 => ?_) (fun c_151 => ?_)
                                · skip
                                  refine n_iconst hC (v := nbo false) dX3_akin_158 (by decide) ?_
                                  refine n_istore hC dX3_akin_159 (Nat.le_of_ble_eq_true rfl) ?_
                                  refine n_iincN hC dX3_akin_161 (j := 1) (c := k + 1) rfl (by decide) rfl ?_
                                  refine n_goto hC (tgt := 125) dX3_akin_164 (by decide) ?_
                                  exact WN.forget (L' := [some (.ref (na 61)), some (.int a), some (.int b), some (.int (iI t)), some (.int (nI m)), some (.int (nbo false)), some (.int (nI (k + 1)))]) (⟨Or.inr rfl, Or.inr rfl, Or.inr rfl, Or.inr rfl, Or.inr rfl, Or.inr rfl, Or.inr rfl, trivial⟩) (ih125 _ (by omega) (k + 1) false rfl (by omega) (by show (decide _ && (decide _ && (allb k _ && decide (g k = g2 k)))) = false; rw [← Bool.and_assoc (decide (m = m2)), ← Bool.and_assoc (decide (t = t2)), hb, c_134]; exact decide_eq_false (by omega)))
                                · skip
                                  refine n_iconst hC (v := nbo true) dX3_akin_154 (by decide) ?_
                                  refine n_goto hC (tgt := 159) dX3_akin_155 (by decide) ?_
                                  refine n_istore hC dX3_akin_159 (Nat.le_of_ble_eq_true rfl) ?_
                                  refine n_iincN hC dX3_akin_161 (j := 1) (c := k + 1) rfl (by decide) rfl ?_
                                  refine n_goto hC (tgt := 125) dX3_akin_164 (by decide) ?_
                                  exact WN.forget (L' := [some (.ref (na 61)), some (.int a), some (.int b), some (.int (iI t)), some (.int (nI m)), some (.int (nbo true)), some (.int (nI (k + 1)))]) (⟨Or.inr rfl, Or.inr rfl, Or.inr rfl, Or.inr rfl, Or.inr rfl, Or.inr rfl, Or.inr rfl, trivial⟩) (ih125 _ (by omega) (k + 1) true rfl (by omega) (by show (decide _ && (decide _ && (allb k _ && decide (g k = g2 k)))) = true; rw [← Bool.and_assoc (decide (m = m2)), ← Bool.and_assoc (decide (t = t2)), hb, c_134]; exact decide_eq_true (by omega)))
                        exact WN.forget (L' := [some (.ref (na 61)), some (.int a), some (.int b), some (.int (iI t)), some (.int (nI m)), some (.int (nbo true)), some (.int (nI 0))]) (⟨Or.inr rfl, Or.inr rfl, Or.inr rfl, Or.inr rfl, Or.inr rfl, Or.inr rfl, Or.inr rfl, trivial⟩) (lp125 _ 0 true rfl (by omega) (by show (decide _ && (decide _ && true)) = _; rw [decide_eq_true (show m = m2 from c_112), decide_eq_true ett]; rfl))
                · skip
                  refine n_aload_n hC dX3_akin_67 rfl ?_
                  refine m_getA hC 36 dX3_akin_68 rfl rfl ?_
                  refine n_iload hC dX3_akin_71 rfl ?_
                  refine n_aload_n hC dX3_akin_73 rfl ?_
                  refine m_getA hC 35 dX3_akin_74 rfl rfl ?_
                  refine n_iload hC dX3_akin_77 rfl ?_
                  refine m_aldN hC 35 (v := M3 35 k) dX3_akin_79 rfl rfl (by have h9 : mLen 35 = 300 := rfl; omega) rfl ?_
                  refine m_astN hC 36 (M2 := mset M3 36 (upd (M3 36) k (M3 35 k))) dX3_akin_80 rfl rfl (by have h9 : mLen 36 = 300 := rfl; omega) rfl ?_
                  refine n_iincN hC dX3_akin_81 (j := 1) (c := k + 1) rfl (by decide) rfl ?_
                  refine n_goto hC (tgt := 60) dX3_akin_84 (by decide) ?_
                  exact WN.forget (L' := [some (.ref (na 61)), some (.int a), some (.int b), some (.int (iI t)), some (.int (nI m)), some (.int (nI (k + 1))), none]) (⟨Or.inr rfl, Or.inr rfl, Or.inr rfl, Or.inr rfl, Or.inr rfl, Or.inr rfl, Or.inl rfl, trivial⟩) (ih60 _ (by omega) (k + 1) (mset M3 36 (upd (M3 36) k (M3 35 k))) rfl (by omega) (mFr.set (by decide) hF3) h35 (lt_s (fun q hq => by show upd (M3 36) k _ q = _; unfold upd; rw [if_neg (by omega)]; exact h36 q hq) (by show upd (M3 36) k _ k = _; unfold upd; rw [if_pos rfl]; exact h35 k (by omega))))
            exact WN.forget (L' := [some (.ref (na 61)), some (.int a), some (.int b), some (.int (iI t)), some (.int (nI m)), some (.int (nI 0)), none]) (⟨Or.inr rfl, Or.inr rfl, Or.inr rfl, Or.inr rfl, Or.inr rfl, Or.inr rfl, Or.inl rfl, trivial⟩) (lp60 _ 0 M2 rfl (by omega) (mFr.wk (by decide) hF1) hfr1.2 lt_0)
      · skip
        refine n_iconst hC (v := (-1)) dX3_akin_26 (by decide) ?_
        exact n_iret hC dX3_akin_27 (by decide) (by decide) (⟨rfl, by unfold o_akin; dsimp only; rw [if_neg hna, if_pos ⟨c_15, c_23⟩], M, rfl, mEq.rf⟩)
  · skip
    refine n_aload_n hC dX3_akin_5 rfl ?_
    refine n_iload_n hC dX3_akin_6 rfl ?_
    refine n_callV1z hC (mt_X3_isFigure na h (M) (a) (n := mN M 26) h26 (by omega)) md_X3_isFigure q1419 dX3_akin_7 rfl (mPut_o _ _ _) rfl rfl ⟨rfl, rfl, by decide, by decide⟩ rfl (Nat.le_of_ble_eq_true rfl) (by decide) (by decide) (fun r5 na5 h5 hp5 => ?_)
    obtain ⟨rfl, rfl, rfl⟩ := hp5
    refine n_if_eqB hC (tgt := 26) dX3_akin_10 (by decide) (fun c_10 => ?_) (fun c_10 => ?_)
    · skip
      refine n_iconst hC (v := (-1)) dX3_akin_26 (by decide) ?_
      exact n_iret hC dX3_akin_27 (by decide) (by decide) (⟨rfl, by unfold o_akin; dsimp only; rw [if_pos ⟨c_2, c_10⟩], M, rfl, mEq.rf⟩)
    · skip
      have hav : a = -1 ∨ nin a (mN M 26) = true := Or.inr c_10
      have hna : ¬ (a ≠ -1 ∧ nin a (mN M 26) = false) := fun z => hav.elim z.1 (fun e => by rw [e] at z; exact absurd z.2 (by decide))
      refine n_iload_n hC dX3_akin_13 rfl ?_
      refine n_iconst hC (v := (-1)) dX3_akin_14 (by decide) ?_
      refine n_icmp_eq hC (tgt := 28) dX3_akin_15 (by decide) (fun c_15 => ?_) (fun c_15 => ?_)
      · skip
        have hbv : b = -1 ∨ nin b (mN M 26) = true := Or.inl c_15
        have hnb : ¬ (b ≠ -1 ∧ nin b (mN M 26) = false) := fun z => hbv.elim z.1 (fun e => by rw [e] at z; exact absurd z.2 (by decide))
        have hx1 := mSx hI9 hav
        have hx2 := mSx hI9 hbv
        refine n_aload_n hC dX3_akin_28 rfl ?_
        refine m_getI hC 1 (v := nI (mN M 1)) dX3_akin_29 rfl rfl (by decide) h1 ?_
        refine n_if_eqN hC (tgt := 43) dX3_akin_32 (by decide) (by omega) (fun c_32 => ?_) (fun c_32 => ?_)
        · skip
          refine n_bipush hC (v := (-3)) dX3_akin_43 (by decide) ?_
          exact n_iret hC dX3_akin_45 (by decide) (by decide) (⟨rfl, by unfold o_akin; dsimp only; rw [if_neg hna, if_neg hnb, if_pos c_32], _, rfl, mEq.fr (S := [35, 36, 37, 38]) (by decide) (mFr.rf)⟩)
        · skip
          refine n_aload_n hC dX3_akin_35 rfl ?_
          refine n_iload_n hC dX3_akin_36 rfl ?_
          refine n_callV1z hC (mt_X3_findForm na h M (f := a) (n := mN M 1) (c := mSn M a) (st := mSt M a) h1 (by omega) b1 hx1.1 hx1.2.1 hx1.2.2) md_X3_findForm q1449 dX3_akin_37 rfl (mPut_o _ _ _) rfl rfl ⟨rfl, rfl, by decide, by decide⟩ rfl (Nat.le_of_ble_eq_true rfl) (by decide) (by decide) (fun r6 na6 h6 hp6 => ?_)
          obtain ⟨rfl, M2, rfl, hF1, hmf1⟩ := hp6
          skip
          rcases hff1 : fform (mN M 1) (mSt M a) (mSn M a) with _ | ⟨t, g, m⟩ <;> rw [hff1] at hmf1
          · skip
            dsimp only at hmf1
            subst hmf1
            refine n_if_neN hC (tgt := 46) dX3_akin_40 (by decide) (by omega) (fun c_40 => absurd c_40 (by decide)) (fun c_40 => ?_)
            refine n_bipush hC (v := (-3)) dX3_akin_43 (by decide) ?_
            exact n_iret hC dX3_akin_45 (by decide) (by decide) (⟨rfl, by unfold o_akin; dsimp only; rw [if_neg hna, if_neg hnb, if_neg c_32, hff1], _, rfl, mEq.fr (S := [35, 36, 37, 38]) (by decide) (mFr.wk (by decide) hF1)⟩)
          · skip
            obtain ⟨hr1, hfr1, h38_1⟩ := hmf1
            subst hr1
            obtain ⟨k11, k12, k13, k14⟩ := fform_ok (by omega) b1 hff1
            refine n_if_neN hC (tgt := 46) dX3_akin_40 (by decide) (by omega) (fun c_40 => ?_) (fun c_40 => absurd c_40 (by decide))
            refine n_aload_n hC dX3_akin_46 rfl ?_
            refine m_getI hC 38 (v := iI t) dX3_akin_47 rfl rfl (by decide) h38_1 ?_
            refine n_istore_n hC dX3_akin_50 (Nat.le_of_ble_eq_true rfl) ?_
            refine n_aload_n hC dX3_akin_51 rfl ?_
            refine m_getI hC 37 (v := nI m) dX3_akin_52 rfl rfl (by decide) hfr1.1 ?_
            refine n_istore hC dX3_akin_55 (Nat.le_of_ble_eq_true rfl) ?_
            refine n_iconst hC (v := nI 0) dX3_akin_57 (by decide) ?_
            refine n_istore hC dX3_akin_58 (Nat.le_of_ble_eq_true rfl) ?_
            have lp60 : ∀ d9 : Nat, ∀ (k : Nat) (M3 : nMem), m - k = d9 → (k ≤ m) → (mFr [35, 36, 37, 38] M M3) → (∀ q, q < m → M3 35 q = nI (g q)) → (∀ q, q < k → M3 36 q = nI (g q)) → WN K na (mPut na h M3) 0 0 Q9 60 [some (.ref (na 61)), some (.int a), some (.int b), some (.int (iI t)), some (.int (nI m)), some (.int (nI k)), none] [] := by
              intro d9
              induction d9 using Nat.strongRecOn with
              | _ d9 ih60 =>
                intro k M3 hd60 hk hF3 h35 h36
                refine n_iload hC dX3_akin_60 rfl ?_
                refine n_iload hC dX3_akin_62 rfl ?_
                refine n_icmp_geN hC (tgt := 87) dX3_akin_64 (by decide) (by omega) (by omega) (fun c_64 => ?_) (fun c_64 => ?_)
                · skip
                  have hk9 : k = m := by omega
                  refine n_aload_n hC dX3_akin_87 rfl ?_
                  refine n_iload_n hC dX3_akin_88 rfl ?_
                  refine n_callV1z hC (mt_X3_findForm na h M3 (f := b) (n := mN M 1) (c := mSn M b) (st := mSt M b) ((congrFun (hF3 1 (by decide)) 0).trans h1) (by omega) b1 (hx2.1.fr hF3 (by decide)) hx2.2.1 (fun k hk => ⟨(hx2.2.2 k hk).1.fr hF3 (by decide), (hx2.2.2 k hk).2⟩)) md_X3_findForm q1449 dX3_akin_89 rfl (mPut_o _ _ _) rfl rfl ⟨rfl, rfl, by decide, by decide⟩ rfl (Nat.le_of_ble_eq_true rfl) (by decide) (by decide) (fun r7 na7 h7 hp7 => ?_)
                  obtain ⟨rfl, M4, rfl, hF2, hmf2⟩ := hp7
                  skip
                  rcases hff2 : fform (mN M 1) (mSt M b) (mSn M b) with _ | ⟨t2, g2, m2⟩ <;> rw [hff2] at hmf2
                  · skip
                    dsimp only at hmf2
                    subst hmf2
                    refine n_if_neN hC (tgt := 98) dX3_akin_92 (by decide) (by omega) (fun c_92 => absurd c_92 (by decide)) (fun c_92 => ?_)
                    refine n_bipush hC (v := (-3)) dX3_akin_95 (by decide) ?_
                    exact n_iret hC dX3_akin_97 (by decide) (by decide) (⟨rfl, by unfold o_akin; dsimp only; rw [if_neg hna, if_neg hnb, if_neg c_32, hff1, hff2], _, rfl, mEq.fr (S := [35, 36, 37, 38]) (by decide) (mFr.cmp (by decide) (by decide) hF3 hF2)⟩)
                  · skip
                    obtain ⟨hr2, hfr2, h38_2⟩ := hmf2
                    subst hr2
                    obtain ⟨k21, k22, k23, k24⟩ := fform_ok (by omega) b1 hff2
                    refine n_if_neN hC (tgt := 98) dX3_akin_92 (by decide) (by omega) (fun c_92 => ?_) (fun c_92 => absurd c_92 (by decide))
                    have h36m : ∀ q, q < m → M4 36 q = nI (g q) := fun q hq => (congrFun (hF2 36 (by decide)) q).trans (h36 q (by omega))
                    have hx12 := hx1.2.1
                    have hx22 := hx2.2.1
                    refine n_iload_n hC dX3_akin_98 rfl ?_
                    refine n_aload_n hC dX3_akin_99 rfl ?_
                    refine m_getI hC 38 (v := iI t2) dX3_akin_100 rfl rfl (by decide) h38_2 ?_
                    refine n_icmp_ne hC (tgt := 119) dX3_akin_103 (by decide) (fun c_103 => ?_) (fun c_103 => ?_)
                    · skip
                      refine n_iconst hC (v := nbo false) dX3_akin_119 (by decide) ?_
                      refine n_istore hC dX3_akin_120 (Nat.le_of_ble_eq_true rfl) ?_
                      refine n_iconst hC (v := nI 0) dX3_akin_122 (by decide) ?_
                      refine n_istore hC dX3_akin_123 (Nat.le_of_ble_eq_true rfl) ?_
                      have lp125 : ∀ d9 : Nat, ∀ (k : Nat) (b9 : Bool), m - k = d9 → (k ≤ m) → ((decide (t = t2) && (decide (m = m2) && allb k (fun k => decide (g k = g2 k)))) = b9) → WN K na (mPut na h M4) 0 0 Q9 125 [some (.ref (na 61)), some (.int a), some (.int b), some (.int (iI t)), some (.int (nI m)), some (.int (nbo b9)), some (.int (nI k))] [] := by
                        intro d9
                        induction d9 using Nat.strongRecOn with
                        | _ d9 ih125 =>
                          intro k b9 hd125 hk2 hb
                          refine n_iload hC dX3_akin_125 rfl ?_
                          refine n_iload hC dX3_akin_127 rfl ?_
                          refine n_icmp_geN hC (tgt := 167) dX3_akin_129 (by decide) (by omega) (by omega) (fun c_129 => ?_) (fun c_129 => ?_)
                          · skip
                            have hb9 : (decide (t = t2) && (decide (m = m2) && allb m (fun k => decide (g k = g2 k)))) = b9 := by rw [← hb, show k = m by omega]
                            refine n_iload hC dX3_akin_167 rfl ?_
                            refine n_if_eqB hC (tgt := 176) dX3_akin_169 (by decide) (fun c_169 => ?_) (fun c_169 => ?_)
                            · skip
                              refine n_iconst hC (v := nI 0) dX3_akin_176 (by decide) ?_
                              exact n_iret hC dX3_akin_177 (by decide) (by decide) (⟨rfl, by unfold o_akin; dsimp only; rw [if_neg hna, if_neg hnb, if_neg c_32, hff1, hff2]; dsimp only; rw [hb9, c_169]; rfl, _, rfl, mEq.fr (S := [35, 36, 37, 38]) (by decide) (mFr.cmp (by decide) (by decide) hF3 hF2)⟩)
                            · skip
                              refine n_iconst hC (v := nI 1) dX3_akin_172 (by decide) ?_
                              refine n_goto hC (tgt := 177) dX3_akin_173 (by decide) ?_
                              exact n_iret hC dX3_akin_177 (by decide) (by decide) (⟨rfl, by unfold o_akin; dsimp only; rw [if_neg hna, if_neg hnb, if_neg c_32, hff1, hff2]; dsimp only; rw [hb9, c_169]; rfl, _, rfl, mEq.fr (S := [35, 36, 37, 38]) (by decide) (mFr.cmp (by decide) (by decide) hF3 hF2)⟩)
                          · skip
                            refine n_iload hC dX3_akin_132 rfl ?_
                            refine n_if_eqB hC (tgt := 167) dX3_akin_134 (by decide) (fun c_134 => ?_) (fun c_134 => ?_)
                            · skip
                              have hb9 : (decide (t = t2) && (decide (m = m2) && allb m (fun k => decide (g k = g2 k)))) = b9 := by rw [c_134] at hb; cases hz : (decide (t = t2) && (decide (m = m2) && allb m (fun k => decide (g k = g2 k)))) with
                                | false => exact c_134.symm
                                | true =>
                                  rw [Bool.and_eq_true, Bool.and_eq_true] at hz
                                  rw [hz.1, hz.2.1, allb_mono (by omega) hz.2.2] at hb
                                  cases hb
                              refine n_iload hC dX3_akin_167 rfl ?_
                              refine n_if_eqB hC (tgt := 176) dX3_akin_169 (by decide) (fun c_169 => ?_) (fun c_169 => ?_)
                              · skip
                                refine n_iconst hC (v := nI 0) dX3_akin_176 (by decide) ?_
                                exact n_iret hC dX3_akin_177 (by decide) (by decide) (⟨rfl, by unfold o_akin; dsimp only; rw [if_neg hna, if_neg hnb, if_neg c_32, hff1, hff2]; dsimp only; rw [hb9, c_169]; rfl, _, rfl, mEq.fr (S := [35, 36, 37, 38]) (by decide) (mFr.cmp (by decide) (by decide) hF3 hF2)⟩)
                              · skip
                                refine n_iconst hC (v := nI 1) dX3_akin_172 (by decide) ?_
                                refine n_goto hC (tgt := 177) dX3_akin_173 (by decide) ?_
                                exact n_iret hC dX3_akin_177 (by decide) (by decide) (⟨rfl, by unfold o_akin; dsimp only; rw [if_neg hna, if_neg hnb, if_neg c_32, hff1, hff2]; dsimp only; rw [hb9, c_169]; rfl, _, rfl, mEq.fr (S := [35, 36, 37, 38]) (by decide) (mFr.cmp (by decide) (by decide) hF3 hF2)⟩)
                            · skip
                              have hb3 := hb.trans c_134
                              rw [Bool.and_eq_true, Bool.and_eq_true, decide_eq_true_iff, decide_eq_true_iff] at hb3
                              have hmm := hb3.2.1
                              have gk1 := k14 k (by omega)
                              have gk2 := k24 k (by omega)
                              refine n_aload_n hC dX3_akin_137 rfl ?_
                              refine m_getA hC 35 dX3_akin_138 rfl rfl ?_
                              refine n_iload hC dX3_akin_141 rfl ?_
                              refine m_aldN hC 35 (v := nI (g2 k)) dX3_akin_143 rfl rfl (by have h9 : mLen 35 = 300 := rfl; omega) (hfr2.2 k (by omega)) ?_
                              refine n_aload_n hC dX3_akin_144 rfl ?_
                              refine m_getA hC 36 dX3_akin_145 rfl rfl ?_
                              refine n_iload hC dX3_akin_148 rfl ?_
                              refine m_aldN hC 36 (v := nI (g k)) dX3_akin_150 rfl rfl (by have h9 : mLen 36 = 300 := rfl; omega) (h36m k (by omega)) ?_
                              refine n_icmp_neN hC (tgt := 158) dX3_akin_151 (by decide) (by omega) (by omega) (fun c_151 => ?_) (fun c_151 => ?_)
                              · skip
                                refine n_iconst hC (v := nbo false) dX3_akin_158 (by decide) ?_
                                refine n_istore hC dX3_akin_159 (Nat.le_of_ble_eq_true rfl) ?_
                                refine n_iincN hC dX3_akin_161 (j := 1) (c := k + 1) rfl (by decide) rfl ?_
                                refine n_goto hC (tgt := 125) dX3_akin_164 (by decide) ?_
                                exact WN.forget (L' := [some (.ref (na 61)), some (.int a), some (.int b), some (.int (iI t)), some (.int (nI m)), some (.int (nbo false)), some (.int (nI (k + 1)))]) (⟨Or.inr rfl, Or.inr rfl, Or.inr rfl, Or.inr rfl, Or.inr rfl, Or.inr rfl, Or.inr rfl, trivial⟩) (ih125 _ (by omega) (k + 1) false rfl (by omega) (by show (decide _ && (decide _ && (allb k _ && decide (g k = g2 k)))) = false; rw [← Bool.and_assoc (decide (m = m2)), ← Bool.and_assoc (decide (t = t2)), hb, c_134]; exact decide_eq_false (by omega)))
                              · skip
                                refine n_iconst hC (v := nbo true) dX3_akin_154 (by decide) ?_
                                refine n_goto hC (tgt := 159) dX3_akin_155 (by decide) ?_
                                refine n_istore hC dX3_akin_159 (Nat.le_of_ble_eq_true rfl) ?_
                                refine n_iincN hC dX3_akin_161 (j := 1) (c := k + 1) rfl (by decide) rfl ?_
                                refine n_goto hC (tgt := 125) dX3_akin_164 (by decide) ?_
                                exact WN.forget (L' := [some (.ref (na 61)), some (.int a), some (.int b), some (.int (iI t)), some (.int (nI m)), some (.int (nbo true)), some (.int (nI (k + 1)))]) (⟨Or.inr rfl, Or.inr rfl, Or.inr rfl, Or.inr rfl, Or.inr rfl, Or.inr rfl, Or.inr rfl, trivial⟩) (ih125 _ (by omega) (k + 1) true rfl (by omega) (by show (decide _ && (decide _ && (allb k _ && decide (g k = g2 k)))) = true; rw [← Bool.and_assoc (decide (m = m2)), ← Bool.and_assoc (decide (t = t2)), hb, c_134]; exact decide_eq_true (by omega)))
                      exact WN.forget (L' := [some (.ref (na 61)), some (.int a), some (.int b), some (.int (iI t)), some (.int (nI m)), some (.int (nbo false)), some (.int (nI 0))]) (⟨Or.inr rfl, Or.inr rfl, Or.inr rfl, Or.inr rfl, Or.inr rfl, Or.inr rfl, Or.inr rfl, trivial⟩) (lp125 _ 0 false rfl (by omega) (by show (decide _ && (decide _ && true)) = _; rw [decide_eq_false (fun e => c_103 (by rw [e]))]; rfl))
                    · skip
                      have ett := iI_inj (by omega) (by omega) c_103
                      refine n_iload hC dX3_akin_106 rfl ?_
                      refine n_aload_n hC dX3_akin_108 rfl ?_
                      refine m_getI hC 37 (v := nI m2) dX3_akin_109 rfl rfl (by decide) hfr2.1 ?_
                      refine n_icmp_neN hC (tgt := 119) dX3_akin_112 (by decide) (by omega) (by omega) (fun c_112 => ?_) (fun c_112 => ?_)
                      · skip
                        refine n_iconst hC (v := nbo false) dX3_akin_119 (by decide) ?_
                        refine n_istore hC dX3_akin_120 (Nat.le_of_ble_eq_true rfl) ?_
                        refine n_iconst hC (v := nI 0) dX3_akin_122 (by decide) ?_
                        refine n_istore hC dX3_akin_123 (Nat.le_of_ble_eq_true rfl) ?_
                        have lp125 : ∀ d9 : Nat, ∀ (k : Nat) (b9 : Bool), m - k = d9 → (k ≤ m) → ((decide (t = t2) && (decide (m = m2) && allb k (fun k => decide (g k = g2 k)))) = b9) → WN K na (mPut na h M4) 0 0 Q9 125 [some (.ref (na 61)), some (.int a), some (.int b), some (.int (iI t)), some (.int (nI m)), some (.int (nbo b9)), some (.int (nI k))] [] := by
                          intro d9
                          induction d9 using Nat.strongRecOn with
                          | _ d9 ih125 =>
                            intro k b9 hd125 hk2 hb
                            refine n_iload hC dX3_akin_125 rfl ?_
                            refine n_iload hC dX3_akin_127 rfl ?_
                            refine n_icmp_geN hC (tgt := 167) dX3_akin_129 (by decide) (by omega) (by omega) (fun c_129 => ?_) (fun c_129 => ?_)
                            · skip
                              have hb9 : (decide (t = t2) && (decide (m = m2) && allb m (fun k => decide (g k = g2 k)))) = b9 := by rw [← hb, show k = m by omega]
                              refine n_iload hC dX3_akin_167 rfl ?_
                              refine n_if_eqB hC (tgt := 176) dX3_akin_169 (by decide) (fun c_169 => ?_) (fun c_169 => ?_)
                              · skip
                                refine n_iconst hC (v := nI 0) dX3_akin_176 (by decide) ?_
                                exact n_iret hC dX3_akin_177 (by decide) (by decide) (⟨rfl, by unfold o_akin; dsimp only; rw [if_neg hna, if_neg hnb, if_neg c_32, hff1, hff2]; dsimp only; rw [hb9, c_169]; rfl, _, rfl, mEq.fr (S := [35, 36, 37, 38]) (by decide) (mFr.cmp (by decide) (by decide) hF3 hF2)⟩)
                              · skip
                                refine n_iconst hC (v := nI 1) dX3_akin_172 (by decide) ?_
                                refine n_goto hC (tgt := 177) dX3_akin_173 (by decide) ?_
                                exact n_iret hC dX3_akin_177 (by decide) (by decide) (⟨rfl, by unfold o_akin; dsimp only; rw [if_neg hna, if_neg hnb, if_neg c_32, hff1, hff2]; dsimp only; rw [hb9, c_169]; rfl, _, rfl, mEq.fr (S := [35, 36, 37, 38]) (by decide) (mFr.cmp (by decide) (by decide) hF3 hF2)⟩)
                            · skip
                              refine n_iload hC dX3_akin_132 rfl ?_
                              refine n_if_eqB hC (tgt := 167) dX3_akin_134 (by decide) (fun c_134 => ?_) (fun c_134 => ?_)
                              · skip
                                have hb9 : (decide (t = t2) && (decide (m = m2) && allb m (fun k => decide (g k = g2 k)))) = b9 := by rw [c_134] at hb; cases hz : (decide (t = t2) && (decide (m = m2) && allb m (fun k => decide (g k = g2 k)))) with
                                  | false => exact c_134.symm
                                  | true =>
                                    rw [Bool.and_eq_true, Bool.and_eq_true] at hz
                                    rw [hz.1, hz.2.1, allb_mono (by omega) hz.2.2] at hb
                                    cases hb
                                refine n_iload hC dX3_akin_167 rfl ?_
                                refine n_if_eqB hC (tgt := 176) dX3_akin_169 (by decide) (fun c_169 => ?_) (fun c_169 => ?_)
                                · skip
                                  refine n_iconst hC (v := nI 0) dX3_akin_176 (by decide) ?_
                                  exact n_iret hC dX3_akin_177 (by decide) (by decide) (⟨rfl, by unfold o_akin; dsimp only; rw [if_neg hna, if_neg hnb, if_neg c_32, hff1, hff2]; dsimp only; rw [hb9, c_169]; rfl, _, rfl, mEq.fr (S := [35, 36, 37, 38]) (by decide) (mFr.cmp (by decide) (by decide) hF3 hF2)⟩)
                                · skip
                                  refine n_iconst hC (v := nI 1) dX3_akin_172 (by decide) ?_
                                  refine n_goto hC (tgt := 177) dX3_akin_173 (by decide) ?_
                                  exact n_iret hC dX3_akin_177 (by decide) (by decide) (⟨rfl, by unfold o_akin; dsimp only; rw [if_neg hna, if_neg hnb, if_neg c_32, hff1, hff2]; dsimp only; rw [hb9, c_169]; rfl, _, rfl, mEq.fr (S := [35, 36, 37, 38]) (by decide) (mFr.cmp (by decide) (by decide) hF3 hF2)⟩)
                              · skip
                                have hb3 := hb.trans c_134
                                rw [Bool.and_eq_true, Bool.and_eq_true, decide_eq_true_iff, decide_eq_true_iff] at hb3
                                have hmm := hb3.2.1
                                have gk1 := k14 k (by omega)
                                have gk2 := k24 k (by omega)
                                refine n_aload_n hC dX3_akin_137 rfl ?_
                                refine m_getA hC 35 dX3_akin_138 rfl rfl ?_
                                refine n_iload hC dX3_akin_141 rfl ?_
                                refine m_aldN hC 35 (v := nI (g2 k)) dX3_akin_143 rfl rfl (by have h9 : mLen 35 = 300 := rfl; omega) (hfr2.2 k (by omega)) ?_
                                refine n_aload_n hC dX3_akin_144 rfl ?_
                                refine m_getA hC 36 dX3_akin_145 rfl rfl ?_
                                refine n_iload hC dX3_akin_148 rfl ?_
                                refine m_aldN hC 36 (v := nI (g k)) dX3_akin_150 rfl rfl (by have h9 : mLen 36 = 300 := rfl; omega) (h36m k (by omega)) ?_
                                refine n_icmp_neN hC (tgt := 158) dX3_akin_151 (by decide) (by omega) (by omega) (fun c_151 => ?_) (fun c_151 => ?_)
                                · skip
                                  refine n_iconst hC (v := nbo false) dX3_akin_158 (by decide) ?_
                                  refine n_istore hC dX3_akin_159 (Nat.le_of_ble_eq_true rfl) ?_
                                  refine n_iincN hC dX3_akin_161 (j := 1) (c := k + 1) rfl (by decide) rfl ?_
                                  refine n_goto hC (tgt := 125) dX3_akin_164 (by decide) ?_
                                  exact WN.forget (L' := [some (.ref (na 61)), some (.int a), some (.int b), some (.int (iI t)), some (.int (nI m)), some (.int (nbo false)), some (.int (nI (k + 1)))]) (⟨Or.inr rfl, Or.inr rfl, Or.inr rfl, Or.inr rfl, Or.inr rfl, Or.inr rfl, Or.inr rfl, trivial⟩) (ih125 _ (by omega) (k + 1) false rfl (by omega) (by show (decide _ && (decide _ && (allb k _ && decide (g k = g2 k)))) = false; rw [← Bool.and_assoc (decide (m = m2)), ← Bool.and_assoc (decide (t = t2)), hb, c_134]; exact decide_eq_false (by omega)))
                                · skip
                                  refine n_iconst hC (v := nbo true) dX3_akin_154 (by decide) ?_
                                  refine n_goto hC (tgt := 159) dX3_akin_155 (by decide) ?_
                                  refine n_istore hC dX3_akin_159 (Nat.le_of_ble_eq_true rfl) ?_
                                  refine n_iincN hC dX3_akin_161 (j := 1) (c := k + 1) rfl (by decide) rfl ?_
                                  refine n_goto hC (tgt := 125) dX3_akin_164 (by decide) ?_
                                  exact WN.forget (L' := [some (.ref (na 61)), some (.int a), some (.int b), some (.int (iI t)), some (.int (nI m)), some (.int (nbo true)), some (.int (nI (k + 1)))]) (⟨Or.inr rfl, Or.inr rfl, Or.inr rfl, Or.inr rfl, Or.inr rfl, Or.inr rfl, Or.inr rfl, trivial⟩) (ih125 _ (by omega) (k + 1) true rfl (by omega) (by show (decide _ && (decide _ && (allb k _ && decide (g k = g2 k)))) = true; rw [← Bool.and_assoc (decide (m = m2)), ← Bool.and_assoc (decide (t = t2)), hb, c_134]; exact decide_eq_true (by omega)))
                        exact WN.forget (L' := [some (.ref (na 61)), some (.int a), some (.int b), some (.int (iI t)), some (.int (nI m)), some (.int (nbo false)), some (.int (nI 0))]) (⟨Or.inr rfl, Or.inr rfl, Or.inr rfl, Or.inr rfl, Or.inr rfl, Or.inr rfl, Or.inr rfl, trivial⟩) (lp125 _ 0 false rfl (by omega) (by show (decide _ && (decide _ && true)) = _; rw [decide_eq_false (show ¬ m = m2 from c_112), Bool.false_and, Bool.and_false]))
                      · skip
                        refine n_iconst hC (v := nbo true) dX3_akin_115 (by decide) ?_
                        refine n_goto hC (tgt := 120) dX3_akin_116 (by decide) ?_
                        refine n_istore hC dX3_akin_120 (Nat.le_of_ble_eq_true rfl) ?_
                        refine n_iconst hC (v := nI 0) dX3_akin_122 (by decide) ?_
                        refine n_istore hC dX3_akin_123 (Nat.le_of_ble_eq_true rfl) ?_
                        have lp125 : ∀ d9 : Nat, ∀ (k : Nat) (b9 : Bool), m - k = d9 → (k ≤ m) → ((decide (t = t2) && (decide (m = m2) && allb k (fun k => decide (g k = g2 k)))) = b9) → WN K na (mPut na h M4) 0 0 Q9 125 [some (.ref (na 61)), some (.int a), some (.int b), some (.int (iI t)), some (.int (nI m)), some (.int (nbo b9)), some (.int (nI k))] [] := by
                          intro d9
                          induction d9 using Nat.strongRecOn with
                          | _ d9 ih125 =>
                            intro k b9 hd125 hk2 hb
                            refine n_iload hC dX3_akin_125 rfl ?_
                            refine n_iload hC dX3_akin_127 rfl ?_
                            refine n_icmp_geN hC (tgt := 167) dX3_akin_129 (by decide) (by omega) (by omega) (fun c_129 => ?_) (fun c_129 => ?_)
                            · skip
                              have hb9 : (decide (t = t2) && (decide (m = m2) && allb m (fun k => decide (g k = g2 k)))) = b9 := by rw [← hb, show k = m by omega]
                              refine n_iload hC dX3_akin_167 rfl ?_
                              refine n_if_eqB hC (tgt := 176) dX3_akin_169 (by decide) (fun c_169 => ?_) (fun c_169 => ?_)
                              · skip
                                refine n_iconst hC (v := nI 0) dX3_akin_176 (by decide) ?_
                                exact n_iret hC dX3_akin_177 (by decide) (by decide) (⟨rfl, by unfold o_akin; dsimp only; rw [if_neg hna, if_neg hnb, if_neg c_32, hff1, hff2]; dsimp only; rw [hb9, c_169]; rfl, _, rfl, mEq.fr (S := [35, 36, 37, 38]) (by decide) (mFr.cmp (by decide) (by decide) hF3 hF2)⟩)
                              · skip
                                refine n_iconst hC (v := nI 1) dX3_akin_172 (by decide) ?_
                                refine n_goto hC (tgt := 177) dX3_akin_173 (by decide) ?_
                                exact n_iret hC dX3_akin_177 (by decide) (by decide) (⟨rfl, by unfold o_akin; dsimp only; rw [if_neg hna, if_neg hnb, if_neg c_32, hff1, hff2]; dsimp only; rw [hb9, c_169]; rfl, _, rfl, mEq.fr (S := [35, 36, 37, 38]) (by decide) (mFr.cmp (by decide) (by decide) hF3 hF2)⟩)
                            · skip
                              refine n_iload hC dX3_akin_132 rfl ?_
                              refine n_if_eqB hC (tgt := 167) dX3_akin_134 (by decide) (fun c_134 => ?_) (fun c_134 => ?_)
                              · skip
                                have hb9 : (decide (t = t2) && (decide (m = m2) && allb m (fun k => decide (g k = g2 k)))) = b9 := by rw [c_134] at hb; cases hz : (decide (t = t2) && (decide (m = m2) && allb m (fun k => decide (g k = g2 k)))) with
                                  | false => exact c_134.symm
                                  | true =>
                                    rw [Bool.and_eq_true, Bool.and_eq_true] at hz
                                    rw [hz.1, hz.2.1, allb_mono (by omega) hz.2.2] at hb
                                    cases hb
                                refine n_iload hC dX3_akin_167 rfl ?_
                                refine n_if_eqB hC (tgt := 176) dX3_akin_169 (by decide) (fun c_169 => ?_) (fun c_169 => ?_)
                                · skip
                                  refine n_iconst hC (v := nI 0) dX3_akin_176 (by decide) ?_
                                  exact n_iret hC dX3_akin_177 (by decide) (by decide) (⟨rfl, by unfold o_akin; dsimp only; rw [if_neg hna, if_neg hnb, if_neg c_32, hff1, hff2]; dsimp only; rw [hb9, c_169]; rfl, _, rfl, mEq.fr (S := [35, 36, 37, 38]) (by decide) (mFr.cmp (by decide) (by decide) hF3 hF2)⟩)
                                · skip
                                  refine n_iconst hC (v := nI 1) dX3_akin_172 (by decide) ?_
                                  refine n_goto hC (tgt := 177) dX3_akin_173 (by decide) ?_
                                  exact n_iret hC dX3_akin_177 (by decide) (by decide) (⟨rfl, by unfold o_akin; dsimp only; rw [if_neg hna, if_neg hnb, if_neg c_32, hff1, hff2]; dsimp only; rw [hb9, c_169]; rfl, _, rfl, mEq.fr (S := [35, 36, 37, 38]) (by decide) (mFr.cmp (by decide) (by decide) hF3 hF2)⟩)
                              · skip
                                have hb3 := hb.trans c_134
                                rw [Bool.and_eq_true, Bool.and_eq_true, decide_eq_true_iff, decide_eq_true_iff] at hb3
                                have hmm := hb3.2.1
                                have gk1 := k14 k (by omega)
                                have gk2 := k24 k (by omega)
                                refine n_aload_n hC dX3_akin_137 rfl ?_
                                refine m_getA hC 35 dX3_akin_138 rfl rfl ?_
                                refine n_iload hC dX3_akin_141 rfl ?_
                                refine m_aldN hC 35 (v := nI (g2 k)) dX3_akin_143 rfl rfl (by have h9 : mLen 35 = 300 := rfl; omega) (hfr2.2 k (by omega)) ?_
                                refine n_aload_n hC dX3_akin_144 rfl ?_
                                refine m_getA hC 36 dX3_akin_145 rfl rfl ?_
                                refine n_iload hC dX3_akin_148 rfl ?_
                                refine m_aldN hC 36 (v := nI (g k)) dX3_akin_150 rfl rfl (by have h9 : mLen 36 = 300 := rfl; omega) (h36m k (by omega)) ?_
                                refine n_icmp_neN hC (tgt := 158) dX3_akin_151 (by decide) (by omega) (by omega) (fun c_151 => ?_) (fun c_151 => ?_)
                                · skip
                                  refine n_iconst hC (v := nbo false) dX3_akin_158 (by decide) ?_
                                  refine n_istore hC dX3_akin_159 (Nat.le_of_ble_eq_true rfl) ?_
                                  refine n_iincN hC dX3_akin_161 (j := 1) (c := k + 1) rfl (by decide) rfl ?_
                                  refine n_goto hC (tgt := 125) dX3_akin_164 (by decide) ?_
                                  exact WN.forget (L' := [some (.ref (na 61)), some (.int a), some (.int b), some (.int (iI t)), some (.int (nI m)), some (.int (nbo false)), some (.int (nI (k + 1)))]) (⟨Or.inr rfl, Or.inr rfl, Or.inr rfl, Or.inr rfl, Or.inr rfl, Or.inr rfl, Or.inr rfl, trivial⟩) (ih125 _ (by omega) (k + 1) false rfl (by omega) (by show (decide _ && (decide _ && (allb k _ && decide (g k = g2 k)))) = false; rw [← Bool.and_assoc (decide (m = m2)), ← Bool.and_assoc (decide (t = t2)), hb, c_134]; exact decide_eq_false (by omega)))
                                · skip
                                  refine n_iconst hC (v := nbo true) dX3_akin_154 (by decide) ?_
                                  refine n_goto hC (tgt := 159) dX3_akin_155 (by decide) ?_
                                  refine n_istore hC dX3_akin_159 (Nat.le_of_ble_eq_true rfl) ?_
                                  refine n_iincN hC dX3_akin_161 (j := 1) (c := k + 1) rfl (by decide) rfl ?_
                                  refine n_goto hC (tgt := 125) dX3_akin_164 (by decide) ?_
                                  exact WN.forget (L' := [some (.ref (na 61)), some (.int a), some (.int b), some (.int (iI t)), some (.int (nI m)), some (.int (nbo true)), some (.int (nI (k + 1)))]) (⟨Or.inr rfl, Or.inr rfl, Or.inr rfl, Or.inr rfl, Or.inr rfl, Or.inr rfl, Or.inr rfl, trivial⟩) (ih125 _ (by omega) (k + 1) true rfl (by omega) (by show (decide _ && (decide _ && (allb k _ && decide (g k = g2 k)))) = true; rw [← Bool.and_assoc (decide (m = m2)), ← Bool.and_assoc (decide (t = t2)), hb, c_134]; exact decide_eq_true (by omega)))
                        exact WN.forget (L' := [some (.ref (na 61)), some (.int a), some (.int b), some (.int (iI t)), some (.int (nI m)), some (.int (nbo true)), some (.int (nI 0))]) (⟨Or.inr rfl, Or.inr rfl, Or.inr rfl, Or.inr rfl, Or.inr rfl, Or.inr rfl, Or.inr rfl, trivial⟩) (lp125 _ 0 true rfl (by omega) (by show (decide _ && (decide _ && true)) = _; rw [decide_eq_true (show m = m2 from c_112), decide_eq_true ett]; rfl))
                · skip
                  refine n_aload_n hC dX3_akin_67 rfl ?_
                  refine m_getA hC 36 dX3_akin_68 rfl rfl ?_
                  refine n_iload hC dX3_akin_71 rfl ?_
                  refine n_aload_n hC dX3_akin_73 rfl ?_
                  refine m_getA hC 35 dX3_akin_74 rfl rfl ?_
                  refine n_iload hC dX3_akin_77 rfl ?_
                  refine m_aldN hC 35 (v := M3 35 k) dX3_akin_79 rfl rfl (by have h9 : mLen 35 = 300 := rfl; omega) rfl ?_
                  refine m_astN hC 36 (M2 := mset M3 36 (upd (M3 36) k (M3 35 k))) dX3_akin_80 rfl rfl (by have h9 : mLen 36 = 300 := rfl; omega) rfl ?_
                  refine n_iincN hC dX3_akin_81 (j := 1) (c := k + 1) rfl (by decide) rfl ?_
                  refine n_goto hC (tgt := 60) dX3_akin_84 (by decide) ?_
                  exact WN.forget (L' := [some (.ref (na 61)), some (.int a), some (.int b), some (.int (iI t)), some (.int (nI m)), some (.int (nI (k + 1))), none]) (⟨Or.inr rfl, Or.inr rfl, Or.inr rfl, Or.inr rfl, Or.inr rfl, Or.inr rfl, Or.inl rfl, trivial⟩) (ih60 _ (by omega) (k + 1) (mset M3 36 (upd (M3 36) k (M3 35 k))) rfl (by omega) (mFr.set (by decide) hF3) h35 (lt_s (fun q hq => by show upd (M3 36) k _ q = _; unfold upd; rw [if_neg (by omega)]; exact h36 q hq) (by show upd (M3 36) k _ k = _; unfold upd; rw [if_pos rfl]; exact h35 k (by omega))))
            exact WN.forget (L' := [some (.ref (na 61)), some (.int a), some (.int b), some (.int (iI t)), some (.int (nI m)), some (.int (nI 0)), none]) (⟨Or.inr rfl, Or.inr rfl, Or.inr rfl, Or.inr rfl, Or.inr rfl, Or.inr rfl, Or.inl rfl, trivial⟩) (lp60 _ 0 M2 rfl (by omega) (mFr.wk (by decide) hF1) hfr1.2 lt_0)
      · skip
        refine n_aload_n hC dX3_akin_18 rfl ?_
        refine n_iload_n hC dX3_akin_19 rfl ?_
        refine n_callV1z hC (mt_X3_isFigure na h (M) (b) (n := mN M 26) h26 (by omega)) md_X3_isFigure q1419 dX3_akin_20 rfl (mPut_o _ _ _) rfl rfl ⟨rfl, rfl, by decide, by decide⟩ rfl (Nat.le_of_ble_eq_true rfl) (by decide) (by decide) (fun r8 na8 h8 hp8 => ?_)
        obtain ⟨rfl, rfl, rfl⟩ := hp8
        refine n_if_neB hC (tgt := 28) dX3_akin_23 (by decide) (fun c_23 => ?_) (fun c_23 => ?_)
        · skip
          have hbv : b = -1 ∨ nin b (mN M 26) = true := Or.inr c_23
          have hnb : ¬ (b ≠ -1 ∧ nin b (mN M 26) = false) := fun z => hbv.elim z.1 (fun e => by rw [e] at z; exact absurd z.2 (by decide))
          have hx1 := mSx hI9 hav
          have hx2 := mSx hI9 hbv
          refine n_aload_n hC dX3_akin_28 rfl ?_
          refine m_getI hC 1 (v := nI (mN M 1)) dX3_akin_29 rfl rfl (by decide) h1 ?_
          refine n_if_eqN hC (tgt := 43) dX3_akin_32 (by decide) (by omega) (fun c_32 => ?_) (fun c_32 => ?_)
          · skip
            refine n_bipush hC (v := (-3)) dX3_akin_43 (by decide) ?_
            exact n_iret hC dX3_akin_45 (by decide) (by decide) (⟨rfl, by unfold o_akin; dsimp only; rw [if_neg hna, if_neg hnb, if_pos c_32], _, rfl, mEq.fr (S := [35, 36, 37, 38]) (by decide) (mFr.rf)⟩)
          · skip
            refine n_aload_n hC dX3_akin_35 rfl ?_
            refine n_iload_n hC dX3_akin_36 rfl ?_
            refine n_callV1z hC (mt_X3_findForm na h M (f := a) (n := mN M 1) (c := mSn M a) (st := mSt M a) h1 (by omega) b1 hx1.1 hx1.2.1 hx1.2.2) md_X3_findForm q1449 dX3_akin_37 rfl (mPut_o _ _ _) rfl rfl ⟨rfl, rfl, by decide, by decide⟩ rfl (Nat.le_of_ble_eq_true rfl) (by decide) (by decide) (fun r9 na9 h9 hp9 => ?_)
            obtain ⟨rfl, M2, rfl, hF1, hmf1⟩ := hp9
            skip
            rcases hff1 : fform (mN M 1) (mSt M a) (mSn M a) with _ | ⟨t, g, m⟩ <;> rw [hff1] at hmf1
            · skip
              dsimp only at hmf1
              subst hmf1
              refine n_if_neN hC (tgt := 46) dX3_akin_40 (by decide) (by omega) (fun c_40 => absurd c_40 (by decide)) (fun c_40 => ?_)
              refine n_bipush hC (v := (-3)) dX3_akin_43 (by decide) ?_
              exact n_iret hC dX3_akin_45 (by decide) (by decide) (⟨rfl, by unfold o_akin; dsimp only; rw [if_neg hna, if_neg hnb, if_neg c_32, hff1], _, rfl, mEq.fr (S := [35, 36, 37, 38]) (by decide) (mFr.wk (by decide) hF1)⟩)
            · skip
              obtain ⟨hr1, hfr1, h38_1⟩ := hmf1
              subst hr1
              obtain ⟨k11, k12, k13, k14⟩ := fform_ok (by omega) b1 hff1
              refine n_if_neN hC (tgt := 46) dX3_akin_40 (by decide) (by omega) (fun c_40 => ?_) (fun c_40 => absurd c_40 (by decide))
              refine n_aload_n hC dX3_akin_46 rfl ?_
              refine m_getI hC 38 (v := iI t) dX3_akin_47 rfl rfl (by decide) h38_1 ?_
              refine n_istore_n hC dX3_akin_50 (Nat.le_of_ble_eq_true rfl) ?_
              refine n_aload_n hC dX3_akin_51 rfl ?_
              refine m_getI hC 37 (v := nI m) dX3_akin_52 rfl rfl (by decide) hfr1.1 ?_
              refine n_istore hC dX3_akin_55 (Nat.le_of_ble_eq_true rfl) ?_
              refine n_iconst hC (v := nI 0) dX3_akin_57 (by decide) ?_
              refine n_istore hC dX3_akin_58 (Nat.le_of_ble_eq_true rfl) ?_
              have lp60 : ∀ d9 : Nat, ∀ (k : Nat) (M3 : nMem), m - k = d9 → (k ≤ m) → (mFr [35, 36, 37, 38] M M3) → (∀ q, q < m → M3 35 q = nI (g q)) → (∀ q, q < k → M3 36 q = nI (g q)) → WN K na (mPut na h M3) 0 0 Q9 60 [some (.ref (na 61)), some (.int a), some (.int b), some (.int (iI t)), some (.int (nI m)), some (.int (nI k)), none] [] := by
                intro d9
                induction d9 using Nat.strongRecOn with
                | _ d9 ih60 =>
                  intro k M3 hd60 hk hF3 h35 h36
                  refine n_iload hC dX3_akin_60 rfl ?_
                  refine n_iload hC dX3_akin_62 rfl ?_
                  refine n_icmp_geN hC (tgt := 87) dX3_akin_64 (by decide) (by omega) (by omega) (fun c_64 => ?_) (fun c_64 => ?_)
                  · skip
                    have hk9 : k = m := by omega
                    refine n_aload_n hC dX3_akin_87 rfl ?_
                    refine n_iload_n hC dX3_akin_88 rfl ?_
                    refine n_callV1z hC (mt_X3_findForm na h M3 (f := b) (n := mN M 1) (c := mSn M b) (st := mSt M b) ((congrFun (hF3 1 (by decide)) 0).trans h1) (by omega) b1 (hx2.1.fr hF3 (by decide)) hx2.2.1 (fun k hk => ⟨(hx2.2.2 k hk).1.fr hF3 (by decide), (hx2.2.2 k hk).2⟩)) md_X3_findForm q1449 dX3_akin_89 rfl (mPut_o _ _ _) rfl rfl ⟨rfl, rfl, by decide, by decide⟩ rfl (Nat.le_of_ble_eq_true rfl) (by decide) (by decide) (fun r10 na10 h10 hp10 => ?_)
                    obtain ⟨rfl, M4, rfl, hF2, hmf2⟩ := hp10
                    skip
                    rcases hff2 : fform (mN M 1) (mSt M b) (mSn M b) with _ | ⟨t2, g2, m2⟩ <;> rw [hff2] at hmf2
                    · skip
                      dsimp only at hmf2
                      subst hmf2
                      refine n_if_neN hC (tgt := 98) dX3_akin_92 (by decide) (by omega) (fun c_92 => absurd c_92 (by decide)) (fun c_92 => ?_)
                      refine n_bipush hC (v := (-3)) dX3_akin_95 (by decide) ?_
                      exact n_iret hC dX3_akin_97 (by decide) (by decide) (⟨rfl, by unfold o_akin; dsimp only; rw [if_neg hna, if_neg hnb, if_neg c_32, hff1, hff2], _, rfl, mEq.fr (S := [35, 36, 37, 38]) (by decide) (mFr.cmp (by decide) (by decide) hF3 hF2)⟩)
                    · skip
                      obtain ⟨hr2, hfr2, h38_2⟩ := hmf2
                      subst hr2
                      obtain ⟨k21, k22, k23, k24⟩ := fform_ok (by omega) b1 hff2
                      refine n_if_neN hC (tgt := 98) dX3_akin_92 (by decide) (by omega) (fun c_92 => ?_) (fun c_92 => absurd c_92 (by decide))
                      have h36m : ∀ q, q < m → M4 36 q = nI (g q) := fun q hq => (congrFun (hF2 36 (by decide)) q).trans (h36 q (by omega))
                      have hx12 := hx1.2.1
                      have hx22 := hx2.2.1
                      refine n_iload_n hC dX3_akin_98 rfl ?_
                      refine n_aload_n hC dX3_akin_99 rfl ?_
                      refine m_getI hC 38 (v := iI t2) dX3_akin_100 rfl rfl (by decide) h38_2 ?_
                      refine n_icmp_ne hC (tgt := 119) dX3_akin_103 (by decide) (fun c_103 => ?_) (fun c_103 => ?_)
                      · skip
                        refine n_iconst hC (v := nbo false) dX3_akin_119 (by decide) ?_
                        refine n_istore hC dX3_akin_120 (Nat.le_of_ble_eq_true rfl) ?_
                        refine n_iconst hC (v := nI 0) dX3_akin_122 (by decide) ?_
                        refine n_istore hC dX3_akin_123 (Nat.le_of_ble_eq_true rfl) ?_
                        have lp125 : ∀ d9 : Nat, ∀ (k : Nat) (b9 : Bool), m - k = d9 → (k ≤ m) → ((decide (t = t2) && (decide (m = m2) && allb k (fun k => decide (g k = g2 k)))) = b9) → WN K na (mPut na h M4) 0 0 Q9 125 [some (.ref (na 61)), some (.int a), some (.int b), some (.int (iI t)), some (.int (nI m)), some (.int (nbo b9)), some (.int (nI k))] [] := by
                          intro d9
                          induction d9 using Nat.strongRecOn with
                          | _ d9 ih125 =>
                            intro k b9 hd125 hk2 hb
                            refine n_iload hC dX3_akin_125 rfl ?_
                            refine n_iload hC dX3_akin_127 rfl ?_
                            refine n_icmp_geN hC (tgt := 167) dX3_akin_129 (by decide) (by omega) (by omega) (fun c_129 => ?_) (fun c_129 => ?_)
                            · skip
                              have hb9 : (decide (t = t2) && (decide (m = m2) && allb m (fun k => decide (g k = g2 k)))) = b9 := by rw [← hb, show k = m by omega]
                              refine n_iload hC dX3_akin_167 rfl ?_
                              refine n_if_eqB hC (tgt := 176) dX3_akin_169 (by decide) (fun c_169 => ?_) (fun c_169 => ?_)
                              · skip
                                refine n_iconst hC (v := nI 0) dX3_akin_176 (by decide) ?_
                                exact n_iret hC dX3_akin_177 (by decide) (by decide) (⟨rfl, by unfold o_akin; dsimp only; rw [if_neg hna, if_neg hnb, if_neg c_32, hff1, hff2]; dsimp only; rw [hb9, c_169]; rfl, _, rfl, mEq.fr (S := [35, 36, 37, 38]) (by decide) (mFr.cmp (by decide) (by decide) hF3 hF2)⟩)
                              · skip
                                refine n_iconst hC (v := nI 1) dX3_akin_172 (by decide) ?_
                                refine n_goto hC (tgt := 177) dX3_akin_173 (by decide) ?_
                                exact n_iret hC dX3_akin_177 (by decide) (by decide) (⟨rfl, by unfold o_akin; dsimp only; rw [if_neg hna, if_neg hnb, if_neg c_32, hff1, hff2]; dsimp only; rw [hb9, c_169]; rfl, _, rfl, mEq.fr (S := [35, 36, 37, 38]) (by decide) (mFr.cmp (by decide) (by decide) hF3 hF2)⟩)
                            · skip
                              refine n_iload hC dX3_akin_132 rfl ?_
                              refine n_if_eqB hC (tgt := 167) dX3_akin_134 (by decide) (fun c_134 => ?_) (fun c_134 => ?_)
                              · skip
                                have hb9 : (decide (t = t2) && (decide (m = m2) && allb m (fun k => decide (g k = g2 k)))) = b9 := by rw [c_134] at hb; cases hz : (decide (t = t2) && (decide (m = m2) && allb m (fun k => decide (g k = g2 k)))) with
                                  | false => exact c_134.symm
                                  | true =>
                                    rw [Bool.and_eq_true, Bool.and_eq_true] at hz
                                    rw [hz.1, hz.2.1, allb_mono (by omega) hz.2.2] at hb
                                    cases hb
                                refine n_iload hC dX3_akin_167 rfl ?_
                                refine n_if_eqB hC (tgt := 176) dX3_akin_169 (by decide) (fun c_169 => ?_) (fun c_169 => ?_)
                                · skip
                                  refine n_iconst hC (v := nI 0) dX3_akin_176 (by decide) ?_
                                  exact n_iret hC dX3_akin_177 (by decide) (by decide) (⟨rfl, by unfold o_akin; dsimp only; rw [if_neg hna, if_neg hnb, if_neg c_32, hff1, hff2]; dsimp only; rw [hb9, c_169]; rfl, _, rfl, mEq.fr (S := [35, 36, 37, 38]) (by decide) (mFr.cmp (by decide) (by decide) hF3 hF2)⟩)
                                · skip
                                  refine n_iconst hC (v := nI 1) dX3_akin_172 (by decide) ?_
                                  refine n_goto hC (tgt := 177) dX3_akin_173 (by decide) ?_
                                  exact n_iret hC dX3_akin_177 (by decide) (by decide) (⟨rfl, by unfold o_akin; dsimp only; rw [if_neg hna, if_neg hnb, if_neg c_32, hff1, hff2]; dsimp only; rw [hb9, c_169]; rfl, _, rfl, mEq.fr (S := [35, 36, 37, 38]) (by decide) (mFr.cmp (by decide) (by decide) hF3 hF2)⟩)
                              · skip
                                have hb3 := hb.trans c_134
                                rw [Bool.and_eq_true, Bool.and_eq_true, decide_eq_true_iff, decide_eq_true_iff] at hb3
                                have hmm := hb3.2.1
                                have gk1 := k14 k (by omega)
                                have gk2 := k24 k (by omega)
                                refine n_aload_n hC dX3_akin_137 rfl ?_
                                refine m_getA hC 35 dX3_akin_138 rfl rfl ?_
                                refine n_iload hC dX3_akin_141 rfl ?_
                                refine m_aldN hC 35 (v := nI (g2 k)) dX3_akin_143 rfl rfl (by have h9 : mLen 35 = 300 := rfl; omega) (hfr2.2 k (by omega)) ?_
                                refine n_aload_n hC dX3_akin_144 rfl ?_
                                refine m_getA hC 36 dX3_akin_145 rfl rfl ?_
                                refine n_iload hC dX3_akin_148 rfl ?_
                                refine m_aldN hC 36 (v := nI (g k)) dX3_akin_150 rfl rfl (by have h9 : mLen 36 = 300 := rfl; omega) (h36m k (by omega)) ?_
                                refine n_icmp_neN hC (tgt := 158) dX3_akin_151 (by decide) (by omega) (by omega) (fun c_151 => ?_) (fun c_151 => ?_)
                                · skip
                                  refine n_iconst hC (v := nbo false) dX3_akin_158 (by decide) ?_
                                  refine n_istore hC dX3_akin_159 (Nat.le_of_ble_eq_true rfl) ?_
                                  refine n_iincN hC dX3_akin_161 (j := 1) (c := k + 1) rfl (by decide) rfl ?_
                                  refine n_goto hC (tgt := 125) dX3_akin_164 (by decide) ?_
                                  exact WN.forget (L' := [some (.ref (na 61)), some (.int a), some (.int b), some (.int (iI t)), some (.int (nI m)), some (.int (nbo false)), some (.int (nI (k + 1)))]) (⟨Or.inr rfl, Or.inr rfl, Or.inr rfl, Or.inr rfl, Or.inr rfl, Or.inr rfl, Or.inr rfl, trivial⟩) (ih125 _ (by omega) (k + 1) false rfl (by omega) (by show (decide _ && (decide _ && (allb k _ && decide (g k = g2 k)))) = false; rw [← Bool.and_assoc (decide (m = m2)), ← Bool.and_assoc (decide (t = t2)), hb, c_134]; exact decide_eq_false (by omega)))
                                · skip
                                  refine n_iconst hC (v := nbo true) dX3_akin_154 (by decide) ?_
                                  refine n_goto hC (tgt := 159) dX3_akin_155 (by decide) ?_
                                  refine n_istore hC dX3_akin_159 (Nat.le_of_ble_eq_true rfl) ?_
                                  refine n_iincN hC dX3_akin_161 (j := 1) (c := k + 1) rfl (by decide) rfl ?_
                                  refine n_goto hC (tgt := 125) dX3_akin_164 (by decide) ?_
                                  exact WN.forget (L' := [some (.ref (na 61)), some (.int a), some (.int b), some (.int (iI t)), some (.int (nI m)), some (.int (nbo true)), some (.int (nI (k + 1)))]) (⟨Or.inr rfl, Or.inr rfl, Or.inr rfl, Or.inr rfl, Or.inr rfl, Or.inr rfl, Or.inr rfl, trivial⟩) (ih125 _ (by omega) (k + 1) true rfl (by omega) (by show (decide _ && (decide _ && (allb k _ && decide (g k = g2 k)))) = true; rw [← Bool.and_assoc (decide (m = m2)), ← Bool.and_assoc (decide (t = t2)), hb, c_134]; exact decide_eq_true (by omega)))
                        exact WN.forget (L' := [some (.ref (na 61)), some (.int a), some (.int b), some (.int (iI t)), some (.int (nI m)), some (.int (nbo false)), some (.int (nI 0))]) (⟨Or.inr rfl, Or.inr rfl, Or.inr rfl, Or.inr rfl, Or.inr rfl, Or.inr rfl, Or.inr rfl, trivial⟩) (lp125 _ 0 false rfl (by omega) (by show (decide _ && (decide _ && true)) = _; rw [decide_eq_false (fun e => c_103 (by rw [e]))]; rfl))
                      · skip
                        have ett := iI_inj (by omega) (by omega) c_103
                        refine n_iload hC dX3_akin_106 rfl ?_
                        refine n_aload_n hC dX3_akin_108 rfl ?_
                        refine m_getI hC 37 (v := nI m2) dX3_akin_109 rfl rfl (by decide) hfr2.1 ?_
                        refine n_icmp_neN hC (tgt := 119) dX3_akin_112 (by decide) (by omega) (by omega) (fun c_112 => ?_) (fun c_112 => ?_)
                        · skip
                          refine n_iconst hC (v := nbo false) dX3_akin_119 (by decide) ?_
                          refine n_istore hC dX3_akin_120 (Nat.le_of_ble_eq_true rfl) ?_
                          refine n_iconst hC (v := nI 0) dX3_akin_122 (by decide) ?_
                          refine n_istore hC dX3_akin_123 (Nat.le_of_ble_eq_true rfl) ?_
                          have lp125 : ∀ d9 : Nat, ∀ (k : Nat) (b9 : Bool), m - k = d9 → (k ≤ m) → ((decide (t = t2) && (decide (m = m2) && allb k (fun k => decide (g k = g2 k)))) = b9) → WN K na (mPut na h M4) 0 0 Q9 125 [some (.ref (na 61)), some (.int a), some (.int b), some (.int (iI t)), some (.int (nI m)), some (.int (nbo b9)), some (.int (nI k))] [] := by
                            intro d9
                            induction d9 using Nat.strongRecOn with
                            | _ d9 ih125 =>
                              intro k b9 hd125 hk2 hb
                              refine n_iload hC dX3_akin_125 rfl ?_
                              refine n_iload hC dX3_akin_127 rfl ?_
                              refine n_icmp_geN hC (tgt := 167) dX3_akin_129 (by decide) (by omega) (by omega) (fun c_129 => ?_) (fun c_129 => ?_)
                              · skip
                                have hb9 : (decide (t = t2) && (decide (m = m2) && allb m (fun k => decide (g k = g2 k)))) = b9 := by rw [← hb, show k = m by omega]
                                refine n_iload hC dX3_akin_167 rfl ?_
                                refine n_if_eqB hC (tgt := 176) dX3_akin_169 (by decide) (fun c_169 => ?_) (fun c_169 => ?_)
                                · skip
                                  refine n_iconst hC (v := nI 0) dX3_akin_176 (by decide) ?_
                                  exact n_iret hC dX3_akin_177 (by decide) (by decide) (⟨rfl, by unfold o_akin; dsimp only; rw [if_neg hna, if_neg hnb, if_neg c_32, hff1, hff2]; dsimp only; rw [hb9, c_169]; rfl, _, rfl, mEq.fr (S := [35, 36, 37, 38]) (by decide) (mFr.cmp (by decide) (by decide) hF3 hF2)⟩)
                                · skip
                                  refine n_iconst hC (v := nI 1) dX3_akin_172 (by decide) ?_
                                  refine n_goto hC (tgt := 177) dX3_akin_173 (by decide) ?_
                                  exact n_iret hC dX3_akin_177 (by decide) (by decide) (⟨rfl, by unfold o_akin; dsimp only; rw [if_neg hna, if_neg hnb, if_neg c_32, hff1, hff2]; dsimp only; rw [hb9, c_169]; rfl, _, rfl, mEq.fr (S := [35, 36, 37, 38]) (by decide) (mFr.cmp (by decide) (by decide) hF3 hF2)⟩)
                              · skip
                                refine n_iload hC dX3_akin_132 rfl ?_
                                refine n_if_eqB hC (tgt := 167) dX3_akin_134 (by decide) (fun c_134 => ?_) (fun c_134 => ?_)
                                · skip
                                  have hb9 : (decide (t = t2) && (decide (m = m2) && allb m (fun k => decide (g k = g2 k)))) = b9 := by rw [c_134] at hb; cases hz : (decide (t = t2) && (decide (m = m2) && allb m (fun k => decide (g k = g2 k)))) with
                                    | false => exact c_134.symm
                                    | true =>
                                      rw [Bool.and_eq_true, Bool.and_eq_true] at hz
                                      rw [hz.1, hz.2.1, allb_mono (by omega) hz.2.2] at hb
                                      cases hb
                                  refine n_iload hC dX3_akin_167 rfl ?_
                                  refine n_if_eqB hC (tgt := 176) dX3_akin_169 (by decide) (fun c_169 => ?_) (fun c_169 => ?_)
                                  · skip
                                    refine n_iconst hC (v := nI 0) dX3_akin_176 (by decide) ?_
                                    exact n_iret hC dX3_akin_177 (by decide) (by decide) (⟨rfl, by unfold o_akin; dsimp only; rw [if_neg hna, if_neg hnb, if_neg c_32, hff1, hff2]; dsimp only; rw [hb9, c_169]; rfl, _, rfl, mEq.fr (S := [35, 36, 37, 38]) (by decide) (mFr.cmp (by decide) (by decide) hF3 hF2)⟩)
                                  · skip
                                    refine n_iconst hC (v := nI 1) dX3_akin_172 (by decide) ?_
                                    refine n_goto hC (tgt := 177) dX3_akin_173 (by decide) ?_
                                    exact n_iret hC dX3_akin_177 (by decide) (by decide) (⟨rfl, by unfold o_akin; dsimp only; rw [if_neg hna, if_neg hnb, if_neg c_32, hff1, hff2]; dsimp only; rw [hb9, c_169]; rfl, _, rfl, mEq.fr (S := [35, 36, 37, 38]) (by decide) (mFr.cmp (by decide) (by decide) hF3 hF2)⟩)
                                · skip
                                  have hb3 := hb.trans c_134
                                  rw [Bool.and_eq_true, Bool.and_eq_true, decide_eq_true_iff, decide_eq_true_iff] at hb3
                                  have hmm := hb3.2.1
                                  have gk1 := k14 k (by omega)
                                  have gk2 := k24 k (by omega)
                                  refine n_aload_n hC dX3_akin_137 rfl ?_
                                  refine m_getA hC 35 dX3_akin_138 rfl rfl ?_
                                  refine n_iload hC dX3_akin_141 rfl ?_
                                  refine m_aldN hC 35 (v := nI (g2 k)) dX3_akin_143 rfl rfl (by have h9 : mLen 35 = 300 := rfl; omega) (hfr2.2 k (by omega)) ?_
                                  refine n_aload_n hC dX3_akin_144 rfl ?_
                                  refine m_getA hC 36 dX3_akin_145 rfl rfl ?_
                                  refine n_iload hC dX3_akin_148 rfl ?_
                                  refine m_aldN hC 36 (v := nI (g k)) dX3_akin_150 rfl rfl (by have h9 : mLen 36 = 300 := rfl; omega) (h36m k (by omega)) ?_
                                  refine n_icmp_neN hC (tgt := 158) dX3_akin_151 (by decide) (by omega) (by omega) (fun c_151 => ?_) (fun c_151 => ?_)
                                  · skip
                                    refine n_iconst hC (v := nbo false) dX3_akin_158 (by decide) ?_
                                    refine n_istore hC dX3_akin_159 (Nat.le_of_ble_eq_true rfl) ?_
                                    refine n_iincN hC dX3_akin_161 (j := 1) (c := k + 1) rfl (by decide) rfl ?_
                                    refine n_goto hC (tgt := 125) dX3_akin_164 (by decide) ?_
                                    exact WN.forget (L' := [some (.ref (na 61)), some (.int a), some (.int b), some (.int (iI t)), some (.int (nI m)), some (.int (nbo false)), some (.int (nI (k + 1)))]) (⟨Or.inr rfl, Or.inr rfl, Or.inr rfl, Or.inr rfl, Or.inr rfl, Or.inr rfl, Or.inr rfl, trivial⟩) (ih125 _ (by omega) (k + 1) false rfl (by omega) (by show (decide _ && (decide _ && (allb k _ && decide (g k = g2 k)))) = false; rw [← Bool.and_assoc (decide (m = m2)), ← Bool.and_assoc (decide (t = t2)), hb, c_134]; exact decide_eq_false (by omega)))
                                  · skip
                                    refine n_iconst hC (v := nbo true) dX3_akin_154 (by decide) ?_
                                    refine n_goto hC (tgt := 159) dX3_akin_155 (by decide) ?_
                                    refine n_istore hC dX3_akin_159 (Nat.le_of_ble_eq_true rfl) ?_
                                    refine n_iincN hC dX3_akin_161 (j := 1) (c := k + 1) rfl (by decide) rfl ?_
                                    refine n_goto hC (tgt := 125) dX3_akin_164 (by decide) ?_
                                    exact WN.forget (L' := [some (.ref (na 61)), some (.int a), some (.int b), some (.int (iI t)), some (.int (nI m)), some (.int (nbo true)), some (.int (nI (k + 1)))]) (⟨Or.inr rfl, Or.inr rfl, Or.inr rfl, Or.inr rfl, Or.inr rfl, Or.inr rfl, Or.inr rfl, trivial⟩) (ih125 _ (by omega) (k + 1) true rfl (by omega) (by show (decide _ && (decide _ && (allb k _ && decide (g k = g2 k)))) = true; rw [← Bool.and_assoc (decide (m = m2)), ← Bool.and_assoc (decide (t = t2)), hb, c_134]; exact decide_eq_true (by omega)))
                          exact WN.forget (L' := [some (.ref (na 61)), some (.int a), some (.int b), some (.int (iI t)), some (.int (nI m)), some (.int (nbo false)), some (.int (nI 0))]) (⟨Or.inr rfl, Or.inr rfl, Or.inr rfl, Or.inr rfl, Or.inr rfl, Or.inr rfl, Or.inr rfl, trivial⟩) (lp125 _ 0 false rfl (by omega) (by show (decide _ && (decide _ && true)) = _; rw [decide_eq_false (show ¬ m = m2 from c_112), Bool.false_and, Bool.and_false]))
                        · skip
                          refine n_iconst hC (v := nbo true) dX3_akin_115 (by decide) ?_
                          refine n_goto hC (tgt := 120) dX3_akin_116 (by decide) ?_
                          refine n_istore hC dX3_akin_120 (Nat.le_of_ble_eq_true rfl) ?_
                          refine n_iconst hC (v := nI 0) dX3_akin_122 (by decide) ?_
                          refine n_istore hC dX3_akin_123 (Nat.le_of_ble_eq_true rfl) ?_
                          have lp125 : ∀ d9 : Nat, ∀ (k : Nat) (b9 : Bool), m - k = d9 → (k ≤ m) → ((decide (t = t2) && (decide (m = m2) && allb k (fun k => decide (g k = g2 k)))) = b9) → WN K na (mPut na h M4) 0 0 Q9 125 [some (.ref (na 61)), some (.int a), some (.int b), some (.int (iI t)), some (.int (nI m)), some (.int (nbo b9)), some (.int (nI k))] [] := by
                            intro d9
                            induction d9 using Nat.strongRecOn with
                            | _ d9 ih125 =>
                              intro k b9 hd125 hk2 hb
                              refine n_iload hC dX3_akin_125 rfl ?_
                              refine n_iload hC dX3_akin_127 rfl ?_
                              refine n_icmp_geN hC (tgt := 167) dX3_akin_129 (by decide) (by omega) (by omega) (fun c_129 => ?_) (fun c_129 => ?_)
                              · skip
                                have hb9 : (decide (t = t2) && (decide (m = m2) && allb m (fun k => decide (g k = g2 k)))) = b9 := by rw [← hb, show k = m by omega]
                                refine n_iload hC dX3_akin_167 rfl ?_
                                refine n_if_eqB hC (tgt := 176) dX3_akin_169 (by decide) (fun c_169 => ?_) (fun c_169 => ?_)
                                · skip
                                  refine n_iconst hC (v := nI 0) dX3_akin_176 (by decide) ?_
                                  exact n_iret hC dX3_akin_177 (by decide) (by decide) (⟨rfl, by unfold o_akin; dsimp only; rw [if_neg hna, if_neg hnb, if_neg c_32, hff1, hff2]; dsimp only; rw [hb9, c_169]; rfl, _, rfl, mEq.fr (S := [35, 36, 37, 38]) (by decide) (mFr.cmp (by decide) (by decide) hF3 hF2)⟩)
                                · skip
                                  refine n_iconst hC (v := nI 1) dX3_akin_172 (by decide) ?_
                                  refine n_goto hC (tgt := 177) dX3_akin_173 (by decide) ?_
                                  exact n_iret hC dX3_akin_177 (by decide) (by decide) (⟨rfl, by unfold o_akin; dsimp only; rw [if_neg hna, if_neg hnb, if_neg c_32, hff1, hff2]; dsimp only; rw [hb9, c_169]; rfl, _, rfl, mEq.fr (S := [35, 36, 37, 38]) (by decide) (mFr.cmp (by decide) (by decide) hF3 hF2)⟩)
                              · skip
                                refine n_iload hC dX3_akin_132 rfl ?_
                                refine n_if_eqB hC (tgt := 167) dX3_akin_134 (by decide) (fun c_134 => ?_) (fun c_134 => ?_)
                                · skip
                                  have hb9 : (decide (t = t2) && (decide (m = m2) && allb m (fun k => decide (g k = g2 k)))) = b9 := by rw [c_134] at hb; cases hz : (decide (t = t2) && (decide (m = m2) && allb m (fun k => decide (g k = g2 k)))) with
                                    | false => exact c_134.symm
                                    | true =>
                                      rw [Bool.and_eq_true, Bool.and_eq_true] at hz
                                      rw [hz.1, hz.2.1, allb_mono (by omega) hz.2.2] at hb
                                      cases hb
                                  refine n_iload hC dX3_akin_167 rfl ?_
                                  refine n_if_eqB hC (tgt := 176) dX3_akin_169 (by decide) (fun c_169 => ?_) (fun c_169 => ?_)
                                  · skip
                                    refine n_iconst hC (v := nI 0) dX3_akin_176 (by decide) ?_
                                    exact n_iret hC dX3_akin_177 (by decide) (by decide) (⟨rfl, by unfold o_akin; dsimp only; rw [if_neg hna, if_neg hnb, if_neg c_32, hff1, hff2]; dsimp only; rw [hb9, c_169]; rfl, _, rfl, mEq.fr (S := [35, 36, 37, 38]) (by decide) (mFr.cmp (by decide) (by decide) hF3 hF2)⟩)
                                  · skip
                                    refine n_iconst hC (v := nI 1) dX3_akin_172 (by decide) ?_
                                    refine n_goto hC (tgt := 177) dX3_akin_173 (by decide) ?_
                                    exact n_iret hC dX3_akin_177 (by decide) (by decide) (⟨rfl, by unfold o_akin; dsimp only; rw [if_neg hna, if_neg hnb, if_neg c_32, hff1, hff2]; dsimp only; rw [hb9, c_169]; rfl, _, rfl, mEq.fr (S := [35, 36, 37, 38]) (by decide) (mFr.cmp (by decide) (by decide) hF3 hF2)⟩)
                                · skip
                                  have hb3 := hb.trans c_134
                                  rw [Bool.and_eq_true, Bool.and_eq_true, decide_eq_true_iff, decide_eq_true_iff] at hb3
                                  have hmm := hb3.2.1
                                  have gk1 := k14 k (by omega)
                                  have gk2 := k24 k (by omega)
                                  refine n_aload_n hC dX3_akin_137 rfl ?_
                                  refine m_getA hC 35 dX3_akin_138 rfl rfl ?_
                                  refine n_iload hC dX3_akin_141 rfl ?_
                                  refine m_aldN hC 35 (v := nI (g2 k)) dX3_akin_143 rfl rfl (by have h9 : mLen 35 = 300 := rfl; omega) (hfr2.2 k (by omega)) ?_
                                  refine n_aload_n hC dX3_akin_144 rfl ?_
                                  refine m_getA hC 36 dX3_akin_145 rfl rfl ?_
                                  refine n_iload hC dX3_akin_148 rfl ?_
                                  refine m_aldN hC 36 (v := nI (g k)) dX3_akin_150 rfl rfl (by have h9 : mLen 36 = 300 := rfl; omega) (h36m k (by omega)) ?_
                                  refine n_icmp_neN hC (tgt := 158) dX3_akin_151 (by decide) (by omega) (by omega) (fun c_151 => ?_) (fun c_151 => ?_)
                                  · skip
                                    refine n_iconst hC (v := nbo false) dX3_akin_158 (by decide) ?_
                                    refine n_istore hC dX3_akin_159 (Nat.le_of_ble_eq_true rfl) ?_
                                    refine n_iincN hC dX3_akin_161 (j := 1) (c := k + 1) rfl (by decide) rfl ?_
                                    refine n_goto hC (tgt := 125) dX3_akin_164 (by decide) ?_
                                    exact WN.forget (L' := [some (.ref (na 61)), some (.int a), some (.int b), some (.int (iI t)), some (.int (nI m)), some (.int (nbo false)), some (.int (nI (k + 1)))]) (⟨Or.inr rfl, Or.inr rfl, Or.inr rfl, Or.inr rfl, Or.inr rfl, Or.inr rfl, Or.inr rfl, trivial⟩) (ih125 _ (by omega) (k + 1) false rfl (by omega) (by show (decide _ && (decide _ && (allb k _ && decide (g k = g2 k)))) = false; rw [← Bool.and_assoc (decide (m = m2)), ← Bool.and_assoc (decide (t = t2)), hb, c_134]; exact decide_eq_false (by omega)))
                                  · skip
                                    refine n_iconst hC (v := nbo true) dX3_akin_154 (by decide) ?_
                                    refine n_goto hC (tgt := 159) dX3_akin_155 (by decide) ?_
                                    refine n_istore hC dX3_akin_159 (Nat.le_of_ble_eq_true rfl) ?_
                                    refine n_iincN hC dX3_akin_161 (j := 1) (c := k + 1) rfl (by decide) rfl ?_
                                    refine n_goto hC (tgt := 125) dX3_akin_164 (by decide) ?_
                                    exact WN.forget (L' := [some (.ref (na 61)), some (.int a), some (.int b), some (.int (iI t)), some (.int (nI m)), some (.int (nbo true)), some (.int (nI (k + 1)))]) (⟨Or.inr rfl, Or.inr rfl, Or.inr rfl, Or.inr rfl, Or.inr rfl, Or.inr rfl, Or.inr rfl, trivial⟩) (ih125 _ (by omega) (k + 1) true rfl (by omega) (by show (decide _ && (decide _ && (allb k _ && decide (g k = g2 k)))) = true; rw [← Bool.and_assoc (decide (m = m2)), ← Bool.and_assoc (decide (t = t2)), hb, c_134]; exact decide_eq_true (by omega)))
                          exact WN.forget (L' := [some (.ref (na 61)), some (.int a), some (.int b), some (.int (iI t)), some (.int (nI m)), some (.int (nbo true)), some (.int (nI 0))]) (⟨Or.inr rfl, Or.inr rfl, Or.inr rfl, Or.inr rfl, Or.inr rfl, Or.inr rfl, Or.inr rfl, trivial⟩) (lp125 _ 0 true rfl (by omega) (by show (decide _ && (decide _ && true)) = _; rw [decide_eq_true (show m = m2 from c_112), decide_eq_true ett]; rfl))
                  · skip
                    refine n_aload_n hC dX3_akin_67 rfl ?_
                    refine m_getA hC 36 dX3_akin_68 rfl rfl ?_
                    refine n_iload hC dX3_akin_71 rfl ?_
                    refine n_aload_n hC dX3_akin_73 rfl ?_
                    refine m_getA hC 35 dX3_akin_74 rfl rfl ?_
                    refine n_iload hC dX3_akin_77 rfl ?_
                    refine m_aldN hC 35 (v := M3 35 k) dX3_akin_79 rfl rfl (by have h9 : mLen 35 = 300 := rfl; omega) rfl ?_
                    refine m_astN hC 36 (M2 := mset M3 36 (upd (M3 36) k (M3 35 k))) dX3_akin_80 rfl rfl (by have h9 : mLen 36 = 300 := rfl; omega) rfl ?_
                    refine n_iincN hC dX3_akin_81 (j := 1) (c := k + 1) rfl (by decide) rfl ?_
                    refine n_goto hC (tgt := 60) dX3_akin_84 (by decide) ?_
                    exact WN.forget (L' := [some (.ref (na 61)), some (.int a), some (.int b), some (.int (iI t)), some (.int (nI m)), some (.int (nI (k + 1))), none]) (⟨Or.inr rfl, Or.inr rfl, Or.inr rfl, Or.inr rfl, Or.inr rfl, Or.inr rfl, Or.inl rfl, trivial⟩) (ih60 _ (by omega) (k + 1) (mset M3 36 (upd (M3 36) k (M3 35 k))) rfl (by omega) (mFr.set (by decide) hF3) h35 (lt_s (fun q hq => by show upd (M3 36) k _ q = _; unfold upd; rw [if_neg (by omega)]; exact h36 q hq) (by show upd (M3 36) k _ k = _; unfold upd; rw [if_pos rfl]; exact h35 k (by omega))))
              exact WN.forget (L' := [some (.ref (na 61)), some (.int a), some (.int b), some (.int (iI t)), some (.int (nI m)), some (.int (nI 0)), none]) (⟨Or.inr rfl, Or.inr rfl, Or.inr rfl, Or.inr rfl, Or.inr rfl, Or.inr rfl, Or.inl rfl, trivial⟩) (lp60 _ 0 M2 rfl (by omega) (mFr.wk (by decide) hF1) hfr1.2 lt_0)
        · skip
          refine n_iconst hC (v := (-1)) dX3_akin_26 (by decide) ?_
          exact n_iret hC dX3_akin_27 (by decide) (by decide) (⟨rfl, by unfold o_akin; dsimp only; rw [if_neg hna, if_pos ⟨c_15, c_23⟩], M, rfl, mEq.rf⟩)

