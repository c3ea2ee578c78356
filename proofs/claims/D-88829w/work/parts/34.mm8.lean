/-! ===== THE REFERENCE's methods: figures danced, tried ===== -/
set_option maxRecDepth 100000
set_option maxHeartbeats 4000000 in
set_option maxRecDepth 100000 in
theorem mt_X3_dance (na : nA) (h : nH) (M : nMem) (hI : mInv M) (f : Int32) : nM yX3_dance cX3_dance 5 (some .int) (nRm 9 0 0) [.ref (na 61), .int f] na (mPut na h M) (nQi (mOp na h (o_dance f M))) 0 0 := by
  refine nM.ofN RX3 rfl (by decide) (by intro v hv; simp only [List.mem_cons, List.not_mem_nil, or_false] at hv; rcases hv with rfl | rfl <;> rfl) (Nat.le_of_ble_eq_true rfl) (fun K hC hnm => ?_)
  show WN K na (mPut na h M) 0 0 (nE K (nQi (mOp na h (o_dance f M))) 0 0) 0 [some (.ref (na 61)), some (.int f), none, none, none] []
  let Q9 : State → Prop := nE K (nQi (mOp na h (o_dance f M))) 0 0
  show WN K na (mPut na h M) 0 0 Q9 0 [some (.ref (na 61)), some (.int f), none, none, none] []
  have hI9 := hI
  obtain ⟨⟨h0, b0⟩, ⟨h1, b1a, b1⟩, ⟨h11, b11⟩, ⟨h14, b14⟩, ⟨h15, b15, b15n⟩, ⟨h20, b20⟩, ⟨h26, b26⟩, ⟨h27, b27⟩, ⟨h55, b55⟩, iP, iH, iHi, iHd, iC, iT, iF, iG, iS, iZ⟩ := hI
  refine n_aload_n hC dX3_dance_0 rfl ?_
  refine n_iload_n hC dX3_dance_1 rfl ?_
  refine n_callV1z hC (mt_X3_isFigure na h (M) (f) (n := mN M 26) h26 (by omega)) md_X3_isFigure q1419 dX3_dance_2 rfl (mPut_o _ _ _) rfl rfl ⟨rfl, rfl, by decide, by decide⟩ rfl (Nat.le_of_ble_eq_true rfl) (by decide) (by decide) (fun r0 na0 h0 hp0 => ?_)
  obtain ⟨rfl, rfl, rfl⟩ := hp0
  refine n_if_neB hC (tgt := 10) dX3_dance_5 (by decide) (fun c_5 => ?_) (fun c_5 => ?_)
  · skip
    refine n_aload_n hC dX3_dance_10 rfl ?_
    refine m_getI hC 11 (v := nbo (mB M 11)) dX3_dance_11 rfl rfl (by decide) h11 ?_
    refine n_if_neB hC (tgt := 20) dX3_dance_14 (by decide) (fun c_14 => ?_) (fun c_14 => ?_)
    · skip
      obtain ⟨z, hz, ez⟩ := (nin_t (by omega)).mp c_5
      subst ez
      have hzc : (nI z).toNatClampNeg = z := nI_clamp (by omega)
      have hmz := (iF z hz).2
      refine n_iconst hC (v := nI 0) dX3_dance_20 (by decide) ?_
      refine n_istore_n hC dX3_dance_21 (Nat.le_of_ble_eq_true rfl) ?_
      refine n_iconst hC (v := nbo true) dX3_dance_22 (by decide) ?_
      refine n_istore_n hC dX3_dance_23 (Nat.le_of_ble_eq_true rfl) ?_
      have lp24 : ∀ d9 : Nat, ∀ (d : Nat) (g : Bool) (M3 : nMem), 2 * (mA M 28 z - d) + g.toNat = d9 → (d ≤ mA M 28 z) → (mFr [5, 6, 8, 14, 15, 16, 17, 18, 19] M M3) → (mInv M3) → (dnc (mFs M z) M = if g = true then ((dnc ((mFs M z).drop d) M3).1 + d, (dnc ((mFs M z).drop d) M3).2) else (d, M3)) → WN K na (mPut na h M3) 0 0 Q9 24 [some (.ref (na 61)), some (.int (nI z)), some (.int (nI d)), some (.int (nbo g)), none] [] := by
        intro d9
        induction d9 using Nat.strongRecOn with
        | _ d9 ih24 =>
          intro d g M3 hd24 hd hF3 hI3 hr3
          refine n_iload_n hC dX3_dance_24 rfl ?_
          refine n_if_eqB hC (tgt := 109) dX3_dance_25 (by decide) (fun c_25 => ?_) (fun c_25 => ?_)
          · skip
            refine n_iload_n hC dX3_dance_109 rfl ?_
            exact n_iret hC dX3_dance_110 (by decide) (by decide) (⟨rfl, by unfold o_dance; rw [if_neg (by rw [c_5]; decide), if_neg (by rw [c_14]; decide), hzc, hr3, if_neg (by rw [c_25]; decide)], M3, rfl, mEq.of (by unfold o_dance; rw [if_neg (by rw [c_5]; decide), if_neg (by rw [c_14]; decide), hzc, hr3, if_neg (by rw [c_25]; decide)])⟩)
          · skip
            refine n_iload_n hC dX3_dance_28 rfl ?_
            refine n_aload_n hC dX3_dance_29 rfl ?_
            refine m_getA hC 28 dX3_dance_30 rfl rfl ?_
            refine n_iload_n hC dX3_dance_33 rfl ?_
            refine m_aldN hC 28 (v := nI (mA M 28 z)) dX3_dance_34 rfl rfl (by have h9 : mLen 28 = 11 := rfl; omega) ((congrFun (hF3 28 (by decide)) z).trans (iF z hz).1) ?_
            refine n_icmp_geN hC (tgt := 109) dX3_dance_35 (by decide) (by omega) (by omega) (fun c_35 => ?_) (fun c_35 => ?_)
            · skip
              have hgd : (if g = true then ((dnc ((mFs M z).drop d) M3).1 + d, (dnc ((mFs M z).drop d) M3).2) else (d, M3)) = (d, M3) := by rw [if_pos c_25, List.drop_eq_nil_of_le (by rw [mFs_len]; omega)]; exact congrArg (·, M3) (Nat.zero_add d)
              refine n_iload_n hC dX3_dance_109 rfl ?_
              exact n_iret hC dX3_dance_110 (by decide) (by decide) (⟨rfl, by unfold o_dance; rw [if_neg (by rw [c_5]; decide), if_neg (by rw [c_14]; decide), hzc, hr3, hgd], M3, rfl, mEq.of (by unfold o_dance; rw [if_neg (by rw [c_5]; decide), if_neg (by rw [c_14]; decide), hzc, hr3, hgd])⟩)
            · skip
              have hdl : d < (mFs M z).length := by rw [mFs_len]; omega
              have hs9 := stp_lt (iG z d hz c_35).2
              refine n_aload_n hC dX3_dance_38 rfl ?_
              refine m_getA hC 29 dX3_dance_39 rfl rfl ?_
              refine n_sipush hC (v := nI 300) dX3_dance_42 (by decide) ?_
              refine n_iload_n hC dX3_dance_45 rfl ?_
              refine n_imulN hC dX3_dance_46 rfl ?_
              refine n_iload_n hC dX3_dance_47 rfl ?_
              refine n_iaddN hC dX3_dance_48 rfl ?_
              refine m_aldN hC 29 (v := nI (mA M 29 (300 * z + d))) dX3_dance_49 rfl rfl (by have h9 : mLen 29 = 3300 := rfl; omega) ((congrFun (hF3 29 (by decide)) _).trans (iG z d hz c_35).1) ?_
              refine n_istore hC dX3_dance_50 (Nat.le_of_ble_eq_true rfl) ?_
              refine n_iload hC dX3_dance_52 rfl ?_
              refine n_bipush hC (v := nI 100) dX3_dance_54 (by decide) ?_
              refine n_icmp_ltN hC (tgt := 71) dX3_dance_56 (by decide) (by omega) (by omega) (fun c_56 => ?_) (fun c_56 => ?_)
              · skip
                refine n_aload_n hC dX3_dance_71 rfl ?_
                refine n_iload hC dX3_dance_72 rfl ?_
                refine n_bipush hC (v := nI 10) dX3_dance_74 (by decide) ?_
                refine n_idivN hC dX3_dance_76 (by omega) (by omega) (by omega) rfl ?_
                refine n_iload hC dX3_dance_77 rfl ?_
                refine n_bipush hC (v := nI 10) dX3_dance_79 (by decide) ?_
                refine n_iremN hC dX3_dance_81 (by omega) (by omega) (by omega) rfl ?_
                refine n_callV2i hC (mt_X3_pass na h (M3) hI3 (nI ((mA M 29 (300 * z + d)) / 10)) (nI ((mA M 29 (300 * z + d)) % 10))) md_X3_pass q1444 dX3_dance_82 rfl (mPut_o _ _ _) rfl rfl ⟨rfl, rfl, by decide, by decide⟩ rfl (Nat.le_of_ble_eq_true rfl) (by decide) (by decide) (fun r1 na1 h1 hp1 => ?_)
                obtain ⟨rfl, er1, M4, rfl, eM1⟩ := hp1
                have hds : dstep ((mFs M z).getD d 0) M3 = (r1, M4) := by rw [mFs_get c_35]; unfold dstep; rw [if_neg (by omega), ← er1, eM1]
                have hF4 : mFr [5, 6, 8, 14, 15, 16, 17, 18, 19] M M4 := by rw [eM1]; exact mFr.cmp (fun _ z => z) (fun _ z => z) hF3 (pass_fr _ _ _)
                have hI4 : mInv M4 := by rw [eM1]; exact inv_pass hI3 _ _
                refine n_if_le hC (tgt := 92) dX3_dance_85 (by decide) (fun c_85 => ?_) (fun c_85 => ?_)
                · skip
                  have hr4 : dnc (mFs M z) M = if false = true then ((dnc ((mFs M z).drop d) M4).1 + d, (dnc ((mFs M z).drop d) M4).2) else (d, M4) := by
                    rw [hr3, if_pos c_25, if_neg (by decide), drop_cons hdl, dnc_n hds (Int32.not_lt.mpr c_85)]
                    dsimp only
                    rw [Nat.zero_add]
                  refine n_iconst hC (v := nbo false) dX3_dance_92 (by decide) ?_
                  refine n_istore_n hC dX3_dance_93 (Nat.le_of_ble_eq_true rfl) ?_
                  refine n_iload_n hC dX3_dance_94 rfl ?_
                  refine n_iload_n hC dX3_dance_95 rfl ?_
                  refine n_if_eqB hC (tgt := 103) dX3_dance_96 (by decide) (fun c_96 => ?_) (fun c_96 => absurd c_96 (by decide))
                  refine n_iconst hC (v := nI 0) dX3_dance_103 (by decide) ?_
                  refine n_iaddN hC dX3_dance_104 rfl ?_
                  refine n_istore_n hC dX3_dance_105 (Nat.le_of_ble_eq_true rfl) ?_
                  refine n_goto hC (tgt := 24) dX3_dance_106 (by decide) ?_
                  exact WN.forget (L' := [some (.ref (na 61)), some (.int (nI z)), some (.int (nI (d + 0))), some (.int (nbo false)), none]) (⟨Or.inr rfl, Or.inr rfl, Or.inr rfl, Or.inr rfl, Or.inl rfl, trivial⟩) (ih24 _ (by rw [c_25] at hd24; have h91 : true.toNat = 1 := rfl; have h92 : false.toNat = 0 := rfl; omega) (d + 0) false M4 rfl (by omega) hF4 hI4 hr4)
                · skip
                  have hr4 : dnc (mFs M z) M = if true = true then ((dnc ((mFs M z).drop (d + 1)) M4).1 + (d + 1), (dnc ((mFs M z).drop (d + 1)) M4).2) else (d + 1, M4) := by
                    rw [hr3, if_pos c_25, if_pos rfl, drop_cons hdl, dnc_y hds (Int32.not_le.mp c_85)]
                    dsimp only
                    rw [show ∀ a : Nat, a + 1 + d = a + (d + 1) by intro a; omega]
                  refine n_iconst hC (v := nbo true) dX3_dance_88 (by decide) ?_
                  refine n_goto hC (tgt := 93) dX3_dance_89 (by decide) ?_
                  refine n_istore_n hC dX3_dance_93 (Nat.le_of_ble_eq_true rfl) ?_
                  refine n_iload_n hC dX3_dance_94 rfl ?_
                  refine n_iload_n hC dX3_dance_95 rfl ?_
                  refine n_if_eqB hC (tgt := 103) dX3_dance_96 (by decide) (fun c_96 => absurd c_96 (by decide)) (fun c_96 => ?_)
                  refine n_iconst hC (v := nI 1) dX3_dance_99 (by decide) ?_
                  refine n_goto hC (tgt := 104) dX3_dance_100 (by decide) ?_
                  refine n_iaddN hC dX3_dance_104 rfl ?_
                  refine n_istore_n hC dX3_dance_105 (Nat.le_of_ble_eq_true rfl) ?_
                  refine n_goto hC (tgt := 24) dX3_dance_106 (by decide) ?_
                  exact WN.forget (L' := [some (.ref (na 61)), some (.int (nI z)), some (.int (nI (d + 1))), some (.int (nbo true)), none]) (⟨Or.inr rfl, Or.inr rfl, Or.inr rfl, Or.inr rfl, Or.inl rfl, trivial⟩) (ih24 _ (by rw [c_25] at hd24; have h91 : true.toNat = 1 := rfl; have h92 : false.toNat = 0 := rfl; omega) (d + 1) true M4 rfl (by omega) hF4 hI4 hr4)
              · skip
                refine n_aload_n hC dX3_dance_59 rfl ?_
                refine n_iload hC dX3_dance_60 rfl ?_
                refine n_bipush hC (v := nI 100) dX3_dance_62 (by decide) ?_
                refine n_isubN hC dX3_dance_64 (by omega) rfl ?_
                refine n_callV1i hC (mt_X3_walk na h (M3) hI3 (nI ((mA M 29 (300 * z + d)) - 100))) md_X3_walk q1443 dX3_dance_65 rfl (mPut_o _ _ _) rfl rfl ⟨rfl, rfl, by decide, by decide⟩ rfl (Nat.le_of_ble_eq_true rfl) (by decide) (by decide) (fun r2 na2 h2 hp2 => ?_)
                obtain ⟨rfl, er2, M4, rfl, eM2⟩ := hp2
                have hds : dstep ((mFs M z).getD d 0) M3 = (r2, M4) := by rw [mFs_get c_35]; unfold dstep; rw [if_pos (by omega), ← er2, eM2]
                have hF4 : mFr [5, 6, 8, 14, 15, 16, 17, 18, 19] M M4 := by rw [eM2]; exact mFr.cmp (fun _ z => z) (fun _ z => z) hF3 (walk_fr _ _)
                have hI4 : mInv M4 := by rw [eM2]; exact inv_walk hI3 _
                refine n_goto hC (tgt := 85) dX3_dance_68 (by decide) ?_
                refine n_if_le hC (tgt := 92) dX3_dance_85 (by decide) (fun c_85 => ?_) (fun c_85 => ?_)
                · skip
                  have hr4 : dnc (mFs M z) M = if false = true then ((dnc ((mFs M z).drop d) M4).1 + d, (dnc ((mFs M z).drop d) M4).2) else (d, M4) := by
                    rw [hr3, if_pos c_25, if_neg (by decide), drop_cons hdl, dnc_n hds (Int32.not_lt.mpr c_85)]
                    dsimp only
                    rw [Nat.zero_add]
                  refine n_iconst hC (v := nbo false) dX3_dance_92 (by decide) ?_
                  refine n_istore_n hC dX3_dance_93 (Nat.le_of_ble_eq_true rfl) ?_
                  refine n_iload_n hC dX3_dance_94 rfl ?_
                  refine n_iload_n hC dX3_dance_95 rfl ?_
                  refine n_if_eqB hC (tgt := 103) dX3_dance_96 (by decide) (fun c_96 => ?_) (fun c_96 => absurd c_96 (by decide))
                  refine n_iconst hC (v := nI 0) dX3_dance_103 (by decide) ?_
                  refine n_iaddN hC dX3_dance_104 rfl ?_
                  refine n_istore_n hC dX3_dance_105 (Nat.le_of_ble_eq_true rfl) ?_
                  refine n_goto hC (tgt := 24) dX3_dance_106 (by decide) ?_
                  exact WN.forget (L' := [some (.ref (na 61)), some (.int (nI z)), some (.int (nI (d + 0))), some (.int (nbo false)), none]) (⟨Or.inr rfl, Or.inr rfl, Or.inr rfl, Or.inr rfl, Or.inl rfl, trivial⟩) (ih24 _ (by rw [c_25] at hd24; have h91 : true.toNat = 1 := rfl; have h92 : false.toNat = 0 := rfl; omega) (d + 0) false M4 rfl (by omega) hF4 hI4 hr4)
                · skip
                  have hr4 : dnc (mFs M z) M = if true = true then ((dnc ((mFs M z).drop (d + 1)) M4).1 + (d + 1), (dnc ((mFs M z).drop (d + 1)) M4).2) else (d + 1, M4) := by
                    rw [hr3, if_pos c_25, if_pos rfl, drop_cons hdl, dnc_y hds (Int32.not_le.mp c_85)]
                    dsimp only
                    rw [show ∀ a : Nat, a + 1 + d = a + (d + 1) by intro a; omega]
                  refine n_iconst hC (v := nbo true) dX3_dance_88 (by decide) ?_
                  refine n_goto hC (tgt := 93) dX3_dance_89 (by decide) ?_
                  refine n_istore_n hC dX3_dance_93 (Nat.le_of_ble_eq_true rfl) ?_
                  refine n_iload_n hC dX3_dance_94 rfl ?_
                  refine n_iload_n hC dX3_dance_95 rfl ?_
                  refine n_if_eqB hC (tgt := 103) dX3_dance_96 (by decide) (fun c_96 => absurd c_96 (by decide)) (fun c_96 => ?_)
                  refine n_iconst hC (v := nI 1) dX3_dance_99 (by decide) ?_
                  refine n_goto hC (tgt := 104) dX3_dance_100 (by decide) ?_
                  refine n_iaddN hC dX3_dance_104 rfl ?_
                  refine n_istore_n hC dX3_dance_105 (Nat.le_of_ble_eq_true rfl) ?_
                  refine n_goto hC (tgt := 24) dX3_dance_106 (by decide) ?_
                  exact WN.forget (L' := [some (.ref (na 61)), some (.int (nI z)), some (.int (nI (d + 1))), some (.int (nbo true)), none]) (⟨Or.inr rfl, Or.inr rfl, Or.inr rfl, Or.inr rfl, Or.inl rfl, trivial⟩) (ih24 _ (by rw [c_25] at hd24; have h91 : true.toNat = 1 := rfl; have h92 : false.toNat = 0 := rfl; omega) (d + 1) true M4 rfl (by omega) hF4 hI4 hr4)
      exact WN.forget (L' := [some (.ref (na 61)), some (.int (nI z)), some (.int (nI 0)), some (.int (nbo true)), none]) (⟨Or.inr rfl, Or.inr rfl, Or.inr rfl, Or.inr rfl, Or.inl rfl, trivial⟩) (lp24 _ 0 true M rfl (by omega) mFr.rf hI9 rfl)
    · skip
      refine n_bipush hC (v := (-3)) dX3_dance_17 (by decide) ?_
      exact n_iret hC dX3_dance_19 (by decide) (by decide) (⟨rfl, by simp [o_dance, c_5, c_14], M, rfl, mEq.of (by simp [o_dance, c_5, c_14])⟩)
  · skip
    refine n_iconst hC (v := (-1)) dX3_dance_8 (by decide) ?_
    exact n_iret hC dX3_dance_9 (by decide) (by decide) (⟨rfl, by simp [o_dance, c_5], M, rfl, mEq.of (by simp [o_dance, c_5])⟩)

set_option maxHeartbeats 4000000 in
set_option maxRecDepth 100000 in
theorem mt_X3_tryBegin (na : nA) (h : nH) (M : nMem) {n : Nat} (hn : M 1 0 = nI n) (hn9 : n ≤ 9) : nM yX3_tryBegin cX3_tryBegin 2 (none) (nRm 1 0 0) [.ref (na 61)] na (mPut na h M) (nQv (mRelV na h (fun M2 => mFr [39, 40, 41, 42, 43] M M2 ∧ tryR n M2 (T0 M)))) 0 0 := by
  refine nM.ofN RX3 rfl (by decide) (by intro v hv; simp only [List.mem_cons, List.not_mem_nil, or_false] at hv; subst hv; rfl) (Nat.le_of_ble_eq_true rfl) (fun K hC hnm => ?_)
  show WN K na (mPut na h M) 0 0 (nE K (nQv (mRelV na h (fun M2 => mFr [39, 40, 41, 42, 43] M M2 ∧ tryR n M2 (T0 M)))) 0 0) 0 [some (.ref (na 61)), none] []
  let Q9 : State → Prop := nE K (nQv (mRelV na h (fun M2 => mFr [39, 40, 41, 42, 43] M M2 ∧ tryR n M2 (T0 M)))) 0 0
  show WN K na (mPut na h M) 0 0 Q9 0 [some (.ref (na 61)), none] []
  refine n_aload_n hC dX3_tryBegin_0 rfl ?_
  refine n_iconst hC (v := nI 0) dX3_tryBegin_1 (by decide) ?_
  refine m_putI hC 42 (M2 := mset M 42 (fun _ => nI 0)) dX3_tryBegin_2 rfl rfl (by decide) rfl rfl rfl rfl rfl ?_
  refine n_aload_n hC dX3_tryBegin_5 rfl ?_
  refine n_iconst hC (v := nI 0) dX3_tryBegin_6 (by decide) ?_
  refine m_putI hC 43 (M2 := mset (mset M 42 (fun _ => nI 0)) 43 (fun _ => nI 0)) dX3_tryBegin_7 rfl rfl (by decide) rfl rfl rfl rfl rfl ?_
  refine n_iconst hC (v := nI 0) dX3_tryBegin_10 (by decide) ?_
  refine n_istore_n hC dX3_tryBegin_11 (Nat.le_of_ble_eq_true rfl) ?_
  have lp12 : ∀ d9 : Nat, ∀ (p : Nat) (M2 : nMem), n - p = d9 → (p ≤ n) → (mFr [39, 40, 41, 42, 43] M M2) → (M2 42 0 = nI 0) → (M2 43 0 = nI 0) → (∀ q, q < p → M2 39 q = nI q) → (∀ q, q < p → M2 40 q = M 9 q) → (∀ q, q < p → M2 41 q = nI 0) → WN K na (mPut na h M2) 0 0 Q9 12 [some (.ref (na 61)), some (.int (nI p))] [] := by
    intro d9
    induction d9 using Nat.strongRecOn with
    | _ d9 ih12 =>
      intro p M2 hd12 hp hF2 h42 h43 h39 h40 h41
      refine n_iload_n hC dX3_tryBegin_12 rfl ?_
      refine n_aload_n hC dX3_tryBegin_13 rfl ?_
      refine m_getI hC 1 (v := nI n) dX3_tryBegin_14 rfl rfl (by decide) ((congrFun (hF2 1 (by decide)) 0).trans hn) ?_
      refine n_icmp_geN hC (tgt := 52) dX3_tryBegin_17 (by decide) (by omega) (by omega) (fun c_17 => ?_) (fun c_17 => ?_)
      · skip
        have hp9 : p = n := by omega
        subst hp9
        exact n_vret hC dX3_tryBegin_52 (by decide) (by decide) (⟨rfl, M2, rfl, hF2, fun q hq => ⟨h39 q hq, hq⟩, h40, h41, ⟨h42, Nat.zero_le _⟩, h43, Nat.zero_le _⟩)
      · skip
        refine n_aload_n hC dX3_tryBegin_20 rfl ?_
        refine m_getA hC 39 dX3_tryBegin_21 rfl rfl ?_
        refine n_iload_n hC dX3_tryBegin_24 rfl ?_
        refine n_iload_n hC dX3_tryBegin_25 rfl ?_
        refine m_astN hC 39 (M2 := mset M2 39 (upd (M2 39) p (nI p))) dX3_tryBegin_26 rfl rfl (by have h9 : mLen 39 = 9 := rfl; omega) rfl ?_
        refine n_aload_n hC dX3_tryBegin_27 rfl ?_
        refine m_getA hC 40 dX3_tryBegin_28 rfl rfl ?_
        refine n_iload_n hC dX3_tryBegin_31 rfl ?_
        refine n_aload_n hC dX3_tryBegin_32 rfl ?_
        refine m_getA hC 9 dX3_tryBegin_33 rfl rfl ?_
        refine n_iload_n hC dX3_tryBegin_36 rfl ?_
        refine m_aldN hC 9 (v := M2 9 p) dX3_tryBegin_37 rfl rfl (by have h9 : mLen 9 = 9 := rfl; omega) rfl ?_
        refine m_astN hC 40 (M2 := mset (mset M2 39 (upd (M2 39) p (nI p))) 40 (upd (M2 40) p (M2 9 p))) dX3_tryBegin_38 rfl rfl (by have h9 : mLen 40 = 9 := rfl; omega) rfl ?_
        refine n_aload_n hC dX3_tryBegin_39 rfl ?_
        refine m_getA hC 41 dX3_tryBegin_40 rfl rfl ?_
        refine n_iload_n hC dX3_tryBegin_43 rfl ?_
        refine n_iconst hC (v := nI 0) dX3_tryBegin_44 (by decide) ?_
        refine m_astN hC 41 (M2 := mset (mset (mset M2 39 (upd (M2 39) p (nI p))) 40 (upd (M2 40) p (M2 9 p))) 41 (upd (M2 41) p (nI 0))) dX3_tryBegin_45 rfl rfl (by have h9 : mLen 41 = 9 := rfl; omega) rfl ?_
        refine n_iincN hC dX3_tryBegin_46 (j := 1) (c := p + 1) rfl (by decide) rfl ?_
        refine n_goto hC (tgt := 12) dX3_tryBegin_49 (by decide) ?_
        exact WN.forget (L' := [some (.ref (na 61)), some (.int (nI (p + 1)))]) (⟨Or.inr rfl, Or.inr rfl, trivial⟩) (ih12 _ (by omega) (p + 1) (mset (mset (mset M2 39 (upd (M2 39) p (nI p))) 40 (upd (M2 40) p (M2 9 p))) 41 (upd (M2 41) p (nI 0))) rfl (by omega) (mFr.set (by decide) (mFr.set (by decide) (mFr.set (by decide) hF2))) h42 h43 (lt_s (fun q hq => (if_neg (by omega)).trans (h39 q hq)) (if_pos rfl)) (lt_s (fun q hq => (if_neg (by omega)).trans (h40 q hq)) ((if_pos rfl).trans (congrFun (hF2 9 (by decide)) p))) (lt_s (fun q hq => (if_neg (by omega)).trans (h41 q hq)) (if_pos rfl)))
  exact WN.forget (L' := [some (.ref (na 61)), some (.int (nI 0))]) (⟨Or.inr rfl, Or.inr rfl, trivial⟩) (lp12 _ 0 (mset (mset M 42 (fun _ => nI 0)) 43 (fun _ => nI 0)) rfl (by omega) (mFr.set (by decide) (mFr.set (by decide) mFr.rf)) rfl rfl lt_0 lt_0 lt_0)

theorem tpass_n {n p how : Nat} {T : TT} (hp : ¬ n ≤ p) (h : T.2.1 (if how = 0 then T.1 p else T.1 ((p + 1) % n)) < nI 1 ∨ T.2.1 (if how = 0 then T.1 ((p + 1) % n) else T.1 p) < nI 2) : tpass n p how T = none := by
  unfold tpass
  rw [if_neg hp]
  exact if_pos h
theorem tpass_s {n p how : Nat} {T : TT} (hp : ¬ n ≤ p) (h : ¬ T.2.1 (if how = 0 then T.1 p else T.1 ((p + 1) % n)) < nI 1) (h2 : ¬ T.2.1 (if how = 0 then T.1 ((p + 1) % n) else T.1 p) < nI 2) : tpass n p how T =
    some (fun x => T.1 (tsp p ((p + 1) % n) x), upd (upd T.2.1 (if how = 0 then T.1 p else T.1 ((p + 1) % n)) (T.2.1 (if how = 0 then T.1 p else T.1 ((p + 1) % n)) - nI 1)) (if how = 0 then T.1 ((p + 1) % n) else T.1 p) (upd T.2.1 (if how = 0 then T.1 p else T.1 ((p + 1) % n)) (T.2.1 (if how = 0 then T.1 p else T.1 ((p + 1) % n)) - nI 1) (if how = 0 then T.1 ((p + 1) % n) else T.1 p) - nI 2), updN T.2.2.1 p (how + 1), T.2.2.2.1, T.2.2.2.2) := by
  unfold tpass
  rw [if_neg hp]
  exact if_neg fun z => z.elim h h2
set_option maxHeartbeats 4000000 in
set_option maxRecDepth 100000 in
theorem mt_X3_tryPass (na : nA) (h : nH) (M : nMem) {n p how : Nat} {T : TT} (hn : M 1 0 = nI n) (hn3 : 3 ≤ n) (hn9 : n ≤ 9) (hp99 : p < 100) (hh : how ≤ 1) (hT : tryR n M T) : nM yX3_tryPass cX3_tryPass 7 (some .boolean) (nRm 2 0 0) [.ref (na 61), .int (nI p), .int (nI how)] na (mPut na h M) (nQi (mRel na h (tOk n M (tpass n p how T)))) 0 0 := by
  refine nM.ofN RX3 rfl (by decide) (by intro v hv; simp only [List.mem_cons, List.not_mem_nil, or_false] at hv; rcases hv with rfl | rfl | rfl <;> rfl) (Nat.le_of_ble_eq_true rfl) (fun K hC hnm => ?_)
  show WN K na (mPut na h M) 0 0 (nE K (nQi (mRel na h (tOk n M (tpass n p how T)))) 0 0) 0 [some (.ref (na 61)), some (.int (nI p)), some (.int (nI how)), none, none, none, none] []
  let Q9 : State → Prop := nE K (nQi (mRel na h (tOk n M (tpass n p how T)))) 0 0
  show WN K na (mPut na h M) 0 0 Q9 0 [some (.ref (na 61)), some (.int (nI p)), some (.int (nI how)), none, none, none, none] []
  obtain ⟨th, tl, tm, tr, ts⟩ := T
  have hT9 := hT
  unfold tryR at hT
  dsimp only at hT
  refine n_iload_n hC dX3_tryPass_0 rfl ?_
  refine n_aload_n hC dX3_tryPass_1 rfl ?_
  refine m_getI hC 1 (v := nI n) dX3_tryPass_2 rfl rfl (by decide) hn ?_
  refine n_icmp_ltN hC (tgt := 10) dX3_tryPass_5 (by decide) (by omega) (by omega) (fun c_5 => ?_) (fun c_5 => ?_)
  · skip
    have hp : p < n := by omega
    have hq : (p + 1) % n < n := Nat.mod_lt _ (by omega)
    have hpn : ¬ n ≤ p := by omega
    rcases (show how = 0 ∨ how = 1 by omega) with e9 | e9
    · skip
      subst e9
      have ia := (hT.1 p hp).2
      have ib := (hT.1 _ hq).2
      refine n_aload_n hC dX3_tryPass_10 rfl ?_
      refine n_iload_n hC dX3_tryPass_11 rfl ?_
      refine n_callV1i hC (mt_X3_after na h (M) (p := p) (n := n) hn (by omega) (by omega)) md_X3_after q1338 dX3_tryPass_12 rfl (mPut_o _ _ _) rfl rfl ⟨rfl, rfl, by decide, by decide⟩ rfl (Nat.le_of_ble_eq_true rfl) (by decide) (by decide) (fun r0 na0 h0 hp0 => ?_)
      obtain ⟨rfl, rfl, rfl⟩ := hp0
      refine n_istore_n hC dX3_tryPass_15 (Nat.le_of_ble_eq_true rfl) ?_
      refine n_iload_n hC dX3_tryPass_16 rfl ?_
      refine n_if_neN hC (tgt := 29) dX3_tryPass_17 (by decide) (by omega) (fun c_17 => absurd c_17 (by decide)) (fun c_17 => ?_)
      refine n_aload_n hC dX3_tryPass_20 rfl ?_
      refine m_getA hC 39 dX3_tryPass_21 rfl rfl ?_
      refine n_iload_n hC dX3_tryPass_24 rfl ?_
      refine m_aldN hC 39 (v := nI (th p)) dX3_tryPass_25 rfl rfl (by have h9 : mLen 39 = 9 := rfl; omega) ((hT.1 _ hp).1) ?_
      refine n_goto hC (tgt := 35) dX3_tryPass_26 (by decide) ?_
      refine n_istore hC dX3_tryPass_35 (Nat.le_of_ble_eq_true rfl) ?_
      refine n_iload_n hC dX3_tryPass_37 rfl ?_
      refine n_if_neN hC (tgt := 50) dX3_tryPass_38 (by decide) (by omega) (fun c_38 => absurd c_38 (by decide)) (fun c_38 => ?_)
      refine n_aload_n hC dX3_tryPass_41 rfl ?_
      refine m_getA hC 39 dX3_tryPass_42 rfl rfl ?_
      refine n_iload_n hC dX3_tryPass_45 rfl ?_
      refine m_aldN hC 39 (v := nI (th ((p + 1) % n))) dX3_tryPass_46 rfl rfl (by have h9 : mLen 39 = 9 := rfl; omega) ((hT.1 _ hq).1) ?_
      refine n_goto hC (tgt := 56) dX3_tryPass_47 (by decide) ?_
      refine n_istore hC dX3_tryPass_56 (Nat.le_of_ble_eq_true rfl) ?_
      refine n_aload_n hC dX3_tryPass_58 rfl ?_
      refine m_getA hC 40 dX3_tryPass_59 rfl rfl ?_
      refine n_iload hC dX3_tryPass_62 rfl ?_
      refine m_aldN hC 40 (v := tl (th p)) dX3_tryPass_64 rfl rfl (by have h9 : mLen 40 = 9 := rfl; omega) (hT.2.1 _ ia) ?_
      refine n_iconst hC (v := nI 1) dX3_tryPass_65 (by decide) ?_
      refine n_icmp_lt hC (tgt := 80) dX3_tryPass_66 (by decide) (fun c_66 => ?_) (fun c_66 => ?_)
      · skip
        refine n_iconst hC (v := nI 0) dX3_tryPass_80 (by decide) ?_
        exact n_zret hC dX3_tryPass_81 rfl (by decide) (by decide) (⟨rfl, M, rfl, tOk_n mFr.rf (tpass_n hpn (Or.inl c_66))⟩)
      · skip
        refine n_aload_n hC dX3_tryPass_69 rfl ?_
        refine m_getA hC 40 dX3_tryPass_70 rfl rfl ?_
        refine n_iload hC dX3_tryPass_73 rfl ?_
        refine m_aldN hC 40 (v := tl (th ((p + 1) % n))) dX3_tryPass_75 rfl rfl (by have h9 : mLen 40 = 9 := rfl; omega) (hT.2.1 _ ib) ?_
        refine n_iconst hC (v := nI 2) dX3_tryPass_76 (by decide) ?_
        refine n_icmp_ge hC (tgt := 82) dX3_tryPass_77 (by decide) (fun c_77 => ?_) (fun c_77 => ?_)
        · skip
          have c_77 := Int32.not_lt.mpr c_77
          refine n_aload_n hC dX3_tryPass_82 rfl ?_
          refine m_getA hC 40 dX3_tryPass_83 rfl rfl ?_
          refine n_iload hC dX3_tryPass_86 rfl ?_
          refine n_dup2 hC dX3_tryPass_88 rfl rfl ?_
          refine m_aldN hC 40 (v := M 40 (th p)) dX3_tryPass_89 rfl rfl (by have h9 : mLen 40 = 9 := rfl; omega) rfl ?_
          refine n_iconst hC (v := nI 1) dX3_tryPass_90 (by decide) ?_
          refine n_isub hC dX3_tryPass_91 ?_
          refine m_astN hC 40 (M2 := mset M 40 (upd (M 40) (th p) ((M 40 (th p)) - (nI 1)))) dX3_tryPass_92 rfl rfl (by have h9 : mLen 40 = 9 := rfl; omega) rfl ?_
          refine n_aload_n hC dX3_tryPass_93 rfl ?_
          refine m_getA hC 40 dX3_tryPass_94 rfl rfl ?_
          refine n_iload hC dX3_tryPass_97 rfl ?_
          refine n_dup2 hC dX3_tryPass_99 rfl rfl ?_
          refine m_aldN hC 40 (v := (upd (M 40) (th p) ((M 40 (th p)) - (nI 1))) (th ((p + 1) % n))) dX3_tryPass_100 rfl rfl (by have h9 : mLen 40 = 9 := rfl; omega) rfl ?_
          refine n_iconst hC (v := nI 2) dX3_tryPass_101 (by decide) ?_
          refine n_isub hC dX3_tryPass_102 ?_
          refine m_astN hC 40 (M2 := mset M 40 (upd (upd (M 40) (th p) ((M 40 (th p)) - (nI 1))) (th ((p + 1) % n)) (((upd (M 40) (th p) ((M 40 (th p)) - (nI 1))) (th ((p + 1) % n))) - (nI 2)))) dX3_tryPass_103 rfl rfl (by have h9 : mLen 40 = 9 := rfl; omega) (mset_ss _ _ _ _) ?_
          refine n_aload_n hC dX3_tryPass_104 rfl ?_
          refine m_getA hC 39 dX3_tryPass_105 rfl rfl ?_
          refine n_iload_n hC dX3_tryPass_108 rfl ?_
          refine m_aldN hC 39 (v := M 39 p) dX3_tryPass_109 rfl rfl (by have h9 : mLen 39 = 9 := rfl; omega) rfl ?_
          refine n_istore hC dX3_tryPass_110 (Nat.le_of_ble_eq_true rfl) ?_
          refine n_aload_n hC dX3_tryPass_112 rfl ?_
          refine m_getA hC 39 dX3_tryPass_113 rfl rfl ?_
          refine n_iload_n hC dX3_tryPass_116 rfl ?_
          refine n_aload_n hC dX3_tryPass_117 rfl ?_
          refine m_getA hC 39 dX3_tryPass_118 rfl rfl ?_
          refine n_iload_n hC dX3_tryPass_121 rfl ?_
          refine m_aldN hC 39 (v := M 39 ((p + 1) % n)) dX3_tryPass_122 rfl rfl (by have h9 : mLen 39 = 9 := rfl; omega) rfl ?_
          refine m_astN hC 39 (M2 := mset (mset M 40 (upd (upd (M 40) (th p) ((M 40 (th p)) - (nI 1))) (th ((p + 1) % n)) (((upd (M 40) (th p) ((M 40 (th p)) - (nI 1))) (th ((p + 1) % n))) - (nI 2)))) 39 (upd (M 39) p (M 39 ((p + 1) % n)))) dX3_tryPass_123 rfl rfl (by have h9 : mLen 39 = 9 := rfl; omega) rfl ?_
          refine n_aload_n hC dX3_tryPass_124 rfl ?_
          refine m_getA hC 39 dX3_tryPass_125 rfl rfl ?_
          refine n_iload_n hC dX3_tryPass_128 rfl ?_
          refine n_iload hC dX3_tryPass_129 rfl ?_
          refine m_astN hC 39 (M2 := mset (mset M 40 (upd (upd (M 40) (th p) ((M 40 (th p)) - (nI 1))) (th ((p + 1) % n)) (((upd (M 40) (th p) ((M 40 (th p)) - (nI 1))) (th ((p + 1) % n))) - (nI 2)))) 39 (upd (upd (M 39) p (M 39 ((p + 1) % n))) ((p + 1) % n) (M 39 p))) dX3_tryPass_131 rfl rfl (by have h9 : mLen 39 = 9 := rfl; omega) (mset_ss _ _ _ _) ?_
          refine n_aload_n hC dX3_tryPass_132 rfl ?_
          refine m_getA hC 41 dX3_tryPass_133 rfl rfl ?_
          refine n_iload_n hC dX3_tryPass_136 rfl ?_
          refine n_iload_n hC dX3_tryPass_137 rfl ?_
          refine n_iconst hC (v := nI 1) dX3_tryPass_138 (by decide) ?_
          refine n_iaddN hC dX3_tryPass_139 rfl ?_
          refine m_astN hC 41 (M2 := mset (mset (mset M 40 (upd (upd (M 40) (th p) ((M 40 (th p)) - (nI 1))) (th ((p + 1) % n)) (((upd (M 40) (th p) ((M 40 (th p)) - (nI 1))) (th ((p + 1) % n))) - (nI 2)))) 39 (upd (upd (M 39) p (M 39 ((p + 1) % n))) ((p + 1) % n) (M 39 p))) 41 (upd (M 41) p (nI (0 + 1)))) dX3_tryPass_140 rfl rfl (by have h9 : mLen 41 = 9 := rfl; omega) rfl ?_
          refine n_iconst hC (v := nI 1) dX3_tryPass_141 (by decide) ?_
          exact n_zret hC dX3_tryPass_142 rfl (by decide) (by decide) (by
    refine ⟨rfl, _, rfl, tOk_s (mFr.set (by decide) (mFr.set (by decide) (mFr.set (by decide) mFr.rf))) (tpass_s hpn c_66 c_77) ⟨fun x hx => ?_, fun x hx => ?_, fun x hx => ?_, hT.2.2.2.1, hT.2.2.2.2⟩⟩
    · have hx2 := tsp_lt hp hq hx
      exact ⟨(swp_tsp (M 39) p _ x).trans (hT.1 _ hx2).1, (hT.1 _ hx2).2⟩
    · exact upd_cg (n := n) (upd_cg hT.2.1 (congrArg (· - nI 1) (hT.2.1 _ ia))) (congrArg (· - nI 2) (upd_cg hT.2.1 (congrArg (· - nI 1) (hT.2.1 _ ia)) _ ib)) x hx
    · show upd (M 41) p _ x = nI (updN tm p _ x)
      unfold upd updN
      by_cases e : x = p
      · rw [if_pos e, if_pos e]
      · rw [if_neg e, if_neg e]; exact hT.2.2.1 x hx)
        · skip
          have c_77 := Int32.not_le.mp c_77
          refine n_iconst hC (v := nI 0) dX3_tryPass_80 (by decide) ?_
          exact n_zret hC dX3_tryPass_81 rfl (by decide) (by decide) (⟨rfl, M, rfl, tOk_n mFr.rf (tpass_n hpn (Or.inr c_77))⟩)
    · skip
      subst e9
      have ib := (hT.1 p hp).2
      have ia := (hT.1 _ hq).2
      refine n_aload_n hC dX3_tryPass_10 rfl ?_
      refine n_iload_n hC dX3_tryPass_11 rfl ?_
      refine n_callV1i hC (mt_X3_after na h (M) (p := p) (n := n) hn (by omega) (by omega)) md_X3_after q1338 dX3_tryPass_12 rfl (mPut_o _ _ _) rfl rfl ⟨rfl, rfl, by decide, by decide⟩ rfl (Nat.le_of_ble_eq_true rfl) (by decide) (by decide) (fun r1 na1 h1 hp1 => ?_)
      obtain ⟨rfl, rfl, rfl⟩ := hp1
      refine n_istore_n hC dX3_tryPass_15 (Nat.le_of_ble_eq_true rfl) ?_
      refine n_iload_n hC dX3_tryPass_16 rfl ?_
      refine n_if_neN hC (tgt := 29) dX3_tryPass_17 (by decide) (by omega) (fun c_17 => ?_) (fun c_17 => absurd c_17 (by decide))
      refine n_aload_n hC dX3_tryPass_29 rfl ?_
      refine m_getA hC 39 dX3_tryPass_30 rfl rfl ?_
      refine n_iload_n hC dX3_tryPass_33 rfl ?_
      refine m_aldN hC 39 (v := nI (th ((p + 1) % n))) dX3_tryPass_34 rfl rfl (by have h9 : mLen 39 = 9 := rfl; omega) ((hT.1 _ hq).1) ?_
      refine n_istore hC dX3_tryPass_35 (Nat.le_of_ble_eq_true rfl) ?_
      refine n_iload_n hC dX3_tryPass_37 rfl ?_
      refine n_if_neN hC (tgt := 50) dX3_tryPass_38 (by decide) (by omega) (fun c_38 => ?_) (fun c_38 => absurd c_38 (by decide))
      refine n_aload_n hC dX3_tryPass_50 rfl ?_
      refine m_getA hC 39 dX3_tryPass_51 rfl rfl ?_
      refine n_iload_n hC dX3_tryPass_54 rfl ?_
      refine m_aldN hC 39 (v := nI (th p)) dX3_tryPass_55 rfl rfl (by have h9 : mLen 39 = 9 := rfl; omega) ((hT.1 _ hp).1) ?_
      refine n_istore hC dX3_tryPass_56 (Nat.le_of_ble_eq_true rfl) ?_
      refine n_aload_n hC dX3_tryPass_58 rfl ?_
      refine m_getA hC 40 dX3_tryPass_59 rfl rfl ?_
      refine n_iload hC dX3_tryPass_62 rfl ?_
      refine m_aldN hC 40 (v := tl (th ((p + 1) % n))) dX3_tryPass_64 rfl rfl (by have h9 : mLen 40 = 9 := rfl; omega) (hT.2.1 _ ia) ?_
      refine n_iconst hC (v := nI 1) dX3_tryPass_65 (by decide) ?_
      refine n_icmp_lt hC (tgt := 80) dX3_tryPass_66 (by decide) (fun c_66 => ?_) (fun c_66 => ?_)
      · skip
        refine n_iconst hC (v := nI 0) dX3_tryPass_80 (by decide) ?_
        exact n_zret hC dX3_tryPass_81 rfl (by decide) (by decide) (⟨rfl, M, rfl, tOk_n mFr.rf (tpass_n hpn (Or.inl c_66))⟩)
      · skip
        refine n_aload_n hC dX3_tryPass_69 rfl ?_
        refine m_getA hC 40 dX3_tryPass_70 rfl rfl ?_
        refine n_iload hC dX3_tryPass_73 rfl ?_
        refine m_aldN hC 40 (v := tl (th p)) dX3_tryPass_75 rfl rfl (by have h9 : mLen 40 = 9 := rfl; omega) (hT.2.1 _ ib) ?_
        refine n_iconst hC (v := nI 2) dX3_tryPass_76 (by decide) ?_
        refine n_icmp_ge hC (tgt := 82) dX3_tryPass_77 (by decide) (fun c_77 => ?_) (fun c_77 => ?_)
        · skip
          have c_77 := Int32.not_lt.mpr c_77
          refine n_aload_n hC dX3_tryPass_82 rfl ?_
          refine m_getA hC 40 dX3_tryPass_83 rfl rfl ?_
          refine n_iload hC dX3_tryPass_86 rfl ?_
          refine n_dup2 hC dX3_tryPass_88 rfl rfl ?_
          refine m_aldN hC 40 (v := M 40 (th ((p + 1) % n))) dX3_tryPass_89 rfl rfl (by have h9 : mLen 40 = 9 := rfl; omega) rfl ?_
          refine n_iconst hC (v := nI 1) dX3_tryPass_90 (by decide) ?_
          refine n_isub hC dX3_tryPass_91 ?_
          refine m_astN hC 40 (M2 := mset M 40 (upd (M 40) (th ((p + 1) % n)) ((M 40 (th ((p + 1) % n))) - (nI 1)))) dX3_tryPass_92 rfl rfl (by have h9 : mLen 40 = 9 := rfl; omega) rfl ?_
          refine n_aload_n hC dX3_tryPass_93 rfl ?_
          refine m_getA hC 40 dX3_tryPass_94 rfl rfl ?_
          refine n_iload hC dX3_tryPass_97 rfl ?_
          refine n_dup2 hC dX3_tryPass_99 rfl rfl ?_
          refine m_aldN hC 40 (v := (upd (M 40) (th ((p + 1) % n)) ((M 40 (th ((p + 1) % n))) - (nI 1))) (th p)) dX3_tryPass_100 rfl rfl (by have h9 : mLen 40 = 9 := rfl; omega) rfl ?_
          refine n_iconst hC (v := nI 2) dX3_tryPass_101 (by decide) ?_
          refine n_isub hC dX3_tryPass_102 ?_
          refine m_astN hC 40 (M2 := mset M 40 (upd (upd (M 40) (th ((p + 1) % n)) ((M 40 (th ((p + 1) % n))) - (nI 1))) (th p) (((upd (M 40) (th ((p + 1) % n)) ((M 40 (th ((p + 1) % n))) - (nI 1))) (th p)) - (nI 2)))) dX3_tryPass_103 rfl rfl (by have h9 : mLen 40 = 9 := rfl; omega) (mset_ss _ _ _ _) ?_
          refine n_aload_n hC dX3_tryPass_104 rfl ?_
          refine m_getA hC 39 dX3_tryPass_105 rfl rfl ?_
          refine n_iload_n hC dX3_tryPass_108 rfl ?_
          refine m_aldN hC 39 (v := M 39 p) dX3_tryPass_109 rfl rfl (by have h9 : mLen 39 = 9 := rfl; omega) rfl ?_
          refine n_istore hC dX3_tryPass_110 (Nat.le_of_ble_eq_true rfl) ?_
          refine n_aload_n hC dX3_tryPass_112 rfl ?_
          refine m_getA hC 39 dX3_tryPass_113 rfl rfl ?_
          refine n_iload_n hC dX3_tryPass_116 rfl ?_
          refine n_aload_n hC dX3_tryPass_117 rfl ?_
          refine m_getA hC 39 dX3_tryPass_118 rfl rfl ?_
          refine n_iload_n hC dX3_tryPass_121 rfl ?_
          refine m_aldN hC 39 (v := M 39 ((p + 1) % n)) dX3_tryPass_122 rfl rfl (by have h9 : mLen 39 = 9 := rfl; omega) rfl ?_
          refine m_astN hC 39 (M2 := mset (mset M 40 (upd (upd (M 40) (th ((p + 1) % n)) ((M 40 (th ((p + 1) % n))) - (nI 1))) (th p) (((upd (M 40) (th ((p + 1) % n)) ((M 40 (th ((p + 1) % n))) - (nI 1))) (th p)) - (nI 2)))) 39 (upd (M 39) p (M 39 ((p + 1) % n)))) dX3_tryPass_123 rfl rfl (by have h9 : mLen 39 = 9 := rfl; omega) rfl ?_
          refine n_aload_n hC dX3_tryPass_124 rfl ?_
          refine m_getA hC 39 dX3_tryPass_125 rfl rfl ?_
          refine n_iload_n hC dX3_tryPass_128 rfl ?_
          refine n_iload hC dX3_tryPass_129 rfl ?_
          refine m_astN hC 39 (M2 := mset (mset M 40 (upd (upd (M 40) (th ((p + 1) % n)) ((M 40 (th ((p + 1) % n))) - (nI 1))) (th p) (((upd (M 40) (th ((p + 1) % n)) ((M 40 (th ((p + 1) % n))) - (nI 1))) (th p)) - (nI 2)))) 39 (upd (upd (M 39) p (M 39 ((p + 1) % n))) ((p + 1) % n) (M 39 p))) dX3_tryPass_131 rfl rfl (by have h9 : mLen 39 = 9 := rfl; omega) (mset_ss _ _ _ _) ?_
          refine n_aload_n hC dX3_tryPass_132 rfl ?_
          refine m_getA hC 41 dX3_tryPass_133 rfl rfl ?_
          refine n_iload_n hC dX3_tryPass_136 rfl ?_
          refine n_iload_n hC dX3_tryPass_137 rfl ?_
          refine n_iconst hC (v := nI 1) dX3_tryPass_138 (by decide) ?_
          refine n_iaddN hC dX3_tryPass_139 rfl ?_
          refine m_astN hC 41 (M2 := mset (mset (mset M 40 (upd (upd (M 40) (th ((p + 1) % n)) ((M 40 (th ((p + 1) % n))) - (nI 1))) (th p) (((upd (M 40) (th ((p + 1) % n)) ((M 40 (th ((p + 1) % n))) - (nI 1))) (th p)) - (nI 2)))) 39 (upd (upd (M 39) p (M 39 ((p + 1) % n))) ((p + 1) % n) (M 39 p))) 41 (upd (M 41) p (nI (1 + 1)))) dX3_tryPass_140 rfl rfl (by have h9 : mLen 41 = 9 := rfl; omega) rfl ?_
          refine n_iconst hC (v := nI 1) dX3_tryPass_141 (by decide) ?_
          exact n_zret hC dX3_tryPass_142 rfl (by decide) (by decide) (by
    refine ⟨rfl, _, rfl, tOk_s (mFr.set (by decide) (mFr.set (by decide) (mFr.set (by decide) mFr.rf))) (tpass_s hpn c_66 c_77) ⟨fun x hx => ?_, fun x hx => ?_, fun x hx => ?_, hT.2.2.2.1, hT.2.2.2.2⟩⟩
    · have hx2 := tsp_lt hp hq hx
      exact ⟨(swp_tsp (M 39) p _ x).trans (hT.1 _ hx2).1, (hT.1 _ hx2).2⟩
    · exact upd_cg (n := n) (upd_cg hT.2.1 (congrArg (· - nI 1) (hT.2.1 _ ia))) (congrArg (· - nI 2) (upd_cg hT.2.1 (congrArg (· - nI 1) (hT.2.1 _ ia)) _ ib)) x hx
    · show upd (M 41) p _ x = nI (updN tm p _ x)
      unfold upd updN
      by_cases e : x = p
      · rw [if_pos e, if_pos e]
      · rw [if_neg e, if_neg e]; exact hT.2.2.1 x hx)
        · skip
          have c_77 := Int32.not_le.mp c_77
          refine n_iconst hC (v := nI 0) dX3_tryPass_80 (by decide) ?_
          exact n_zret hC dX3_tryPass_81 rfl (by decide) (by decide) (⟨rfl, M, rfl, tOk_n mFr.rf (tpass_n hpn (Or.inr c_77))⟩)
  · skip
    refine n_iconst hC (v := nI 0) dX3_tryPass_8 (by decide) ?_
    exact n_zret hC dX3_tryPass_9 rfl (by decide) (by decide) (⟨rfl, M, rfl, tOk_n mFr.rf (by unfold tpass; rw [if_pos (by omega)])⟩)

set_option maxHeartbeats 4000000 in
set_option maxRecDepth 100000 in
theorem mt_X3_tryWalk (na : nA) (h : nH) (M : nMem) {n how : Nat} {T : TT} (hn : M 1 0 = nI n) (hn3 : 3 ≤ n) (hn9 : n ≤ 9) (h15 : M 15 0 = nI (mN M 15)) (b15 : mN M 15 ≤ 100) (hh : how ≤ 1) (hT : tryR n M T) : nM yX3_tryWalk cX3_tryWalk 5 (some .boolean) (nRm 2 0 0) [.ref (na 61), .int (nI how)] na (mPut na h M) (nQi (mRel na h (tOk n M (twalk M n how T)))) 0 0 := by
  refine nM.ofN RX3 rfl (by decide) (by intro v hv; simp only [List.mem_cons, List.not_mem_nil, or_false] at hv; rcases hv with rfl | rfl <;> rfl) (Nat.le_of_ble_eq_true rfl) (fun K hC hnm => ?_)
  show WN K na (mPut na h M) 0 0 (nE K (nQi (mRel na h (tOk n M (twalk M n how T)))) 0 0) 0 [some (.ref (na 61)), some (.int (nI how)), none, none, none] []
  let Q9 : State → Prop := nE K (nQi (mRel na h (tOk n M (twalk M n how T)))) 0 0
  show WN K na (mPut na h M) 0 0 Q9 0 [some (.ref (na 61)), some (.int (nI how)), none, none, none] []
  obtain ⟨th, tl, tm, tr, ts⟩ := T
  have hT9 := hT
  unfold tryR at hT
  dsimp only at hT
  have htr := hT.2.2.2.1.2
  have h3s : twalk M n how (th, tl, tm, tr, ts) = if (decide (tr < mN M 15) && allb n (fun p => decide (¬ tl p < nI (10 + tr / 3)))) = false then none else if tcl M n (fun x => th (trn how n x)) tm tr = true then some (fun x => th (trn how n x), fun p => tl p - nI (10 + tr / 3), fun _ => 0, tr + 1, ts) else none := rfl
  refine n_bipush hC (v := nI 10) dX3_tryWalk_0 (by decide) ?_
  refine n_aload_n hC dX3_tryWalk_2 rfl ?_
  refine m_getI hC 42 (v := nI tr) dX3_tryWalk_3 rfl rfl (by decide) hT.2.2.2.1.1 ?_
  refine n_iconst hC (v := nI 3) dX3_tryWalk_6 (by decide) ?_
  refine n_idivN hC dX3_tryWalk_7 (by omega) (by omega) (by omega) rfl ?_
  refine n_iaddN hC dX3_tryWalk_8 rfl ?_
  refine n_istore_n hC dX3_tryWalk_9 (Nat.le_of_ble_eq_true rfl) ?_
  refine n_aload_n hC dX3_tryWalk_10 rfl ?_
  refine m_getI hC 42 (v := nI tr) dX3_tryWalk_11 rfl rfl (by decide) hT.2.2.2.1.1 ?_
  refine n_aload_n hC dX3_tryWalk_14 rfl ?_
  refine m_getI hC 15 (v := nI (mN M 15)) dX3_tryWalk_15 rfl rfl (by decide) h15 ?_
  refine n_icmp_geN hC (tgt := 25) dX3_tryWalk_18 (by decide) (by omega) (by omega) (fun c_18 => ?_) (fun c_18 => ?_)
  · skip
    refine n_iconst hC (v := nbo false) dX3_tryWalk_25 (by decide) ?_
    refine n_istore_n hC dX3_tryWalk_26 (Nat.le_of_ble_eq_true rfl) ?_
    refine n_iconst hC (v := nI 0) dX3_tryWalk_27 (by decide) ?_
    refine n_istore hC dX3_tryWalk_28 (Nat.le_of_ble_eq_true rfl) ?_
    have lp30 : ∀ d9 : Nat, ∀ (p : Nat) (g : Bool), n - p = d9 → (p ≤ n) → ((decide (tr < mN M 15) && allb p (fun q => decide (¬ tl q < nI (10 + tr / 3)))) = g) → WN K na (mPut na h M) 0 0 Q9 30 [some (.ref (na 61)), some (.int (nI how)), some (.int (nI (10 + (tr / 3)))), some (.int (nbo g)), some (.int (nI p))] [] := by
      intro d9
      induction d9 using Nat.strongRecOn with
      | _ d9 ih30 =>
        intro p g hd30 hp hg
        refine n_iload hC dX3_tryWalk_30 rfl ?_
        refine n_aload_n hC dX3_tryWalk_32 rfl ?_
        refine m_getI hC 1 (v := nI n) dX3_tryWalk_33 rfl rfl (by decide) hn ?_
        refine n_icmp_geN hC (tgt := 66) dX3_tryWalk_36 (by decide) (by omega) (by omega) (fun c_36 => ?_) (fun c_36 => ?_)
        · skip
          have hp9 : n = p := by omega
          subst hp9
          refine n_iload_n hC dX3_tryWalk_66 rfl ?_
          refine n_if_neB hC (tgt := 72) dX3_tryWalk_67 (by decide) (fun c_67 => ?_) (fun c_67 => ?_)
          · skip
            have hgt := hg.trans c_67
            rw [Bool.and_eq_true, decide_eq_true_iff] at hgt
            have htr15 := hgt.1
            have hgN : (decide (tr < mN M 15) && allb n (fun p => decide (¬ tl p < nI (10 + tr / 3)))) = true := hg.trans c_67
            refine n_aload_n hC dX3_tryWalk_72 rfl ?_
            refine n_aload_n hC dX3_tryWalk_73 rfl ?_
            refine m_getA hC 39 dX3_tryWalk_74 rfl rfl ?_
            refine n_iload_n hC dX3_tryWalk_77 rfl ?_
            refine n_callV2v hC (mt_X3_turn na h (M) (k := 39) (n := n) (how := how) rfl hn (by omega) (by have h9 : mLen 39 = 9 := rfl; omega) (by omega)) md_X3_turn q1347 dX3_tryWalk_78 rfl (mPut_o _ _ _) rfl rfl ⟨rfl, rfl, by decide, by decide⟩ rfl (Nat.le_of_ble_eq_true rfl) (by decide) (by decide) (fun na0 h0 hp0 => ?_)
            obtain ⟨rfl, M939, rfl, eM939⟩ := hp0
            rw [show M939 = mset M 39 (tur how n (M 39)) from eM939.trans rfl]
            refine n_iconst hC (v := nI 0) dX3_tryWalk_81 (by decide) ?_
            refine n_istore hC dX3_tryWalk_82 (Nat.le_of_ble_eq_true rfl) ?_
            have lp84 : ∀ d9 : Nat, ∀ (p : Nat) (g : Bool) (M3 : nMem), n - p = d9 → (p ≤ n) → (mFr [39, 40, 41] M M3) → (M3 39 = tur how n (M 39)) → (M3 40 = fil (fun q => tl q - nI (10 + tr / 3)) (M 40) p) → (M3 41 = fil (fun _ => nI 0) (M 41) p) → (allb p (fun q => (decide (nI (th (trn how n q)) = M 18 (9 * tr + q)) && decide (nI (tm q) = M 19 (9 * tr + q)))) = g) → WN K na (mPut na h M3) 0 0 Q9 84 [some (.ref (na 61)), some (.int (nI how)), some (.int (nI (10 + (tr / 3)))), some (.int (nbo g)), some (.int (nI p))] [] := by
              intro d9
              induction d9 using Nat.strongRecOn with
              | _ d9 ih84 =>
                intro p g M3 hd84 hp2 hF3 h39 h40 h41 hc
                refine n_iload hC dX3_tryWalk_84 rfl ?_
                refine n_aload_n hC dX3_tryWalk_86 rfl ?_
                refine m_getI hC 1 (v := nI n) dX3_tryWalk_87 rfl rfl (by decide) ((congrFun (hF3 1 (by decide)) 0).trans hn) ?_
                refine n_icmp_geN hC (tgt := 178) dX3_tryWalk_90 (by decide) (by omega) (by omega) (fun c_90 => ?_) (fun c_90 => ?_)
                · skip
                  have hcl : tcl M n (fun x => th (trn how n x)) tm tr = g := by rw [← hc, show p = n by omega]; rfl
                  refine n_aload_n hC dX3_tryWalk_178 rfl ?_
                  refine n_dup hC dX3_tryWalk_179 rfl ?_
                  refine m_getI hC 42 (v := nI tr) dX3_tryWalk_180 rfl rfl (by decide) ((congrFun (hF3 42 (by decide)) 0).trans hT.2.2.2.1.1) ?_
                  refine n_iconst hC (v := nI 1) dX3_tryWalk_183 (by decide) ?_
                  refine n_iaddN hC dX3_tryWalk_184 rfl ?_
                  refine m_putI hC 42 (M2 := mset M3 42 (fun _ => nI (tr + 1))) dX3_tryWalk_185 rfl rfl (by decide) rfl rfl rfl rfl rfl ?_
                  refine n_iload_n hC dX3_tryWalk_188 rfl ?_
                  exact n_zret hC dX3_tryWalk_189 (nbo_nar _) (by decide) (by decide) (by
    cases g with
    | false => exact ⟨rfl, _, rfl, tOk_n (mFr.set (by decide) (mFr.wk (by decide) hF3)) (by rw [h3s, if_neg (by rw [hgN]; decide), if_neg (by rw [hcl]; decide)])⟩
    | true =>
      refine ⟨rfl, _, rfl, tOk_s (mFr.set (by decide) (mFr.wk (by decide) hF3)) (by rw [h3s, if_neg (by rw [hgN]; decide), if_pos hcl]) ⟨fun x hx => ?_, fun x hx => ?_, fun x hx => ?_, ⟨rfl, by dsimp only; omega⟩, (congrFun (hF3 43 (by decide)) 0).trans hT.2.2.2.2.1, hT.2.2.2.2.2⟩⟩
      · have hx2 := trn_lt (how := how) hx
        exact ⟨(congrFun h39 x).trans ((tur_trn hx).trans (hT.1 _ hx2).1), (hT.1 _ hx2).2⟩
      · exact (congrFun h40 x).trans (fil_lt (by omega))
      · exact (congrFun h41 x).trans (fil_lt (by omega)))
                · skip
                  refine n_aload_n hC dX3_tryWalk_93 rfl ?_
                  refine m_getA hC 40 dX3_tryWalk_94 rfl rfl ?_
                  refine n_iload hC dX3_tryWalk_97 rfl ?_
                  refine n_dup2 hC dX3_tryWalk_99 rfl rfl ?_
                  refine m_aldN hC 40 (v := tl p) dX3_tryWalk_100 rfl rfl (by have h9 : mLen 40 = 9 := rfl; omega) (by rw [h40, fil_ge (Nat.le_refl p)]; exact hT.2.1 p (by omega)) ?_
                  refine n_iload_n hC dX3_tryWalk_101 rfl ?_
                  refine n_isub hC dX3_tryWalk_102 ?_
                  refine m_astN hC 40 (M2 := mset M3 40 (upd (M3 40) p ((tl p) - (nI (10 + (tr / 3)))))) dX3_tryWalk_103 rfl rfl (by have h9 : mLen 40 = 9 := rfl; omega) rfl ?_
                  refine n_iload_n hC dX3_tryWalk_104 rfl ?_
                  refine n_if_eqB hC (tgt := 162) dX3_tryWalk_105 (by decide) (fun c_105 => ?_) (fun c_105 => ?_)
                  · skip
                    refine n_iconst hC (v := nbo false) dX3_tryWalk_162 (by decide) ?_
                    refine n_istore_n hC dX3_tryWalk_163 (Nat.le_of_ble_eq_true rfl) ?_
                    refine n_aload_n hC dX3_tryWalk_164 rfl ?_
                    refine m_getA hC 41 dX3_tryWalk_165 rfl rfl ?_
                    refine n_iload hC dX3_tryWalk_168 rfl ?_
                    refine n_iconst hC (v := nI 0) dX3_tryWalk_170 (by decide) ?_
                    refine m_astN hC 41 (M2 := mset (mset M3 40 (upd (M3 40) p ((tl p) - (nI (10 + (tr / 3)))))) 41 (upd (M3 41) p (nI 0))) dX3_tryWalk_171 rfl rfl (by have h9 : mLen 41 = 9 := rfl; omega) rfl ?_
                    refine n_iincN hC dX3_tryWalk_172 (j := 1) (c := p + 1) rfl (by decide) rfl ?_
                    refine n_goto hC (tgt := 84) dX3_tryWalk_175 (by decide) ?_
                    exact WN.forget (L' := [some (.ref (na 61)), some (.int (nI how)), some (.int (nI (10 + (tr / 3)))), some (.int (nbo false)), some (.int (nI (p + 1)))]) (⟨Or.inr rfl, Or.inr rfl, Or.inr rfl, Or.inr rfl, Or.inr rfl, trivial⟩) (ih84 _ (by omega) (p + 1) false (mset (mset M3 40 (upd (M3 40) p ((tl p) - (nI (10 + (tr / 3)))))) 41 (upd (M3 41) p (nI 0))) rfl (by omega) (mFr.set (by decide) (mFr.set (by decide) hF3)) h39 (by show upd (M3 40) p _ = _; rw [h40]; exact fil_u rfl) (by show upd (M3 41) p _ = _; rw [h41]; exact fil_u rfl) (by show (allb p _ && (decide _ && decide _)) = false; rw [hc, c_105]; rfl))
                  · skip
                    refine n_aload_n hC dX3_tryWalk_108 rfl ?_
                    refine m_getA hC 39 dX3_tryWalk_109 rfl rfl ?_
                    refine n_iload hC dX3_tryWalk_112 rfl ?_
                    refine m_aldN hC 39 (v := nI (th (trn how n p))) dX3_tryWalk_114 rfl rfl (by have h9 : mLen 39 = 9 := rfl; omega) ((congrFun h39 p).trans ((tur_trn (by omega)).trans (hT.1 _ (trn_lt (by omega))).1)) ?_
                    refine n_aload_n hC dX3_tryWalk_115 rfl ?_
                    refine m_getA hC 18 dX3_tryWalk_116 rfl rfl ?_
                    refine n_bipush hC (v := nI 9) dX3_tryWalk_119 (by decide) ?_
                    refine n_aload_n hC dX3_tryWalk_121 rfl ?_
                    refine m_getI hC 42 (v := nI tr) dX3_tryWalk_122 rfl rfl (by decide) ((congrFun (hF3 42 (by decide)) 0).trans hT.2.2.2.1.1) ?_
                    refine n_imulN hC dX3_tryWalk_125 rfl ?_
                    refine n_iload hC dX3_tryWalk_126 rfl ?_
                    refine n_iaddN hC dX3_tryWalk_128 rfl ?_
                    refine m_aldN hC 18 (v := M 18 (9 * tr + p)) dX3_tryWalk_129 rfl rfl (by have h9 : mLen 18 = 900 := rfl; omega) (congrFun (hF3 18 (by decide)) _) ?_
                    refine n_icmp_ne hC (tgt := 162) dX3_tryWalk_130 (by decide) (fun c_130 => ?_) (fun c_130 => ?_)
                    · skip
                      refine n_iconst hC (v := nbo false) dX3_tryWalk_162 (by decide) ?_
                      refine n_istore_n hC dX3_tryWalk_163 (Nat.le_of_ble_eq_true rfl) ?_
                      refine n_aload_n hC dX3_tryWalk_164 rfl ?_
                      refine m_getA hC 41 dX3_tryWalk_165 rfl rfl ?_
                      refine n_iload hC dX3_tryWalk_168 rfl ?_
                      refine n_iconst hC (v := nI 0) dX3_tryWalk_170 (by decide) ?_
                      refine m_astN hC 41 (M2 := mset (mset M3 40 (upd (M3 40) p ((tl p) - (nI (10 + (tr / 3)))))) 41 (upd (M3 41) p (nI 0))) dX3_tryWalk_171 rfl rfl (by have h9 : mLen 41 = 9 := rfl; omega) rfl ?_
                      refine n_iincN hC dX3_tryWalk_172 (j := 1) (c := p + 1) rfl (by decide) rfl ?_
                      refine n_goto hC (tgt := 84) dX3_tryWalk_175 (by decide) ?_
                      exact WN.forget (L' := [some (.ref (na 61)), some (.int (nI how)), some (.int (nI (10 + (tr / 3)))), some (.int (nbo false)), some (.int (nI (p + 1)))]) (⟨Or.inr rfl, Or.inr rfl, Or.inr rfl, Or.inr rfl, Or.inr rfl, trivial⟩) (ih84 _ (by omega) (p + 1) false (mset (mset M3 40 (upd (M3 40) p ((tl p) - (nI (10 + (tr / 3)))))) 41 (upd (M3 41) p (nI 0))) rfl (by omega) (mFr.set (by decide) (mFr.set (by decide) hF3)) h39 (by show upd (M3 40) p _ = _; rw [h40]; exact fil_u rfl) (by show upd (M3 41) p _ = _; rw [h41]; exact fil_u rfl) (by show (allb p _ && (decide _ && decide _)) = false; rw [hc, decide_eq_false c_130, Bool.false_and, Bool.and_false]))
                    · skip
                      refine n_aload_n hC dX3_tryWalk_133 rfl ?_
                      refine m_getA hC 41 dX3_tryWalk_134 rfl rfl ?_
                      refine n_iload hC dX3_tryWalk_137 rfl ?_
                      refine m_aldN hC 41 (v := nI (tm p)) dX3_tryWalk_139 rfl rfl (by have h9 : mLen 41 = 9 := rfl; omega) ((congrFun h41 p).trans ((fil_ge (Nat.le_refl p)).trans (hT.2.2.1 p (by omega)))) ?_
                      refine n_aload_n hC dX3_tryWalk_140 rfl ?_
                      refine m_getA hC 19 dX3_tryWalk_141 rfl rfl ?_
                      refine n_bipush hC (v := nI 9) dX3_tryWalk_144 (by decide) ?_
                      refine n_aload_n hC dX3_tryWalk_146 rfl ?_
                      refine m_getI hC 42 (v := nI tr) dX3_tryWalk_147 rfl rfl (by decide) ((congrFun (hF3 42 (by decide)) 0).trans hT.2.2.2.1.1) ?_
                      refine n_imulN hC dX3_tryWalk_150 rfl ?_
                      refine n_iload hC dX3_tryWalk_151 rfl ?_
                      refine n_iaddN hC dX3_tryWalk_153 rfl ?_
                      refine m_aldN hC 19 (v := M 19 (9 * tr + p)) dX3_tryWalk_154 rfl rfl (by have h9 : mLen 19 = 900 := rfl; omega) (congrFun (hF3 19 (by decide)) _) ?_
                      refine n_icmp_ne hC (tgt := 162) dX3_tryWalk_155 (by decide) (fun c_155 => ?_) (fun c_155 => ?_)
                      · skip
                        refine n_iconst hC (v := nbo false) dX3_tryWalk_162 (by decide) ?_
                        refine n_istore_n hC dX3_tryWalk_163 (Nat.le_of_ble_eq_true rfl) ?_
                        refine n_aload_n hC dX3_tryWalk_164 rfl ?_
                        refine m_getA hC 41 dX3_tryWalk_165 rfl rfl ?_
                        refine n_iload hC dX3_tryWalk_168 rfl ?_
                        refine n_iconst hC (v := nI 0) dX3_tryWalk_170 (by decide) ?_
                        refine m_astN hC 41 (M2 := mset (mset M3 40 (upd (M3 40) p ((tl p) - (nI (10 + (tr / 3)))))) 41 (upd (M3 41) p (nI 0))) dX3_tryWalk_171 rfl rfl (by have h9 : mLen 41 = 9 := rfl; omega) rfl ?_
                        refine n_iincN hC dX3_tryWalk_172 (j := 1) (c := p + 1) rfl (by decide) rfl ?_
                        refine n_goto hC (tgt := 84) dX3_tryWalk_175 (by decide) ?_
                        exact WN.forget (L' := [some (.ref (na 61)), some (.int (nI how)), some (.int (nI (10 + (tr / 3)))), some (.int (nbo false)), some (.int (nI (p + 1)))]) (⟨Or.inr rfl, Or.inr rfl, Or.inr rfl, Or.inr rfl, Or.inr rfl, trivial⟩) (ih84 _ (by omega) (p + 1) false (mset (mset M3 40 (upd (M3 40) p ((tl p) - (nI (10 + (tr / 3)))))) 41 (upd (M3 41) p (nI 0))) rfl (by omega) (mFr.set (by decide) (mFr.set (by decide) hF3)) h39 (by show upd (M3 40) p _ = _; rw [h40]; exact fil_u rfl) (by show upd (M3 41) p _ = _; rw [h41]; exact fil_u rfl) (by show (allb p _ && (decide _ && decide _)) = false; rw [hc, decide_eq_false c_155, Bool.and_false, Bool.and_false]))
                      · skip
                        refine n_iconst hC (v := nbo true) dX3_tryWalk_158 (by decide) ?_
                        refine n_goto hC (tgt := 163) dX3_tryWalk_159 (by decide) ?_
                        refine n_istore_n hC dX3_tryWalk_163 (Nat.le_of_ble_eq_true rfl) ?_
                        refine n_aload_n hC dX3_tryWalk_164 rfl ?_
                        refine m_getA hC 41 dX3_tryWalk_165 rfl rfl ?_
                        refine n_iload hC dX3_tryWalk_168 rfl ?_
                        refine n_iconst hC (v := nI 0) dX3_tryWalk_170 (by decide) ?_
                        refine m_astN hC 41 (M2 := mset (mset M3 40 (upd (M3 40) p ((tl p) - (nI (10 + (tr / 3)))))) 41 (upd (M3 41) p (nI 0))) dX3_tryWalk_171 rfl rfl (by have h9 : mLen 41 = 9 := rfl; omega) rfl ?_
                        refine n_iincN hC dX3_tryWalk_172 (j := 1) (c := p + 1) rfl (by decide) rfl ?_
                        refine n_goto hC (tgt := 84) dX3_tryWalk_175 (by decide) ?_
                        exact WN.forget (L' := [some (.ref (na 61)), some (.int (nI how)), some (.int (nI (10 + (tr / 3)))), some (.int (nbo true)), some (.int (nI (p + 1)))]) (⟨Or.inr rfl, Or.inr rfl, Or.inr rfl, Or.inr rfl, Or.inr rfl, trivial⟩) (ih84 _ (by omega) (p + 1) true (mset (mset M3 40 (upd (M3 40) p ((tl p) - (nI (10 + (tr / 3)))))) 41 (upd (M3 41) p (nI 0))) rfl (by omega) (mFr.set (by decide) (mFr.set (by decide) hF3)) h39 (by show upd (M3 40) p _ = _; rw [h40]; exact fil_u rfl) (by show upd (M3 41) p _ = _; rw [h41]; exact fil_u rfl) (by show (allb p _ && (decide _ && decide _)) = true; rw [hc, c_105, decide_eq_true c_130, decide_eq_true c_155]; rfl))
            exact WN.forget (L' := [some (.ref (na 61)), some (.int (nI how)), some (.int (nI (10 + (tr / 3)))), some (.int (nbo g)), some (.int (nI 0))]) (⟨Or.inr rfl, Or.inr rfl, Or.inr rfl, Or.inr rfl, Or.inr rfl, trivial⟩) (lp84 _ 0 g (mset M 39 (tur how n (M 39))) rfl (by omega) (mFr.set (by decide) mFr.rf) rfl (by rw [fil_0]; rfl) (by rw [fil_0]; rfl) c_67.symm)
          · skip
            have hgf : (decide (tr < mN M 15) && allb n (fun q => decide (¬ tl q < nI (10 + tr / 3)))) = false := hg.trans c_67
            refine n_iconst hC (v := nI 0) dX3_tryWalk_70 (by decide) ?_
            exact n_zret hC dX3_tryWalk_71 rfl (by decide) (by decide) (⟨rfl, M, rfl, tOk_n mFr.rf (by rw [h3s, if_pos hgf])⟩)
        · skip
          refine n_iload_n hC dX3_tryWalk_39 rfl ?_
          refine n_if_eqB hC (tgt := 58) dX3_tryWalk_40 (by decide) (fun c_40 => ?_) (fun c_40 => ?_)
          · skip
            refine n_iconst hC (v := nbo false) dX3_tryWalk_58 (by decide) ?_
            refine n_istore_n hC dX3_tryWalk_59 (Nat.le_of_ble_eq_true rfl) ?_
            refine n_iincN hC dX3_tryWalk_60 (j := 1) (c := p + 1) rfl (by decide) rfl ?_
            refine n_goto hC (tgt := 30) dX3_tryWalk_63 (by decide) ?_
            exact WN.forget (L' := [some (.ref (na 61)), some (.int (nI how)), some (.int (nI (10 + (tr / 3)))), some (.int (nbo false)), some (.int (nI (p + 1)))]) (⟨Or.inr rfl, Or.inr rfl, Or.inr rfl, Or.inr rfl, Or.inr rfl, trivial⟩) (ih30 _ (by omega) (p + 1) false rfl (by omega) (by show (decide _ && (allb p _ && decide _)) = false; rw [← Bool.and_assoc, hg, c_40]; rfl))
          · skip
            refine n_aload_n hC dX3_tryWalk_43 rfl ?_
            refine m_getA hC 40 dX3_tryWalk_44 rfl rfl ?_
            refine n_iload hC dX3_tryWalk_47 rfl ?_
            refine m_aldN hC 40 (v := tl p) dX3_tryWalk_49 rfl rfl (by have h9 : mLen 40 = 9 := rfl; omega) (hT.2.1 p (by omega)) ?_
            refine n_iload_n hC dX3_tryWalk_50 rfl ?_
            refine n_icmp_lt hC (tgt := 58) dX3_tryWalk_51 (by decide) (fun c_51 => ?_) (fun c_51 => ?_)
            · skip
              refine n_iconst hC (v := nbo false) dX3_tryWalk_58 (by decide) ?_
              refine n_istore_n hC dX3_tryWalk_59 (Nat.le_of_ble_eq_true rfl) ?_
              refine n_iincN hC dX3_tryWalk_60 (j := 1) (c := p + 1) rfl (by decide) rfl ?_
              refine n_goto hC (tgt := 30) dX3_tryWalk_63 (by decide) ?_
              exact WN.forget (L' := [some (.ref (na 61)), some (.int (nI how)), some (.int (nI (10 + (tr / 3)))), some (.int (nbo false)), some (.int (nI (p + 1)))]) (⟨Or.inr rfl, Or.inr rfl, Or.inr rfl, Or.inr rfl, Or.inr rfl, trivial⟩) (ih30 _ (by omega) (p + 1) false rfl (by omega) (by show (decide _ && (allb p _ && decide _)) = false; rw [← Bool.and_assoc, hg, decide_eq_false (fun z => z c_51), Bool.and_false]))
            · skip
              refine n_iconst hC (v := nbo true) dX3_tryWalk_54 (by decide) ?_
              refine n_goto hC (tgt := 59) dX3_tryWalk_55 (by decide) ?_
              refine n_istore_n hC dX3_tryWalk_59 (Nat.le_of_ble_eq_true rfl) ?_
              refine n_iincN hC dX3_tryWalk_60 (j := 1) (c := p + 1) rfl (by decide) rfl ?_
              refine n_goto hC (tgt := 30) dX3_tryWalk_63 (by decide) ?_
              exact WN.forget (L' := [some (.ref (na 61)), some (.int (nI how)), some (.int (nI (10 + (tr / 3)))), some (.int (nbo true)), some (.int (nI (p + 1)))]) (⟨Or.inr rfl, Or.inr rfl, Or.inr rfl, Or.inr rfl, Or.inr rfl, trivial⟩) (ih30 _ (by omega) (p + 1) true rfl (by omega) (by show (decide _ && (allb p _ && decide _)) = true; rw [← Bool.and_assoc, hg, c_40, decide_eq_true c_51]; rfl))
    exact WN.forget (L' := [some (.ref (na 61)), some (.int (nI how)), some (.int (nI (10 + (tr / 3)))), some (.int (nbo false)), some (.int (nI 0))]) (⟨Or.inr rfl, Or.inr rfl, Or.inr rfl, Or.inr rfl, Or.inr rfl, trivial⟩) (lp30 _ 0 false rfl (by omega) (by show (decide _ && true) = false; rw [decide_eq_false (by omega)]; rfl))
  · skip
    refine n_iconst hC (v := nbo true) dX3_tryWalk_21 (by decide) ?_
    refine n_goto hC (tgt := 26) dX3_tryWalk_22 (by decide) ?_
    refine n_istore_n hC dX3_tryWalk_26 (Nat.le_of_ble_eq_true rfl) ?_
    refine n_iconst hC (v := nI 0) dX3_tryWalk_27 (by decide) ?_
    refine n_istore hC dX3_tryWalk_28 (Nat.le_of_ble_eq_true rfl) ?_
    have lp30 : ∀ d9 : Nat, ∀ (p : Nat) (g : Bool), n - p = d9 → (p ≤ n) → ((decide (tr < mN M 15) && allb p (fun q => decide (¬ tl q < nI (10 + tr / 3)))) = g) → WN K na (mPut na h M) 0 0 Q9 30 [some (.ref (na 61)), some (.int (nI how)), some (.int (nI (10 + (tr / 3)))), some (.int (nbo g)), some (.int (nI p))] [] := by
      intro d9
      induction d9 using Nat.strongRecOn with
      | _ d9 ih30 =>
        intro p g hd30 hp hg
        refine n_iload hC dX3_tryWalk_30 rfl ?_
        refine n_aload_n hC dX3_tryWalk_32 rfl ?_
        refine m_getI hC 1 (v := nI n) dX3_tryWalk_33 rfl rfl (by decide) hn ?_
        refine n_icmp_geN hC (tgt := 66) dX3_tryWalk_36 (by decide) (by omega) (by omega) (fun c_36 => ?_) (fun c_36 => ?_)
        · skip
          have hp9 : n = p := by omega
          subst hp9
          refine n_iload_n hC dX3_tryWalk_66 rfl ?_
          refine n_if_neB hC (tgt := 72) dX3_tryWalk_67 (by decide) (fun c_67 => ?_) (fun c_67 => ?_)
          · skip
            have hgt := hg.trans c_67
            rw [Bool.and_eq_true, decide_eq_true_iff] at hgt
            have htr15 := hgt.1
            have hgN : (decide (tr < mN M 15) && allb n (fun p => decide (¬ tl p < nI (10 + tr / 3)))) = true := hg.trans c_67
            refine n_aload_n hC dX3_tryWalk_72 rfl ?_
            refine n_aload_n hC dX3_tryWalk_73 rfl ?_
            refine m_getA hC 39 dX3_tryWalk_74 rfl rfl ?_
            refine n_iload_n hC dX3_tryWalk_77 rfl ?_
            refine n_callV2v hC (mt_X3_turn na h (M) (k := 39) (n := n) (how := how) rfl hn (by omega) (by have h9 : mLen 39 = 9 := rfl; omega) (by omega)) md_X3_turn q1347 dX3_tryWalk_78 rfl (mPut_o _ _ _) rfl rfl ⟨rfl, rfl, by decide, by decide⟩ rfl (Nat.le_of_ble_eq_true rfl) (by decide) (by decide) (fun na1 h1 hp1 => ?_)
            obtain ⟨rfl, M939, rfl, eM939⟩ := hp1
            rw [show M939 = mset M 39 (tur how n (M 39)) from eM939.trans rfl]
            refine n_iconst hC (v := nI 0) dX3_tryWalk_81 (by decide) ?_
            refine n_istore hC dX3_tryWalk_82 (Nat.le_of_ble_eq_true rfl) ?_
            have lp84 : ∀ d9 : Nat, ∀ (p : Nat) (g : Bool) (M3 : nMem), n - p = d9 → (p ≤ n) → (mFr [39, 40, 41] M M3) → (M3 39 = tur how n (M 39)) → (M3 40 = fil (fun q => tl q - nI (10 + tr / 3)) (M 40) p) → (M3 41 = fil (fun _ => nI 0) (M 41) p) → (allb p (fun q => (decide (nI (th (trn how n q)) = M 18 (9 * tr + q)) && decide (nI (tm q) = M 19 (9 * tr + q)))) = g) → WN K na (mPut na h M3) 0 0 Q9 84 [some (.ref (na 61)), some (.int (nI how)), some (.int (nI (10 + (tr / 3)))), some (.int (nbo g)), some (.int (nI p))] [] := by
              intro d9
              induction d9 using Nat.strongRecOn with
              | _ d9 ih84 =>
                intro p g M3 hd84 hp2 hF3 h39 h40 h41 hc
                refine n_iload hC dX3_tryWalk_84 rfl ?_
                refine n_aload_n hC dX3_tryWalk_86 rfl ?_
                refine m_getI hC 1 (v := nI n) dX3_tryWalk_87 rfl rfl (by decide) ((congrFun (hF3 1 (by decide)) 0).trans hn) ?_
                refine n_icmp_geN hC (tgt := 178) dX3_tryWalk_90 (by decide) (by omega) (by omega) (fun c_90 => ?_) (fun c_90 => ?_)
                · skip
                  have hcl : tcl M n (fun x => th (trn how n x)) tm tr = g := by rw [← hc, show p = n by omega]; rfl
                  refine n_aload_n hC dX3_tryWalk_178 rfl ?_
                  refine n_dup hC dX3_tryWalk_179 rfl ?_
                  refine m_getI hC 42 (v := nI tr) dX3_tryWalk_180 rfl rfl (by decide) ((congrFun (hF3 42 (by decide)) 0).trans hT.2.2.2.1.1) ?_
                  refine n_iconst hC (v := nI 1) dX3_tryWalk_183 (by decide) ?_
                  refine n_iaddN hC dX3_tryWalk_184 rfl ?_
                  refine m_putI hC 42 (M2 := mset M3 42 (fun _ => nI (tr + 1))) dX3_tryWalk_185 rfl rfl (by decide) rfl rfl rfl rfl rfl ?_
                  refine n_iload_n hC dX3_tryWalk_188 rfl ?_
                  exact n_zret hC dX3_tryWalk_189 (nbo_nar _) (by decide) (by decide) (by
    cases g with
    | false => exact ⟨rfl, _, rfl, tOk_n (mFr.set (by decide) (mFr.wk (by decide) hF3)) (by rw [h3s, if_neg (by rw [hgN]; decide), if_neg (by rw [hcl]; decide)])⟩
    | true =>
      refine ⟨rfl, _, rfl, tOk_s (mFr.set (by decide) (mFr.wk (by decide) hF3)) (by rw [h3s, if_neg (by rw [hgN]; decide), if_pos hcl]) ⟨fun x hx => ?_, fun x hx => ?_, fun x hx => ?_, ⟨rfl, by dsimp only; omega⟩, (congrFun (hF3 43 (by decide)) 0).trans hT.2.2.2.2.1, hT.2.2.2.2.2⟩⟩
      · have hx2 := trn_lt (how := how) hx
        exact ⟨(congrFun h39 x).trans ((tur_trn hx).trans (hT.1 _ hx2).1), (hT.1 _ hx2).2⟩
      · exact (congrFun h40 x).trans (fil_lt (by omega))
      · exact (congrFun h41 x).trans (fil_lt (by omega)))
                · skip
                  refine n_aload_n hC dX3_tryWalk_93 rfl ?_
                  refine m_getA hC 40 dX3_tryWalk_94 rfl rfl ?_
                  refine n_iload hC dX3_tryWalk_97 rfl ?_
                  refine n_dup2 hC dX3_tryWalk_99 rfl rfl ?_
                  refine m_aldN hC 40 (v := tl p) dX3_tryWalk_100 rfl rfl (by have h9 : mLen 40 = 9 := rfl; omega) (by rw [h40, fil_ge (Nat.le_refl p)]; exact hT.2.1 p (by omega)) ?_
                  refine n_iload_n hC dX3_tryWalk_101 rfl ?_
                  refine n_isub hC dX3_tryWalk_102 ?_
                  refine m_astN hC 40 (M2 := mset M3 40 (upd (M3 40) p ((tl p) - (nI (10 + (tr / 3)))))) dX3_tryWalk_103 rfl rfl (by have h9 : mLen 40 = 9 := rfl; omega) rfl ?_
                  refine n_iload_n hC dX3_tryWalk_104 rfl ?_
                  refine n_if_eqB hC (tgt := 162) dX3_tryWalk_105 (by decide) (fun c_105 => ?_) (fun c_105 => ?_)
                  · skip
                    refine n_iconst hC (v := nbo false) dX3_tryWalk_162 (by decide) ?_
                    refine n_istore_n hC dX3_tryWalk_163 (Nat.le_of_ble_eq_true rfl) ?_
                    refine n_aload_n hC dX3_tryWalk_164 rfl ?_
                    refine m_getA hC 41 dX3_tryWalk_165 rfl rfl ?_
                    refine n_iload hC dX3_tryWalk_168 rfl ?_
                    refine n_iconst hC (v := nI 0) dX3_tryWalk_170 (by decide) ?_
                    refine m_astN hC 41 (M2 := mset (mset M3 40 (upd (M3 40) p ((tl p) - (nI (10 + (tr / 3)))))) 41 (upd (M3 41) p (nI 0))) dX3_tryWalk_171 rfl rfl (by have h9 : mLen 41 = 9 := rfl; omega) rfl ?_
                    refine n_iincN hC dX3_tryWalk_172 (j := 1) (c := p + 1) rfl (by decide) rfl ?_
                    refine n_goto hC (tgt := 84) dX3_tryWalk_175 (by decide) ?_
                    exact WN.forget (L' := [some (.ref (na 61)), some (.int (nI how)), some (.int (nI (10 + (tr / 3)))), some (.int (nbo false)), some (.int (nI (p + 1)))]) (⟨Or.inr rfl, Or.inr rfl, Or.inr rfl, Or.inr rfl, Or.inr rfl, trivial⟩) (ih84 _ (by omega) (p + 1) false (mset (mset M3 40 (upd (M3 40) p ((tl p) - (nI (10 + (tr / 3)))))) 41 (upd (M3 41) p (nI 0))) rfl (by omega) (mFr.set (by decide) (mFr.set (by decide) hF3)) h39 (by show upd (M3 40) p _ = _; rw [h40]; exact fil_u rfl) (by show upd (M3 41) p _ = _; rw [h41]; exact fil_u rfl) (by show (allb p _ && (decide _ && decide _)) = false; rw [hc, c_105]; rfl))
                  · skip
                    refine n_aload_n hC dX3_tryWalk_108 rfl ?_
                    refine m_getA hC 39 dX3_tryWalk_109 rfl rfl ?_
                    refine n_iload hC dX3_tryWalk_112 rfl ?_
                    refine m_aldN hC 39 (v := nI (th (trn how n p))) dX3_tryWalk_114 rfl rfl (by have h9 : mLen 39 = 9 := rfl; omega) ((congrFun h39 p).trans ((tur_trn (by omega)).trans (hT.1 _ (trn_lt (by omega))).1)) ?_
                    refine n_aload_n hC dX3_tryWalk_115 rfl ?_
                    refine m_getA hC 18 dX3_tryWalk_116 rfl rfl ?_
                    refine n_bipush hC (v := nI 9) dX3_tryWalk_119 (by decide) ?_
                    refine n_aload_n hC dX3_tryWalk_121 rfl ?_
                    refine m_getI hC 42 (v := nI tr) dX3_tryWalk_122 rfl rfl (by decide) ((congrFun (hF3 42 (by decide)) 0).trans hT.2.2.2.1.1) ?_
                    refine n_imulN hC dX3_tryWalk_125 rfl ?_
                    refine n_iload hC dX3_tryWalk_126 rfl ?_
                    refine n_iaddN hC dX3_tryWalk_128 rfl ?_
                    refine m_aldN hC 18 (v := M 18 (9 * tr + p)) dX3_tryWalk_129 rfl rfl (by have h9 : mLen 18 = 900 := rfl; omega) (congrFun (hF3 18 (by decide)) _) ?_
                    refine n_icmp_ne hC (tgt := 162) dX3_tryWalk_130 (by decide) (fun c_130 => ?_) (fun c_130 => ?_)
                    · skip
                      refine n_iconst hC (v := nbo false) dX3_tryWalk_162 (by decide) ?_
                      refine n_istore_n hC dX3_tryWalk_163 (Nat.le_of_ble_eq_true rfl) ?_
                      refine n_aload_n hC dX3_tryWalk_164 rfl ?_
                      refine m_getA hC 41 dX3_tryWalk_165 rfl rfl ?_
                      refine n_iload hC dX3_tryWalk_168 rfl ?_
                      refine n_iconst hC (v := nI 0) dX3_tryWalk_170 (by decide) ?_
                      refine m_astN hC 41 (M2 := mset (mset M3 40 (upd (M3 40) p ((tl p) - (nI (10 + (tr / 3)))))) 41 (upd (M3 41) p (nI 0))) dX3_tryWalk_171 rfl rfl (by have h9 : mLen 41 = 9 := rfl; omega) rfl ?_
                      refine n_iincN hC dX3_tryWalk_172 (j := 1) (c := p + 1) rfl (by decide) rfl ?_
                      refine n_goto hC (tgt := 84) dX3_tryWalk_175 (by decide) ?_
                      exact WN.forget (L' := [some (.ref (na 61)), some (.int (nI how)), some (.int (nI (10 + (tr / 3)))), some (.int (nbo false)), some (.int (nI (p + 1)))]) (⟨Or.inr rfl, Or.inr rfl, Or.inr rfl, Or.inr rfl, Or.inr rfl, trivial⟩) (ih84 _ (by omega) (p + 1) false (mset (mset M3 40 (upd (M3 40) p ((tl p) - (nI (10 + (tr / 3)))))) 41 (upd (M3 41) p (nI 0))) rfl (by omega) (mFr.set (by decide) (mFr.set (by decide) hF3)) h39 (by show upd (M3 40) p _ = _; rw [h40]; exact fil_u rfl) (by show upd (M3 41) p _ = _; rw [h41]; exact fil_u rfl) (by show (allb p _ && (decide _ && decide _)) = false; rw [hc, decide_eq_false c_130, Bool.false_and, Bool.and_false]))
                    · skip
                      refine n_aload_n hC dX3_tryWalk_133 rfl ?_
                      refine m_getA hC 41 dX3_tryWalk_134 rfl rfl ?_
                      refine n_iload hC dX3_tryWalk_137 rfl ?_
                      refine m_aldN hC 41 (v := nI (tm p)) dX3_tryWalk_139 rfl rfl (by have h9 : mLen 41 = 9 := rfl; omega) ((congrFun h41 p).trans ((fil_ge (Nat.le_refl p)).trans (hT.2.2.1 p (by omega)))) ?_
                      refine n_aload_n hC dX3_tryWalk_140 rfl ?_
                      refine m_getA hC 19 dX3_tryWalk_141 rfl rfl ?_
                      refine n_bipush hC (v := nI 9) dX3_tryWalk_144 (by decide) ?_
                      refine n_aload_n hC dX3_tryWalk_146 rfl ?_
                      refine m_getI hC 42 (v := nI tr) dX3_tryWalk_147 rfl rfl (by decide) ((congrFun (hF3 42 (by decide)) 0).trans hT.2.2.2.1.1) ?_
                      refine n_imulN hC dX3_tryWalk_150 rfl ?_
                      refine n_iload hC dX3_tryWalk_151 rfl ?_
                      refine n_iaddN hC dX3_tryWalk_153 rfl ?_
                      refine m_aldN hC 19 (v := M 19 (9 * tr + p)) dX3_tryWalk_154 rfl rfl (by have h9 : mLen 19 = 900 := rfl; omega) (congrFun (hF3 19 (by decide)) _) ?_
                      refine n_icmp_ne hC (tgt := 162) dX3_tryWalk_155 (by decide) (fun c_155 => ?_) (fun c_155 => ?_)
                      · skip
                        refine n_iconst hC (v := nbo false) dX3_tryWalk_162 (by decide) ?_
                        refine n_istore_n hC dX3_tryWalk_163 (Nat.le_of_ble_eq_true rfl) ?_
                        refine n_aload_n hC dX3_tryWalk_164 rfl ?_
                        refine m_getA hC 41 dX3_tryWalk_165 rfl rfl ?_
                        refine n_iload hC dX3_tryWalk_168 rfl ?_
                        refine n_iconst hC (v := nI 0) dX3_tryWalk_170 (by decide) ?_
                        refine m_astN hC 41 (M2 := mset (mset M3 40 (upd (M3 40) p ((tl p) - (nI (10 + (tr / 3)))))) 41 (upd (M3 41) p (nI 0))) dX3_tryWalk_171 rfl rfl (by have h9 : mLen 41 = 9 := rfl; omega) rfl ?_
                        refine n_iincN hC dX3_tryWalk_172 (j := 1) (c := p + 1) rfl (by decide) rfl ?_
                        refine n_goto hC (tgt := 84) dX3_tryWalk_175 (by decide) ?_
                        exact WN.forget (L' := [some (.ref (na 61)), some (.int (nI how)), some (.int (nI (10 + (tr / 3)))), some (.int (nbo false)), some (.int (nI (p + 1)))]) (⟨Or.inr rfl, Or.inr rfl, Or.inr rfl, Or.inr rfl, Or.inr rfl, trivial⟩) (ih84 _ (by omega) (p + 1) false (mset (mset M3 40 (upd (M3 40) p ((tl p) - (nI (10 + (tr / 3)))))) 41 (upd (M3 41) p (nI 0))) rfl (by omega) (mFr.set (by decide) (mFr.set (by decide) hF3)) h39 (by show upd (M3 40) p _ = _; rw [h40]; exact fil_u rfl) (by show upd (M3 41) p _ = _; rw [h41]; exact fil_u rfl) (by show (allb p _ && (decide _ && decide _)) = false; rw [hc, decide_eq_false c_155, Bool.and_false, Bool.and_false]))
                      · skip
                        refine n_iconst hC (v := nbo true) dX3_tryWalk_158 (by decide) ?_
                        refine n_goto hC (tgt := 163) dX3_tryWalk_159 (by decide) ?_
                        refine n_istore_n hC dX3_tryWalk_163 (Nat.le_of_ble_eq_true rfl) ?_
                        refine n_aload_n hC dX3_tryWalk_164 rfl ?_
                        refine m_getA hC 41 dX3_tryWalk_165 rfl rfl ?_
                        refine n_iload hC dX3_tryWalk_168 rfl ?_
                        refine n_iconst hC (v := nI 0) dX3_tryWalk_170 (by decide) ?_
                        refine m_astN hC 41 (M2 := mset (mset M3 40 (upd (M3 40) p ((tl p) - (nI (10 + (tr / 3)))))) 41 (upd (M3 41) p (nI 0))) dX3_tryWalk_171 rfl rfl (by have h9 : mLen 41 = 9 := rfl; omega) rfl ?_
                        refine n_iincN hC dX3_tryWalk_172 (j := 1) (c := p + 1) rfl (by decide) rfl ?_
                        refine n_goto hC (tgt := 84) dX3_tryWalk_175 (by decide) ?_
                        exact WN.forget (L' := [some (.ref (na 61)), some (.int (nI how)), some (.int (nI (10 + (tr / 3)))), some (.int (nbo true)), some (.int (nI (p + 1)))]) (⟨Or.inr rfl, Or.inr rfl, Or.inr rfl, Or.inr rfl, Or.inr rfl, trivial⟩) (ih84 _ (by omega) (p + 1) true (mset (mset M3 40 (upd (M3 40) p ((tl p) - (nI (10 + (tr / 3)))))) 41 (upd (M3 41) p (nI 0))) rfl (by omega) (mFr.set (by decide) (mFr.set (by decide) hF3)) h39 (by show upd (M3 40) p _ = _; rw [h40]; exact fil_u rfl) (by show upd (M3 41) p _ = _; rw [h41]; exact fil_u rfl) (by show (allb p _ && (decide _ && decide _)) = true; rw [hc, c_105, decide_eq_true c_130, decide_eq_true c_155]; rfl))
            exact WN.forget (L' := [some (.ref (na 61)), some (.int (nI how)), some (.int (nI (10 + (tr / 3)))), some (.int (nbo g)), some (.int (nI 0))]) (⟨Or.inr rfl, Or.inr rfl, Or.inr rfl, Or.inr rfl, Or.inr rfl, trivial⟩) (lp84 _ 0 g (mset M 39 (tur how n (M 39))) rfl (by omega) (mFr.set (by decide) mFr.rf) rfl (by rw [fil_0]; rfl) (by rw [fil_0]; rfl) c_67.symm)
          · skip
            have hgf : (decide (tr < mN M 15) && allb n (fun q => decide (¬ tl q < nI (10 + tr / 3)))) = false := hg.trans c_67
            refine n_iconst hC (v := nI 0) dX3_tryWalk_70 (by decide) ?_
            exact n_zret hC dX3_tryWalk_71 rfl (by decide) (by decide) (⟨rfl, M, rfl, tOk_n mFr.rf (by rw [h3s, if_pos hgf])⟩)
        · skip
          refine n_iload_n hC dX3_tryWalk_39 rfl ?_
          refine n_if_eqB hC (tgt := 58) dX3_tryWalk_40 (by decide) (fun c_40 => ?_) (fun c_40 => ?_)
          · skip
            refine n_iconst hC (v := nbo false) dX3_tryWalk_58 (by decide) ?_
            refine n_istore_n hC dX3_tryWalk_59 (Nat.le_of_ble_eq_true rfl) ?_
            refine n_iincN hC dX3_tryWalk_60 (j := 1) (c := p + 1) rfl (by decide) rfl ?_
            refine n_goto hC (tgt := 30) dX3_tryWalk_63 (by decide) ?_
            exact WN.forget (L' := [some (.ref (na 61)), some (.int (nI how)), some (.int (nI (10 + (tr / 3)))), some (.int (nbo false)), some (.int (nI (p + 1)))]) (⟨Or.inr rfl, Or.inr rfl, Or.inr rfl, Or.inr rfl, Or.inr rfl, trivial⟩) (ih30 _ (by omega) (p + 1) false rfl (by omega) (by show (decide _ && (allb p _ && decide _)) = false; rw [← Bool.and_assoc, hg, c_40]; rfl))
          · skip
            refine n_aload_n hC dX3_tryWalk_43 rfl ?_
            refine m_getA hC 40 dX3_tryWalk_44 rfl rfl ?_
            refine n_iload hC dX3_tryWalk_47 rfl ?_
            refine m_aldN hC 40 (v := tl p) dX3_tryWalk_49 rfl rfl (by have h9 : mLen 40 = 9 := rfl; omega) (hT.2.1 p (by omega)) ?_
            refine n_iload_n hC dX3_tryWalk_50 rfl ?_
            refine n_icmp_lt hC (tgt := 58) dX3_tryWalk_51 (by decide) (fun c_51 => ?_) (fun c_51 => ?_)
            · skip
              refine n_iconst hC (v := nbo false) dX3_tryWalk_58 (by decide) ?_
              refine n_istore_n hC dX3_tryWalk_59 (Nat.le_of_ble_eq_true rfl) ?_
              refine n_iincN hC dX3_tryWalk_60 (j := 1) (c := p + 1) rfl (by decide) rfl ?_
              refine n_goto hC (tgt := 30) dX3_tryWalk_63 (by decide) ?_
              exact WN.forget (L' := [some (.ref (na 61)), some (.int (nI how)), some (.int (nI (10 + (tr / 3)))), some (.int (nbo false)), some (.int (nI (p + 1)))]) (⟨Or.inr rfl, Or.inr rfl, Or.inr rfl, Or.inr rfl, Or.inr rfl, trivial⟩) (ih30 _ (by omega) (p + 1) false rfl (by omega) (by show (decide _ && (allb p _ && decide _)) = false; rw [← Bool.and_assoc, hg, decide_eq_false (fun z => z c_51), Bool.and_false]))
            · skip
              refine n_iconst hC (v := nbo true) dX3_tryWalk_54 (by decide) ?_
              refine n_goto hC (tgt := 59) dX3_tryWalk_55 (by decide) ?_
              refine n_istore_n hC dX3_tryWalk_59 (Nat.le_of_ble_eq_true rfl) ?_
              refine n_iincN hC dX3_tryWalk_60 (j := 1) (c := p + 1) rfl (by decide) rfl ?_
              refine n_goto hC (tgt := 30) dX3_tryWalk_63 (by decide) ?_
              exact WN.forget (L' := [some (.ref (na 61)), some (.int (nI how)), some (.int (nI (10 + (tr / 3)))), some (.int (nbo true)), some (.int (nI (p + 1)))]) (⟨Or.inr rfl, Or.inr rfl, Or.inr rfl, Or.inr rfl, Or.inr rfl, trivial⟩) (ih30 _ (by omega) (p + 1) true rfl (by omega) (by show (decide _ && (allb p _ && decide _)) = true; rw [← Bool.and_assoc, hg, c_40, decide_eq_true c_51]; rfl))
    exact WN.forget (L' := [some (.ref (na 61)), some (.int (nI how)), some (.int (nI (10 + (tr / 3)))), some (.int (nbo true)), some (.int (nI 0))]) (⟨Or.inr rfl, Or.inr rfl, Or.inr rfl, Or.inr rfl, Or.inr rfl, trivial⟩) (lp30 _ 0 true rfl (by omega) (by show (decide _ && true) = true; rw [decide_eq_true (by omega)]; rfl))

theorem tOk.after {n : Nat} {M M1 M2 : nMem} {o : Option TT} {r : Int32} (h : tOk n M1 o r M2) (hF : mFr [39, 40, 41, 42, 43] M M1) : tOk n M o r M2 := ⟨mFr.cmp (fun _ z => z) (fun _ z => z) hF h.1, h.2⟩
theorem tOk.b {n : Nat} {M M2 : nMem} {o : Option TT} {r : Int32} (h : tOk n M o r M2) : r = nI 0 ∨ r = nI 1 := by
  unfold tOk at h
  split at h
  · exact Or.inl h.2
  · exact Or.inr h.2.1
theorem tOk.nar {n : Nat} {M M2 : nMem} {o : Option TT} {r : Int32} (h : tOk n M o r M2) : narrow FieldType.boolean (Value.int r) = Value.int r := by
  rcases h.b with rfl | rfl <;> rfl
set_option maxHeartbeats 4000000 in
set_option maxRecDepth 100000 in
theorem mt_X3_tryStep (na : nA) (h : nH) (M : nMem) {n s : Nat} {T : TT} (hn : M 1 0 = nI n) (hn3 : 3 ≤ n) (hn9 : n ≤ 9) (h15 : M 15 0 = nI (mN M 15)) (b15 : mN M 15 ≤ 100) (hs : s < 102) (hs2 : s < 100 → s % 10 ≤ 1) (hT : tryR n M T) : nM yX3_tryStep cX3_tryStep 2 (some .boolean) (nRm 3 0 0) [.ref (na 61), .int (nI s)] na (mPut na h M) (nQi (mRel na h (tOk n M (tstep M n s T)))) 0 0 := by
  refine nM.ofN RX3 rfl (by decide) (by intro v hv; simp only [List.mem_cons, List.not_mem_nil, or_false] at hv; rcases hv with rfl | rfl <;> rfl) (Nat.le_of_ble_eq_true rfl) (fun K hC hnm => ?_)
  show WN K na (mPut na h M) 0 0 (nE K (nQi (mRel na h (tOk n M (tstep M n s T)))) 0 0) 0 [some (.ref (na 61)), some (.int (nI s))] []
  let Q9 : State → Prop := nE K (nQi (mRel na h (tOk n M (tstep M n s T)))) 0 0
  show WN K na (mPut na h M) 0 0 Q9 0 [some (.ref (na 61)), some (.int (nI s))] []
  obtain ⟨th, tl, tm, tr, ts⟩ := T
  have hT0 := hT
  unfold tryR at hT
  dsimp only at hT
  have hts := hT.2.2.2.2.2
  refine n_aload_n hC dX3_tryStep_0 rfl ?_
  refine m_getI hC 43 (v := nI ts) dX3_tryStep_1 rfl rfl (by decide) hT.2.2.2.2.1 ?_
  refine n_sipush hC (v := nI 300) dX3_tryStep_4 (by decide) ?_
  refine n_icmp_neN hC (tgt := 12) dX3_tryStep_7 (by decide) (by omega) (by omega) (fun c_7 => ?_) (fun c_7 => ?_)
  · skip
    refine n_aload_n hC dX3_tryStep_12 rfl ?_
    refine n_dup hC dX3_tryStep_13 rfl ?_
    refine m_getI hC 43 (v := nI ts) dX3_tryStep_14 rfl rfl (by decide) hT.2.2.2.2.1 ?_
    refine n_iconst hC (v := nI 1) dX3_tryStep_17 (by decide) ?_
    refine n_iaddN hC dX3_tryStep_18 rfl ?_
    refine m_putI hC 43 (M2 := mset M 43 (fun _ => nI (ts + 1))) dX3_tryStep_19 rfl rfl (by decide) rfl rfl rfl rfl rfl ?_
    obtain ⟨M1, eM1⟩ : ∃ z, z = mset M 43 (fun _ => nI (ts + 1)) := ⟨_, rfl⟩
    rw [← eM1]
    have hF1 : mFr [39, 40, 41, 42, 43] M M1 := by rw [eM1]; exact mFr.set (by decide) mFr.rf
    obtain ⟨T9, eT9⟩ : ∃ z : TT, z = (th, tl, tm, tr, ts + 1) := ⟨_, rfl⟩
    have hT9 : tryR n M1 T9 := by rw [eM1, eT9]; exact ⟨hT.1, hT.2.1, hT.2.2.1, hT.2.2.2.1, rfl, by dsimp only; omega⟩
    have h15o := h15
    have e15 : mN M1 15 = mN M 15 := mN_fr hF1 (by decide)
    have e18 := hF1 18 (by decide)
    have e19 := hF1 19 (by decide)
    replace hn : M1 1 0 = nI n := (congrFun (hF1 1 (by decide)) 0).trans hn
    replace h15 : M1 15 0 = nI (mN M1 15) := (congrFun (hF1 15 (by decide)) 0).trans (by rw [e15]; exact h15o)
    replace b15 : mN M1 15 ≤ 100 := by rw [e15]; exact b15
    refine n_iload_n hC dX3_tryStep_22 rfl ?_
    refine n_bipush hC (v := nI 100) dX3_tryStep_23 (by decide) ?_
    refine n_icmp_ltN hC (tgt := 39) dX3_tryStep_25 (by decide) (by omega) (by omega) (fun c_25 => ?_) (fun c_25 => ?_)
    · skip
      refine n_aload_n hC dX3_tryStep_39 rfl ?_
      refine n_iload_n hC dX3_tryStep_40 rfl ?_
      refine n_bipush hC (v := nI 10) dX3_tryStep_41 (by decide) ?_
      refine n_idivN hC dX3_tryStep_43 (by omega) (by omega) (by omega) rfl ?_
      refine n_iload_n hC dX3_tryStep_44 rfl ?_
      refine n_bipush hC (v := nI 10) dX3_tryStep_45 (by decide) ?_
      refine n_iremN hC dX3_tryStep_47 (by omega) (by omega) (by omega) rfl ?_
      refine n_callV2z hC (mt_X3_tryPass na h (M1) (n := n) (p := s / 10) (how := s % 10) (T := T9) hn hn3 hn9 (by omega) (by omega) hT9) md_X3_tryPass q1501 dX3_tryStep_48 rfl (mPut_o _ _ _) rfl rfl ⟨rfl, rfl, by decide, by decide⟩ rfl (Nat.le_of_ble_eq_true rfl) (by decide) (by decide) (fun r0 na0 h0 hp0 => ?_)
      obtain ⟨rfl, M2, rfl, hO⟩ := hp0
      have hO := hO.after hF1
      rw [show tpass n (s / 10) (s % 10) T9 = tstep M n s (th, tl, tm, tr, ts) by unfold tstep; rw [if_neg c_7, if_neg (by omega), eT9]] at hO
      exact n_zret hC dX3_tryStep_51 hO.nar (by decide) (by decide) (⟨rfl, M2, rfl, hO⟩)
    · skip
      refine n_aload_n hC dX3_tryStep_28 rfl ?_
      refine n_iload_n hC dX3_tryStep_29 rfl ?_
      refine n_bipush hC (v := nI 100) dX3_tryStep_30 (by decide) ?_
      refine n_isubN hC dX3_tryStep_32 (by omega) rfl ?_
      refine n_callV1z hC (mt_X3_tryWalk na h (M1) (n := n) (how := s - 100) (T := T9) hn hn3 hn9 h15 b15 (by omega) hT9) md_X3_tryWalk q1497 dX3_tryStep_33 rfl (mPut_o _ _ _) rfl rfl ⟨rfl, rfl, by decide, by decide⟩ rfl (Nat.le_of_ble_eq_true rfl) (by decide) (by decide) (fun r1 na1 h1 hp1 => ?_)
      obtain ⟨rfl, M2, rfl, hO⟩ := hp1
      have hO := hO.after hF1
      rw [show twalk M1 n (s - 100) T9 = tstep M n s (th, tl, tm, tr, ts) by unfold tstep; rw [if_neg c_7, if_pos (by omega), eT9]; unfold twalk tcl; rw [e15, e18, e19]] at hO
      refine n_goto hC (tgt := 51) dX3_tryStep_36 (by decide) ?_
      exact n_zret hC dX3_tryStep_51 hO.nar (by decide) (by decide) (⟨rfl, M2, rfl, hO⟩)
  · skip
    refine n_iconst hC (v := nI 0) dX3_tryStep_10 (by decide) ?_
    exact n_zret hC dX3_tryStep_11 rfl (by decide) (by decide) (⟨rfl, M, rfl, tOk_n mFr.rf (by unfold tstep; exact if_pos c_7)⟩)

theorem tstep_fr {M M2 : nMem} {n s : Nat} {T : TT} (hF : mFr [39, 40, 41, 42, 43] M M2) : tstep M2 n s T = tstep M n s T := by
  unfold tstep twalk tcl
  rw [mN_fr hF (show 15 ∉ _ by decide), hF 18 (by decide), hF 19 (by decide)]
theorem trun_fr {M M2 : nMem} {n : Nat} (hF : mFr [39, 40, 41, 42, 43] M M2) (l : List Nat) : ∀ T : TT, trun M2 n l T = trun M n l T := by
  have e : tstep M2 n = tstep M n := by
    funext s T
    exact tstep_fr hF
  induction l with
  | nil => intro T; rfl
  | cons s l ih =>
    intro T
    unfold trun
    rw [e, show trun M2 n l = trun M n l from funext ih]
theorem mFs_fr {S : List Nat} {M M2 : nMem} {z : Nat} (hF : mFr S M M2) (h28 : 28 ∉ S) (h29 : 29 ∉ S) : mFs M2 z = mFs M z := by
  unfold mFs
  rw [mA_fr hF h28]
  congr 1
  funext k
  exact mA_fr hF h29
theorem mMakes_fr {M M2 : nMem} {L : List Nat} {av sv : Int32} (hF : mFr [39, 40, 41, 42, 43] M M2) : mMakes M2 L av sv = mMakes M L av sv := by
  unfold mMakes
  rw [mN_fr hF (show 1 ∉ _ by decide), mN_fr hF (show 15 ∉ _ by decide), trun_fr hF]
  unfold T0
  rw [hF 9 (by decide)]
theorem mkSq_1 {M : nMem} {n : Nat} {L l : List Nat} {av sv : Int32} {k : Nat} {T T2 : TT} {R : Option TT} (h : trun M n (mkSq L av sv k) T = some T2) (e : mkEl L av sv k = l) (hr : trun M n l T2 = R) : trun M n (mkSq L av sv (k + 1)) T = R := by
  show trun M n (mkSq L av sv k ++ mkEl L av sv k) T = R
  rw [trun_app, h, e]
  exact hr
theorem trun_1 {M : nMem} {n s : Nat} {T : TT} {R : Option TT} (h : tstep M n s T = R) : trun M n [s] T = R := by
  show (tstep M n s T).bind _ = _
  rw [h]
  cases R <;> rfl
theorem trun_2 {M : nMem} {n s : Nat} {T T2 : TT} {R : Option TT} (h : tstep M n s T = some T2) (h2 : tstep M n s T2 = R) : trun M n [s, s] T = R := by
  show (tstep M n s T).bind _ = _
  rw [h]
  exact trun_1 h2
theorem mkSq_f {M : nMem} {n : Nat} {L : List Nat} {av sv : Int32} {k s : Nat} {T T2 : TT} (h : trun M n (mkSq L av sv k) T = some T2) (h0 : ¬ sv = nI 0) (h1 : ¬ sv = nI 1) (hg : L.getD k 0 = s) (ho : tstep M n s T2 = none) : trun M n (mkSq L av sv (k + 1)) T = none := by
  subst hg
  by_cases c : nI k = av ∧ sv = nI 2
  · refine mkSq_1 h (show mkEl L av sv k = [L.getD k 0, L.getD k 0] by unfold mkEl; rw [if_neg (fun z => h0 z.2), if_neg (fun z => h1 z.2), if_pos c]) ?_
    show (tstep M n _ T2).bind _ = _
    rw [ho]; rfl
  · exact mkSq_1 h (show mkEl L av sv k = [L.getD k 0] by unfold mkEl; rw [if_neg (fun z => h0 z.2), if_neg (fun z => h1 z.2), if_neg c]) (trun_1 ho)
set_option maxHeartbeats 4000000 in
set_option maxRecDepth 100000 in
theorem mt_X3_makes (na : nA) (h : nH) (M : nMem) (hI : mInv M) {z : Nat} (hz : z < mN M 26) (hB : mB M 11 = true) (av sv : Int32) : nM yX3_makes cX3_makes 6 (some .boolean) (nRm 4 0 0) [.ref (na 61), .int (nI z), .int av, .int sv] na (mPut na h M) (nQi (mRel na h (fun r M2 => mFr [39, 40, 41, 42, 43] M M2 ∧ r = nbo (mMakes M (mFs M z) av sv)))) 0 0 := by
  refine nM.ofN RX3 rfl (by decide) (by intro v hv; simp only [List.mem_cons, List.not_mem_nil, or_false] at hv; rcases hv with rfl | rfl | rfl | rfl <;> rfl) (Nat.le_of_ble_eq_true rfl) (fun K hC hnm => ?_)
  show WN K na (mPut na h M) 0 0 (nE K (nQi (mRel na h (fun r M2 => mFr [39, 40, 41, 42, 43] M M2 ∧ r = nbo (mMakes M (mFs M z) av sv)))) 0 0) 0 [some (.ref (na 61)), some (.int (nI z)), some (.int av), some (.int sv), none, none] []
  let Q9 : State → Prop := nE K (nQi (mRel na h (fun r M2 => mFr [39, 40, 41, 42, 43] M M2 ∧ r = nbo (mMakes M (mFs M z) av sv)))) 0 0
  show WN K na (mPut na h M) 0 0 Q9 0 [some (.ref (na 61)), some (.int (nI z)), some (.int av), some (.int sv), none, none] []
  obtain ⟨⟨h0, b0⟩, ⟨h1, b1a, b1⟩, ⟨h11, b11⟩, ⟨h14, b14⟩, ⟨h15, b15, b15n⟩, ⟨h20, b20⟩, ⟨h26, b26⟩, ⟨h27, b27⟩, ⟨h55, b55⟩, iP, iH, iHi, iHd, iC, iT, iF, iG, iS, iZ⟩ := hI
  have hn3 := b11 hB
  have hmz := (iF z hz).2
  refine n_aload_n hC dX3_makes_0 rfl ?_
  refine n_callV0v hC (mt_X3_tryBegin na h (M) (n := mN M 1) h1 (by omega)) md_X3_tryBegin q1489 dX3_makes_1 rfl (mPut_o _ _ _) rfl rfl ⟨rfl, rfl, by decide, by decide⟩ rfl (Nat.le_of_ble_eq_true rfl) (by decide) (by decide) (fun na0 h0 hp0 => ?_)
  obtain ⟨rfl, M2, rfl, hF2, hT2⟩ := hp0
  refine n_iconst hC (v := nI 0) dX3_makes_4 (by decide) ?_
  refine n_istore hC dX3_makes_5 (Nat.le_of_ble_eq_true rfl) ?_
  have lp7 : ∀ d9 : Nat, ∀ (k : Nat) (T : TT) (M3 : nMem), mA M 28 z - k = d9 → (k ≤ mA M 28 z) → (mFr [39, 40, 41, 42, 43] M M3) → (tryR (mN M 1) M3 T) → (trun M (mN M 1) (mkSq (mFs M z) av sv k) (T0 M) = some T) → WN K na (mPut na h M3) 0 0 Q9 7 [some (.ref (na 61)), some (.int (nI z)), some (.int av), some (.int sv), some (.int (nI k)), none] [] := by
    intro d9
    induction d9 using Nat.strongRecOn with
    | _ d9 ih7 =>
      intro k T M3 hd7 hk hF3 hT3 hrun
      refine n_iload hC dX3_makes_7 rfl ?_
      refine n_aload_n hC dX3_makes_9 rfl ?_
      refine m_getA hC 28 dX3_makes_10 rfl rfl ?_
      refine n_iload_n hC dX3_makes_13 rfl ?_
      refine m_aldN hC 28 (v := nI (mA M 28 z)) dX3_makes_14 rfl rfl (by have h9 : mLen 28 = 11 := rfl; omega) ((congrFun (hF3 28 (by decide)) z).trans (iF z hz).1) ?_
      refine n_icmp_geN hC (tgt := 105) dX3_makes_15 (by decide) (by omega) (by omega) (fun c_15 => ?_) (fun c_15 => ?_)
      · skip
        have hkc : k = (mFs M z).length := by rw [mFs_len]; omega
        rw [hkc] at hrun
        have htr := hT3.2.2.2.1.2
        refine n_aload_n hC dX3_makes_105 rfl ?_
        refine m_getI hC 42 (v := nI T.2.2.2.1) dX3_makes_106 rfl rfl (by decide) hT3.2.2.2.1.1 ?_
        refine n_aload_n hC dX3_makes_109 rfl ?_
        refine m_getI hC 15 (v := nI (mN M 15)) dX3_makes_110 rfl rfl (by decide) ((congrFun (hF3 15 (by decide)) 0).trans h15) ?_
        refine n_icmp_neN hC (tgt := 120) dX3_makes_113 (by decide) (by omega) (by omega) (fun c_113 => ?_) (fun c_113 => ?_)
        · skip
          refine n_iconst hC (v := nbo false) dX3_makes_120 (by decide) ?_
          exact n_zret hC dX3_makes_121 (nbo_nar _) (by decide) (by decide) (⟨rfl, M3, rfl, hF3, by rw [mMakes_s hrun, decide_eq_false c_113]⟩)
        · skip
          refine n_iconst hC (v := nbo true) dX3_makes_116 (by decide) ?_
          refine n_goto hC (tgt := 121) dX3_makes_117 (by decide) ?_
          exact n_zret hC dX3_makes_121 (nbo_nar _) (by decide) (by decide) (⟨rfl, M3, rfl, hF3, by rw [mMakes_s hrun, decide_eq_true c_113]⟩)
      · skip
        have hg : (mFs M z).getD k 0 = mA M 29 (300 * z + k) := mFs_get c_15
        have hsp := (iG z k hz c_15).2
        have hs9 := stp_lt hsp
        have hu9 := und_lt hs9
        refine n_aload_n hC dX3_makes_18 rfl ?_
        refine m_getA hC 29 dX3_makes_19 rfl rfl ?_
        refine n_sipush hC (v := nI 300) dX3_makes_22 (by decide) ?_
        refine n_iload_n hC dX3_makes_25 rfl ?_
        refine n_imulN hC dX3_makes_26 rfl ?_
        refine n_iload hC dX3_makes_27 rfl ?_
        refine n_iaddN hC dX3_makes_29 rfl ?_
        refine m_aldN hC 29 (v := nI (mA M 29 (300 * z + k))) dX3_makes_30 rfl rfl (by have h9 : mLen 29 = 3300 := rfl; omega) ((congrFun (hF3 29 (by decide)) _).trans (iG z k hz c_15).1) ?_
        refine n_istore hC dX3_makes_31 (Nat.le_of_ble_eq_true rfl) ?_
        refine n_iload hC dX3_makes_33 rfl ?_
        refine n_iload_n hC dX3_makes_35 rfl ?_
        refine n_icmp_ne hC (tgt := 46) dX3_makes_36 (by decide) (fun c_36 => ?_) (fun c_36 => ?_)
        · skip
          refine n_aload_n hC dX3_makes_46 rfl ?_
          refine n_iload hC dX3_makes_47 rfl ?_
          refine n_iload_n hC dX3_makes_49 rfl ?_
          refine n_icmp_ne hC (tgt := 67) dX3_makes_50 (by decide) (fun c_50 => ?_) (fun c_50 => (absurd c_50 c_36))
          refine n_iload hC dX3_makes_67 rfl ?_
          refine n_callV1z hC (mt_X3_tryStep na h (M3) (n := mN M 1) (s := mA M 29 (300 * z + k)) (T := T) ((congrFun (hF3 1 (by decide)) 0).trans h1) hn3 b1 ((congrFun (hF3 15 (by decide)) 0).trans (by rw [mN_fr hF3 (by decide)]; exact h15)) (by rw [mN_fr hF3 (by decide)]; exact b15) (by omega) (fun h9 => by unfold stp at hsp; omega) hT3) md_X3_tryStep q1493 dX3_makes_69 rfl (mPut_o _ _ _) rfl rfl ⟨rfl, rfl, by decide, by decide⟩ rfl (Nat.le_of_ble_eq_true rfl) (by decide) (by decide) (fun r1 na1 h1 hp1 => ?_)
          obtain ⟨rfl, M4, rfl, hO4⟩ := hp1
          rw [tstep_fr hF3] at hO4
          rcases ho : tstep M (mN M 1) (mA M 29 (300 * z + k)) T with _ | T2 <;> rw [ho] at hO4
          · skip
            obtain ⟨hF4, er⟩ := hO4
            have er : r1 = nI 0 := er
            subst er
            refine n_if_neN hC (tgt := 77) dX3_makes_72 (by decide) (by omega) (fun c_72 => absurd c_72 (by decide)) (fun c_72 => ?_)
            refine n_iconst hC (v := nI 0) dX3_makes_75 (by decide) ?_
            exact n_zret hC dX3_makes_76 rfl (by decide) (by decide) (⟨rfl, _, rfl, mFr.cmp (fun _ z => z) (fun _ z => z) hF3 hF4, by rw [mMakes_n (k := k + 1) (by rw [mFs_len]; omega) (mkSq_1 hrun (show mkEl (mFs M z) av sv k = [(mFs M z).getD k 0] by unfold mkEl; rw [if_neg (fun z => c_36 z.1), if_neg (fun z => c_36 z.1)]; exact if_neg (fun z => c_36 z.1)) (trun_1 (by rw [hg]; exact ho)))]; rfl⟩)
          · skip
            obtain ⟨hF4, er, hT4⟩ := hO4
            have er : r1 = nI 1 := er
            subst er
            refine n_if_neN hC (tgt := 77) dX3_makes_72 (by decide) (by omega) (fun c_72 => ?_) (fun c_72 => absurd c_72 (by decide))
            refine n_iload hC dX3_makes_77 rfl ?_
            refine n_iload_n hC dX3_makes_79 rfl ?_
            refine n_icmp_ne hC (tgt := 99) dX3_makes_80 (by decide) (fun c_80 => ?_) (fun c_80 => (absurd c_80 c_36))
            refine n_iincN hC dX3_makes_99 (j := 1) (c := k + 1) rfl (by decide) rfl ?_
            refine n_goto hC (tgt := 7) dX3_makes_102 (by decide) ?_
            exact WN.forget (L' := [some (.ref (na 61)), some (.int (nI z)), some (.int av), some (.int sv), some (.int (nI (k + 1))), none]) (⟨Or.inr rfl, Or.inr rfl, Or.inr rfl, Or.inr rfl, Or.inr rfl, Or.inl rfl, trivial⟩) (ih7 _ (by omega) (k + 1) T2 M4 rfl (by omega) (mFr.cmp (fun _ z => z) (fun _ z => z) hF3 hF4) hT4 (mkSq_1 hrun (show mkEl (mFs M z) av sv k = [(mFs M z).getD k 0] by unfold mkEl; rw [if_neg (fun z => c_36 z.1), if_neg (fun z => c_36 z.1)]; exact if_neg (fun z => c_36 z.1)) (trun_1 (by rw [hg]; exact ho))))
        · skip
          have c_36 : nI k = av := c_36
          refine n_iload_n hC dX3_makes_39 rfl ?_
          refine n_if_ne hC (tgt := 46) dX3_makes_40 (by decide) (fun c_40 => ?_) (fun c_40 => ?_)
          · skip
            refine n_aload_n hC dX3_makes_46 rfl ?_
            refine n_iload hC dX3_makes_47 rfl ?_
            refine n_iload_n hC dX3_makes_49 rfl ?_
            refine n_icmp_ne hC (tgt := 67) dX3_makes_50 (by decide) (fun c_50 => (absurd c_36 c_50)) (fun c_50 => ?_)
            refine n_iload_n hC dX3_makes_53 rfl ?_
            refine n_iconst hC (v := nI 1) dX3_makes_54 (by decide) ?_
            refine n_icmp_ne hC (tgt := 67) dX3_makes_55 (by decide) (fun c_55 => ?_) (fun c_55 => ?_)
            · skip
              refine n_iload hC dX3_makes_67 rfl ?_
              refine n_callV1z hC (mt_X3_tryStep na h (M3) (n := mN M 1) (s := mA M 29 (300 * z + k)) (T := T) ((congrFun (hF3 1 (by decide)) 0).trans h1) hn3 b1 ((congrFun (hF3 15 (by decide)) 0).trans (by rw [mN_fr hF3 (by decide)]; exact h15)) (by rw [mN_fr hF3 (by decide)]; exact b15) (by omega) (fun h9 => by unfold stp at hsp; omega) hT3) md_X3_tryStep q1493 dX3_makes_69 rfl (mPut_o _ _ _) rfl rfl ⟨rfl, rfl, by decide, by decide⟩ rfl (Nat.le_of_ble_eq_true rfl) (by decide) (by decide) (fun r2 na2 h2 hp2 => ?_)
              obtain ⟨rfl, M4, rfl, hO4⟩ := hp2
              rw [tstep_fr hF3] at hO4
              rcases ho : tstep M (mN M 1) (mA M 29 (300 * z + k)) T with _ | T2 <;> rw [ho] at hO4
              · skip
                obtain ⟨hF4, er⟩ := hO4
                have er : r2 = nI 0 := er
                subst er
                refine n_if_neN hC (tgt := 77) dX3_makes_72 (by decide) (by omega) (fun c_72 => absurd c_72 (by decide)) (fun c_72 => ?_)
                refine n_iconst hC (v := nI 0) dX3_makes_75 (by decide) ?_
                exact n_zret hC dX3_makes_76 rfl (by decide) (by decide) (⟨rfl, _, rfl, mFr.cmp (fun _ z => z) (fun _ z => z) hF3 hF4, by rw [mMakes_n (k := k + 1) (by rw [mFs_len]; omega) (mkSq_f hrun c_40 c_55 hg ho)]; rfl⟩)
              · skip
                obtain ⟨hF4, er, hT4⟩ := hO4
                have er : r2 = nI 1 := er
                subst er
                refine n_if_neN hC (tgt := 77) dX3_makes_72 (by decide) (by omega) (fun c_72 => ?_) (fun c_72 => absurd c_72 (by decide))
                refine n_iload hC dX3_makes_77 rfl ?_
                refine n_iload_n hC dX3_makes_79 rfl ?_
                refine n_icmp_ne hC (tgt := 99) dX3_makes_80 (by decide) (fun c_80 => (absurd c_36 c_80)) (fun c_80 => ?_)
                refine n_iload_n hC dX3_makes_83 rfl ?_
                refine n_iconst hC (v := nI 2) dX3_makes_84 (by decide) ?_
                refine n_icmp_ne hC (tgt := 99) dX3_makes_85 (by decide) (fun c_85 => ?_) (fun c_85 => ?_)
                · skip
                  refine n_iincN hC dX3_makes_99 (j := 1) (c := k + 1) rfl (by decide) rfl ?_
                  refine n_goto hC (tgt := 7) dX3_makes_102 (by decide) ?_
                  exact WN.forget (L' := [some (.ref (na 61)), some (.int (nI z)), some (.int av), some (.int sv), some (.int (nI (k + 1))), none]) (⟨Or.inr rfl, Or.inr rfl, Or.inr rfl, Or.inr rfl, Or.inr rfl, Or.inl rfl, trivial⟩) (ih7 _ (by omega) (k + 1) T2 M4 rfl (by omega) (mFr.cmp (fun _ z => z) (fun _ z => z) hF3 hF4) hT4 (mkSq_1 hrun (show mkEl (mFs M z) av sv k = [(mFs M z).getD k 0] by unfold mkEl; rw [if_neg (fun z => c_40 z.2), if_neg (fun z => c_55 z.2)]; exact if_neg (fun z => c_85 z.2)) (trun_1 (by rw [hg]; exact ho))))
                · skip
                  have c_85 : sv = nI 2 := c_85
                  refine n_aload_n hC dX3_makes_88 rfl ?_
                  refine n_iload hC dX3_makes_89 rfl ?_
                  refine n_callV1z hC (mt_X3_tryStep na h (M4) (n := mN M 1) (s := mA M 29 (300 * z + k)) (T := T2) ((congrFun ((mFr.cmp (fun _ z => z) (fun _ z => z) hF3 hF4) 1 (by decide)) 0).trans h1) hn3 b1 ((congrFun ((mFr.cmp (fun _ z => z) (fun _ z => z) hF3 hF4) 15 (by decide)) 0).trans (by rw [mN_fr (mFr.cmp (fun _ z => z) (fun _ z => z) hF3 hF4) (by decide)]; exact h15)) (by rw [mN_fr (mFr.cmp (fun _ z => z) (fun _ z => z) hF3 hF4) (by decide)]; exact b15) (by omega) (fun h9 => by unfold stp at hsp; omega) hT4) md_X3_tryStep q1493 dX3_makes_91 rfl (mPut_o _ _ _) rfl rfl ⟨rfl, rfl, by decide, by decide⟩ rfl (Nat.le_of_ble_eq_true rfl) (by decide) (by decide) (fun r3 na3 h3 hp3 => ?_)
                  obtain ⟨rfl, M5, rfl, hO5⟩ := hp3
                  rw [tstep_fr (mFr.cmp (fun _ z => z) (fun _ z => z) hF3 hF4)] at hO5
                  rcases ho5 : tstep M (mN M 1) (mA M 29 (300 * z + k)) T2 with _ | T3 <;> rw [ho5] at hO5
                  · skip
                    obtain ⟨hF5, er⟩ := hO5
                    have er : r3 = nI 0 := er
                    subst er
                    refine n_if_neN hC (tgt := 99) dX3_makes_94 (by decide) (by omega) (fun c_94 => absurd c_94 (by decide)) (fun c_94 => ?_)
                    refine n_iconst hC (v := nI 0) dX3_makes_97 (by decide) ?_
                    exact n_zret hC dX3_makes_98 rfl (by decide) (by decide) (⟨rfl, _, rfl, mFr.cmp (fun _ z => z) (fun _ z => z) (mFr.cmp (fun _ z => z) (fun _ z => z) hF3 hF4) hF5, by rw [mMakes_n (k := k + 1) (by rw [mFs_len]; omega) (mkSq_1 hrun (show mkEl (mFs M z) av sv k = [(mFs M z).getD k 0, (mFs M z).getD k 0] by unfold mkEl; rw [if_neg (fun z => c_40 z.2), if_neg (fun z => c_55 z.2)]; exact if_pos ⟨c_36, c_85⟩) (trun_2 (by rw [hg]; exact ho) (by rw [hg]; exact ho5)))]; rfl⟩)
                  · skip
                    obtain ⟨hF5, er, hT5⟩ := hO5
                    have er : r3 = nI 1 := er
                    subst er
                    refine n_if_neN hC (tgt := 99) dX3_makes_94 (by decide) (by omega) (fun c_94 => ?_) (fun c_94 => absurd c_94 (by decide))
                    refine n_iincN hC dX3_makes_99 (j := 1) (c := k + 1) rfl (by decide) rfl ?_
                    refine n_goto hC (tgt := 7) dX3_makes_102 (by decide) ?_
                    exact WN.forget (L' := [some (.ref (na 61)), some (.int (nI z)), some (.int av), some (.int sv), some (.int (nI (k + 1))), none]) (⟨Or.inr rfl, Or.inr rfl, Or.inr rfl, Or.inr rfl, Or.inr rfl, Or.inl rfl, trivial⟩) (ih7 _ (by omega) (k + 1) T3 M5 rfl (by omega) (mFr.cmp (fun _ z => z) (fun _ z => z) (mFr.cmp (fun _ z => z) (fun _ z => z) hF3 hF4) hF5) hT5 (mkSq_1 hrun (show mkEl (mFs M z) av sv k = [(mFs M z).getD k 0, (mFs M z).getD k 0] by unfold mkEl; rw [if_neg (fun z => c_40 z.2), if_neg (fun z => c_55 z.2)]; exact if_pos ⟨c_36, c_85⟩) (trun_2 (by rw [hg]; exact ho) (by rw [hg]; exact ho5))))
            · skip
              have c_55 : sv = nI 1 := c_55
              refine n_aload_n hC dX3_makes_58 rfl ?_
              refine n_iload hC dX3_makes_59 rfl ?_
              refine n_callV1i hC (mt_X3_undoing na h (M3) (s := mA M 29 (300 * z + k)) (hs9)) md_X3_undoing q1431 dX3_makes_61 rfl (mPut_o _ _ _) rfl rfl ⟨rfl, rfl, by decide, by decide⟩ rfl (Nat.le_of_ble_eq_true rfl) (by decide) (by decide) (fun r4 na4 h4 hp4 => ?_)
              obtain ⟨rfl, rfl, rfl⟩ := hp4
              refine n_goto hC (tgt := 69) dX3_makes_64 (by decide) ?_
              refine n_callV1z hC (mt_X3_tryStep na h (M3) (n := mN M 1) (s := und (mA M 29 (300 * z + k))) (T := T) ((congrFun (hF3 1 (by decide)) 0).trans h1) hn3 b1 ((congrFun (hF3 15 (by decide)) 0).trans (by rw [mN_fr hF3 (by decide)]; exact h15)) (by rw [mN_fr hF3 (by decide)]; exact b15) (by omega) (fun h9 => by have := und_stp hsp; unfold stp at this; omega) hT3) md_X3_tryStep q1493 dX3_makes_69 rfl (mPut_o _ _ _) rfl rfl ⟨rfl, rfl, by decide, by decide⟩ rfl (Nat.le_of_ble_eq_true rfl) (by decide) (by decide) (fun r5 na5 h5 hp5 => ?_)
              obtain ⟨rfl, M4, rfl, hO4⟩ := hp5
              rw [tstep_fr hF3] at hO4
              rcases ho : tstep M (mN M 1) (und (mA M 29 (300 * z + k))) T with _ | T2 <;> rw [ho] at hO4
              · skip
                obtain ⟨hF4, er⟩ := hO4
                have er : r5 = nI 0 := er
                subst er
                refine n_if_neN hC (tgt := 77) dX3_makes_72 (by decide) (by omega) (fun c_72 => absurd c_72 (by decide)) (fun c_72 => ?_)
                refine n_iconst hC (v := nI 0) dX3_makes_75 (by decide) ?_
                exact n_zret hC dX3_makes_76 rfl (by decide) (by decide) (⟨rfl, _, rfl, mFr.cmp (fun _ z => z) (fun _ z => z) hF3 hF4, by rw [mMakes_n (k := k + 1) (by rw [mFs_len]; omega) (mkSq_1 hrun (show mkEl (mFs M z) av sv k = [und ((mFs M z).getD k 0)] by unfold mkEl; rw [if_neg (fun z => c_40 z.2)]; exact if_pos ⟨c_36, c_55⟩) (trun_1 (by rw [hg]; exact ho)))]; rfl⟩)
              · skip
                obtain ⟨hF4, er, hT4⟩ := hO4
                have er : r5 = nI 1 := er
                subst er
                refine n_if_neN hC (tgt := 77) dX3_makes_72 (by decide) (by omega) (fun c_72 => ?_) (fun c_72 => absurd c_72 (by decide))
                refine n_iload hC dX3_makes_77 rfl ?_
                refine n_iload_n hC dX3_makes_79 rfl ?_
                refine n_icmp_ne hC (tgt := 99) dX3_makes_80 (by decide) (fun c_80 => (absurd c_36 c_80)) (fun c_80 => ?_)
                refine n_iload_n hC dX3_makes_83 rfl ?_
                refine n_iconst hC (v := nI 2) dX3_makes_84 (by decide) ?_
                refine n_icmp_ne hC (tgt := 99) dX3_makes_85 (by decide) (fun c_85 => ?_) (fun c_85 => (absurd (c_85.symm.trans c_55) (by decide)))
                refine n_iincN hC dX3_makes_99 (j := 1) (c := k + 1) rfl (by decide) rfl ?_
                refine n_goto hC (tgt := 7) dX3_makes_102 (by decide) ?_
                exact WN.forget (L' := [some (.ref (na 61)), some (.int (nI z)), some (.int av), some (.int sv), some (.int (nI (k + 1))), none]) (⟨Or.inr rfl, Or.inr rfl, Or.inr rfl, Or.inr rfl, Or.inr rfl, Or.inl rfl, trivial⟩) (ih7 _ (by omega) (k + 1) T2 M4 rfl (by omega) (mFr.cmp (fun _ z => z) (fun _ z => z) hF3 hF4) hT4 (mkSq_1 hrun (show mkEl (mFs M z) av sv k = [und ((mFs M z).getD k 0)] by unfold mkEl; rw [if_neg (fun z => c_40 z.2)]; exact if_pos ⟨c_36, c_55⟩) (trun_1 (by rw [hg]; exact ho))))
          · skip
            have c_40 : sv = nI 0 := c_40
            refine n_goto hC (tgt := 99) dX3_makes_43 (by decide) ?_
            refine n_iincN hC dX3_makes_99 (j := 1) (c := k + 1) rfl (by decide) rfl ?_
            refine n_goto hC (tgt := 7) dX3_makes_102 (by decide) ?_
            exact WN.forget (L' := [some (.ref (na 61)), some (.int (nI z)), some (.int av), some (.int sv), some (.int (nI (k + 1))), none]) (⟨Or.inr rfl, Or.inr rfl, Or.inr rfl, Or.inr rfl, Or.inr rfl, Or.inl rfl, trivial⟩) (ih7 _ (by omega) (k + 1) T M3 rfl (by omega) hF3 hT3 (mkSq_1 hrun (show mkEl (mFs M z) av sv k = [] by unfold mkEl; exact if_pos ⟨c_36, c_40⟩) (rfl)))
  exact WN.forget (L' := [some (.ref (na 61)), some (.int (nI z)), some (.int av), some (.int sv), some (.int (nI 0)), none]) (⟨Or.inr rfl, Or.inr rfl, Or.inr rfl, Or.inr rfl, Or.inr rfl, Or.inl rfl, trivial⟩) (lp7 _ 0 (T0 M) M2 rfl (by omega) hF2 hT2 rfl)

set_option maxHeartbeats 4000000 in
set_option maxRecDepth 100000 in
theorem mt_X3_right (na : nA) (h : nH) (M : nMem) (hI : mInv M) (f : Int32) : nM yX3_right cX3_right 2 (some .int) (nRm 9 0 0) [.ref (na 61), .int f] na (mPut na h M) (nQi (mOp na h (o_right f M))) 0 0 := by
  refine nM.ofN RX3 rfl (by decide) (by intro v hv; simp only [List.mem_cons, List.not_mem_nil, or_false] at hv; rcases hv with rfl | rfl <;> rfl) (Nat.le_of_ble_eq_true rfl) (fun K hC hnm => ?_)
  show WN K na (mPut na h M) 0 0 (nE K (nQi (mOp na h (o_right f M))) 0 0) 0 [some (.ref (na 61)), some (.int f)] []
  let Q9 : State → Prop := nE K (nQi (mOp na h (o_right f M))) 0 0
  show WN K na (mPut na h M) 0 0 Q9 0 [some (.ref (na 61)), some (.int f)] []
  have hI9 := hI
  obtain ⟨⟨h0, b0⟩, ⟨h1, b1a, b1⟩, ⟨h11, b11⟩, ⟨h14, b14⟩, ⟨h15, b15, b15n⟩, ⟨h20, b20⟩, ⟨h26, b26⟩, ⟨h27, b27⟩, ⟨h55, b55⟩, iP, iH, iHi, iHd, iC, iT, iF, iG, iS, iZ⟩ := hI
  refine n_aload_n hC dX3_right_0 rfl ?_
  refine n_iload_n hC dX3_right_1 rfl ?_
  refine n_callV1z hC (mt_X3_isFigure na h (M) (f) (n := mN M 26) h26 (by omega)) md_X3_isFigure q1419 dX3_right_2 rfl (mPut_o _ _ _) rfl rfl ⟨rfl, rfl, by decide, by decide⟩ rfl (Nat.le_of_ble_eq_true rfl) (by decide) (by decide) (fun r0 na0 h0 hp0 => ?_)
  obtain ⟨rfl, rfl, rfl⟩ := hp0
  refine n_if_neB hC (tgt := 10) dX3_right_5 (by decide) (fun c_5 => ?_) (fun c_5 => ?_)
  · skip
    refine n_aload_n hC dX3_right_10 rfl ?_
    refine m_getI hC 11 (v := nbo (mB M 11)) dX3_right_11 rfl rfl (by decide) h11 ?_
    refine n_if_neB hC (tgt := 20) dX3_right_14 (by decide) (fun c_14 => ?_) (fun c_14 => ?_)
    · skip
      obtain ⟨z, hz, ez⟩ := (nin_t (by omega)).mp c_5
      subst ez
      have hzc : (nI z).toNatClampNeg = z := nI_clamp (by omega)
      refine n_aload_n hC dX3_right_20 rfl ?_
      refine n_iload_n hC dX3_right_21 rfl ?_
      refine n_iconst hC (v := (-1)) dX3_right_22 (by decide) ?_
      refine n_iconst hC (v := (-1)) dX3_right_23 (by decide) ?_
      refine n_callV3z hC (mt_X3_makes na h (M) hI9 (z := z) hz c_14 (-1) (-1)) md_X3_makes q1485 dX3_right_24 rfl (mPut_o _ _ _) rfl rfl ⟨rfl, rfl, by decide, by decide⟩ rfl (Nat.le_of_ble_eq_true rfl) (by decide) (by decide) (fun r1 na1 h1 hp1 => ?_)
      obtain ⟨rfl, M2, rfl, hF4, hrM⟩ := hp1
      subst hrM
      refine n_if_eqB hC (tgt := 34) dX3_right_27 (by decide) (fun c_27 => ?_) (fun c_27 => ?_)
      · skip
        refine n_iconst hC (v := nI 0) dX3_right_34 (by decide) ?_
        exact n_iret hC dX3_right_35 (by decide) (by decide) (⟨rfl, by unfold o_right; rw [if_neg (by rw [c_5]; decide), if_neg (by rw [c_14]; decide), hzc, c_27]; rfl, M2, rfl, mEq.fr (by decide) hF4⟩)
      · skip
        refine n_iconst hC (v := nI 1) dX3_right_30 (by decide) ?_
        refine n_goto hC (tgt := 35) dX3_right_31 (by decide) ?_
        exact n_iret hC dX3_right_35 (by decide) (by decide) (⟨rfl, by unfold o_right; rw [if_neg (by rw [c_5]; decide), if_neg (by rw [c_14]; decide), hzc, c_27]; rfl, M2, rfl, mEq.fr (by decide) hF4⟩)
    · skip
      refine n_bipush hC (v := (-3)) dX3_right_17 (by decide) ?_
      exact n_iret hC dX3_right_19 (by decide) (by decide) (⟨rfl, by simp [o_right, c_5, c_14], M, rfl, mEq.of (by simp [o_right, c_5, c_14])⟩)
  · skip
    refine n_iconst hC (v := (-1)) dX3_right_8 (by decide) ?_
    exact n_iret hC dX3_right_9 (by decide) (by decide) (⟨rfl, by simp [o_right, c_5], M, rfl, mEq.of (by simp [o_right, c_5])⟩)

theorem slw_n {P : Nat → Bool} {i : Int32} {u k f : Nat} (h : P k = false) : slw P i (u + 1) k f = slw P i u (k + 1) f := by
  conv => lhs; unfold slw
  rw [if_neg (by rw [h]; decide)]
theorem slw_y {P : Nat → Bool} {i : Int32} {u k f : Nat} (h : P k = true) (hi : ¬ nI f = i) : slw P i (u + 1) k f = slw P i u (k + 1) (f + 1) := by
  conv => lhs; unfold slw
  rw [if_pos h, if_neg hi]
theorem slw_r {P : Nat → Bool} {i : Int32} {u k f : Nat} (h : P k = true) (hi : nI f = i) : slw P i (u + 1) k f = nI (10 * (k / 3) + k % 3) := by
  unfold slw
  rw [if_pos h, if_pos hi]
set_option maxHeartbeats 4000000 in
set_option maxRecDepth 100000 in
theorem mt_X3_slips (na : nA) (h : nH) (M : nMem) (hI : mInv M) (f i : Int32) : nM yX3_slips cX3_slips 5 (some .int) (nRm 9 0 0) [.ref (na 61), .int f, .int i] na (mPut na h M) (nQi (mOp na h (o_slips f i M))) 0 0 := by
  refine nM.ofN RX3 rfl (by decide) (by intro v hv; simp only [List.mem_cons, List.not_mem_nil, or_false] at hv; rcases hv with rfl | rfl | rfl <;> rfl) (Nat.le_of_ble_eq_true rfl) (fun K hC hnm => ?_)
  show WN K na (mPut na h M) 0 0 (nE K (nQi (mOp na h (o_slips f i M))) 0 0) 0 [some (.ref (na 61)), some (.int f), some (.int i), none, none] []
  let Q9 : State → Prop := nE K (nQi (mOp na h (o_slips f i M))) 0 0
  show WN K na (mPut na h M) 0 0 Q9 0 [some (.ref (na 61)), some (.int f), some (.int i), none, none] []
  have hI9 := hI
  obtain ⟨⟨h0, b0⟩, ⟨h1, b1a, b1⟩, ⟨h11, b11⟩, ⟨h14, b14⟩, ⟨h15, b15, b15n⟩, ⟨h20, b20⟩, ⟨h26, b26⟩, ⟨h27, b27⟩, ⟨h55, b55⟩, iP, iH, iHi, iHd, iC, iT, iF, iG, iS, iZ⟩ := hI
  refine n_aload_n hC dX3_slips_0 rfl ?_
  refine n_iload_n hC dX3_slips_1 rfl ?_
  refine n_callV1z hC (mt_X3_isFigure na h (M) (f) (n := mN M 26) h26 (by omega)) md_X3_isFigure q1419 dX3_slips_2 rfl (mPut_o _ _ _) rfl rfl ⟨rfl, rfl, by decide, by decide⟩ rfl (Nat.le_of_ble_eq_true rfl) (by decide) (by decide) (fun r0 na0 h0 hp0 => ?_)
  obtain ⟨rfl, rfl, rfl⟩ := hp0
  refine n_if_eqB hC (tgt := 13) dX3_slips_5 (by decide) (fun c_5 => ?_) (fun c_5 => ?_)
  · skip
    refine n_iconst hC (v := (-1)) dX3_slips_13 (by decide) ?_
    exact n_iret hC dX3_slips_14 (by decide) (by decide) (⟨rfl, by unfold o_slips; rw [if_pos (Or.inl c_5)], M, rfl, mEq.rf⟩)
  · skip
    refine n_iload_n hC dX3_slips_8 rfl ?_
    refine n_iconst hC (v := (-1)) dX3_slips_9 (by decide) ?_
    refine n_icmp_ge hC (tgt := 15) dX3_slips_10 (by decide) (fun c_10 => ?_) (fun c_10 => ?_)
    · skip
      have hfi : ¬ (nin f (mN M 26) = false ∨ i < -1) := by rintro (z | z); rw [c_5] at z; cases z; exact Int32.not_lt.mpr c_10 z
      refine n_aload_n hC dX3_slips_15 rfl ?_
      refine m_getI hC 11 (v := nbo (mB M 11)) dX3_slips_16 rfl rfl (by decide) h11 ?_
      refine n_if_neB hC (tgt := 25) dX3_slips_19 (by decide) (fun c_19 => ?_) (fun c_19 => ?_)
      · skip
        obtain ⟨z, hz, ez⟩ := (nin_t (by omega)).mp c_5
        subst ez
        have hzc : (nI z).toNatClampNeg = z := nI_clamp (by omega)
        have hmz := (iF z hz).2
        refine n_iconst hC (v := nI 0) dX3_slips_25 (by decide) ?_
        refine n_istore_n hC dX3_slips_26 (Nat.le_of_ble_eq_true rfl) ?_
        refine n_iconst hC (v := nI 0) dX3_slips_27 (by decide) ?_
        refine n_istore hC dX3_slips_28 (Nat.le_of_ble_eq_true rfl) ?_
        have lp30 : ∀ d9 : Nat, ∀ (k : Nat) (f : Nat) (M3 : nMem), 3 * mA M 28 z - k = d9 → (k ≤ 3 * mA M 28 z) → (f ≤ k) → (mFr [39, 40, 41, 42, 43] M M3) → (slw (fun k => mMakes M (mFs M z) (nI (k / 3)) (nI (k % 3))) i (3 * mA M 28 z - k) k f = slw (fun k => mMakes M (mFs M z) (nI (k / 3)) (nI (k % 3))) i (3 * mA M 28 z) 0 0) → WN K na (mPut na h M3) 0 0 Q9 30 [some (.ref (na 61)), some (.int (nI z)), some (.int i), some (.int (nI f)), some (.int (nI k))] [] := by
          intro d9
          induction d9 using Nat.strongRecOn with
          | _ d9 ih30 =>
            intro k f M3 hd30 hk hf hF3 hw
            refine n_iload hC dX3_slips_30 rfl ?_
            refine n_iconst hC (v := nI 3) dX3_slips_32 (by decide) ?_
            refine n_aload_n hC dX3_slips_33 rfl ?_
            refine m_getA hC 28 dX3_slips_34 rfl rfl ?_
            refine n_iload_n hC dX3_slips_37 rfl ?_
            refine m_aldN hC 28 (v := nI (mA M 28 z)) dX3_slips_38 rfl rfl (by have h9 : mLen 28 = 11 := rfl; omega) ((congrFun (hF3 28 (by decide)) z).trans (iF z hz).1) ?_
            refine n_imulN hC dX3_slips_39 rfl ?_
            refine n_icmp_geN hC (tgt := 89) dX3_slips_40 (by decide) (by omega) (by omega) (fun c_40 => ?_) (fun c_40 => ?_)
            · skip
              refine n_iload_n hC dX3_slips_89 rfl ?_
              refine n_iconst hC (v := (-1)) dX3_slips_90 (by decide) ?_
              refine n_icmp_ne hC (tgt := 98) dX3_slips_91 (by decide) (fun c_91 => ?_) (fun c_91 => ?_)
              · skip
                refine n_iconst hC (v := (-1)) dX3_slips_98 (by decide) ?_
                exact n_iret hC dX3_slips_99 (by decide) (by decide) (⟨rfl, by unfold o_slips; rw [if_neg hfi, if_neg (by rw [c_19]; decide), hzc]; dsimp only; rw [← hw, show 3 * mA M 28 z - k = 0 by omega]; exact if_neg c_91, M3, rfl, mEq.fr (by decide) hF3⟩)
              · skip
                refine n_iload_n hC dX3_slips_94 rfl ?_
                refine n_goto hC (tgt := 99) dX3_slips_95 (by decide) ?_
                exact n_iret hC dX3_slips_99 (by decide) (by decide) (⟨rfl, by unfold o_slips; rw [if_neg hfi, if_neg (by rw [c_19]; decide), hzc]; dsimp only; rw [← hw, show 3 * mA M 28 z - k = 0 by omega]; exact if_pos c_91, M3, rfl, mEq.fr (by decide) hF3⟩)
            · skip
              refine n_aload_n hC dX3_slips_43 rfl ?_
              refine n_iload_n hC dX3_slips_44 rfl ?_
              refine n_iload hC dX3_slips_45 rfl ?_
              refine n_iconst hC (v := nI 3) dX3_slips_47 (by decide) ?_
              refine n_idivN hC dX3_slips_48 (by omega) (by omega) (by omega) rfl ?_
              refine n_iload hC dX3_slips_49 rfl ?_
              refine n_iconst hC (v := nI 3) dX3_slips_51 (by decide) ?_
              refine n_iremN hC dX3_slips_52 (by omega) (by omega) (by omega) rfl ?_
              refine n_callV3z hC (mt_X3_makes na h (M3) (mInv_eq (mEq.symm (mEq.fr (by decide) hF3)) hI9) (z := z) (by rw [mN_fr hF3 (by decide)]; exact hz) (by rw [← c_19]; unfold mB; rw [hF3 11 (by decide)]) (nI (k / 3)) (nI (k % 3))) md_X3_makes q1485 dX3_slips_53 rfl (mPut_o _ _ _) rfl rfl ⟨rfl, rfl, by decide, by decide⟩ rfl (Nat.le_of_ble_eq_true rfl) (by decide) (by decide) (fun r1 na1 h1 hp1 => ?_)
              obtain ⟨rfl, M4, rfl, hF4, hrM⟩ := hp1
              rw [mMakes_fr hF3, mFs_fr hF3 (by decide) (by decide)] at hrM
              subst hrM
              refine n_if_neB hC (tgt := 62) dX3_slips_56 (by decide) (fun c_56 => ?_) (fun c_56 => ?_)
              · skip
                refine n_iload_n hC dX3_slips_62 rfl ?_
                refine n_iload_n hC dX3_slips_63 rfl ?_
                refine n_icmp_ne hC (tgt := 80) dX3_slips_64 (by decide) (fun c_64 => ?_) (fun c_64 => ?_)
                · skip
                  refine n_iincN hC dX3_slips_80 (j := 1) (c := f + 1) rfl (by decide) rfl ?_
                  refine n_iincN hC dX3_slips_83 (j := 1) (c := k + 1) rfl (by decide) rfl ?_
                  refine n_goto hC (tgt := 30) dX3_slips_86 (by decide) ?_
                  exact WN.forget (L' := [some (.ref (na 61)), some (.int (nI z)), some (.int i), some (.int (nI (f + 1))), some (.int (nI (k + 1)))]) (⟨Or.inr rfl, Or.inr rfl, Or.inr rfl, Or.inr rfl, Or.inr rfl, trivial⟩) (ih30 _ (by omega) (k + 1) (f + 1) M4 rfl (by omega) (by omega) (mFr.cmp (fun _ z => z) (fun _ z => z) hF3 hF4) (by rw [← hw, show 3 * mA M 28 z - k = (3 * mA M 28 z - (k + 1)) + 1 by omega]; exact (slw_y c_56 c_64).symm))
                · skip
                  have c_64 : nI f = i := c_64
                  refine n_bipush hC (v := nI 10) dX3_slips_67 (by decide) ?_
                  refine n_iload hC dX3_slips_69 rfl ?_
                  refine n_iconst hC (v := nI 3) dX3_slips_71 (by decide) ?_
                  refine n_idivN hC dX3_slips_72 (by omega) (by omega) (by omega) rfl ?_
                  refine n_imulN hC dX3_slips_73 rfl ?_
                  refine n_iload hC dX3_slips_74 rfl ?_
                  refine n_iconst hC (v := nI 3) dX3_slips_76 (by decide) ?_
                  refine n_iremN hC dX3_slips_77 (by omega) (by omega) (by omega) rfl ?_
                  refine n_iaddN hC dX3_slips_78 rfl ?_
                  exact n_iret hC dX3_slips_79 (by decide) (by decide) (⟨rfl, by unfold o_slips; rw [if_neg hfi, if_neg (by rw [c_19]; decide), hzc]; dsimp only; rw [← hw, show 3 * mA M 28 z - k = (3 * mA M 28 z - (k + 1)) + 1 by omega, slw_r c_56 c_64], M4, rfl, mEq.fr (by decide) (mFr.cmp (fun _ z => z) (fun _ z => z) hF3 hF4)⟩)
              · skip
                refine n_goto hC (tgt := 83) dX3_slips_59 (by decide) ?_
                refine n_iincN hC dX3_slips_83 (j := 1) (c := k + 1) rfl (by decide) rfl ?_
                refine n_goto hC (tgt := 30) dX3_slips_86 (by decide) ?_
                exact WN.forget (L' := [some (.ref (na 61)), some (.int (nI z)), some (.int i), some (.int (nI f)), some (.int (nI (k + 1)))]) (⟨Or.inr rfl, Or.inr rfl, Or.inr rfl, Or.inr rfl, Or.inr rfl, trivial⟩) (ih30 _ (by omega) (k + 1) f M4 rfl (by omega) (by omega) (mFr.cmp (fun _ z => z) (fun _ z => z) hF3 hF4) (by rw [← hw, show 3 * mA M 28 z - k = (3 * mA M 28 z - (k + 1)) + 1 by omega]; exact (slw_n c_56).symm))
        exact WN.forget (L' := [some (.ref (na 61)), some (.int (nI z)), some (.int i), some (.int (nI 0)), some (.int (nI 0))]) (⟨Or.inr rfl, Or.inr rfl, Or.inr rfl, Or.inr rfl, Or.inr rfl, trivial⟩) (lp30 _ 0 0 M rfl (by omega) (by omega) mFr.rf rfl)
      · skip
        refine n_bipush hC (v := (-3)) dX3_slips_22 (by decide) ?_
        exact n_iret hC dX3_slips_24 (by decide) (by decide) (⟨rfl, by unfold o_slips; rw [if_neg hfi, if_pos c_19], M, rfl, mEq.rf⟩)
    · skip
      refine n_iconst hC (v := (-1)) dX3_slips_13 (by decide) ?_
      exact n_iret hC dX3_slips_14 (by decide) (by decide) (⟨rfl, by unfold o_slips; rw [if_pos (Or.inr (Int32.not_le.mp c_10))], M, rfl, mEq.rf⟩)

