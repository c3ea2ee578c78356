/-! ===== THE CLASS: a figure danced, slips ===== -/
set_option maxRecDepth 100000
set_option maxHeartbeats 4000000 in
set_option maxRecDepth 100000 in
theorem xt_X0_dance (na : nA) (h : nH) (C : nMem) (B : Nat → nMem) (P : Nat → Nat × Nat) (I : Nat → Nat) (M : nMem) (hR : xRel (C, B, P, I) M) (hI : mInv M) (f : Int32) : nM yX0_dance cX0_dance 4 (some .int) (nRm 4 0 0) [.ref (na 130), .int f] na (xPut na h (C, B, P, I)) (nQi (xOp na h (o_dance f M))) 0 0 := by
  refine nM.ofN RX0 rfl (by decide) (by intro v hv; simp only [List.mem_cons, List.not_mem_nil, or_false] at hv; rcases hv with rfl | rfl <;> rfl) (Nat.le_of_ble_eq_true rfl) (fun K hC hnm => ?_)
  show WN K na (xPut na h (C, B, P, I)) 0 0 (nE K (nQi (xOp na h (o_dance f M))) 0 0) 0 [some (.ref (na 130)), some (.int f), none, none] []
  let Q9 : State → Prop := nE K (nQi (xOp na h (o_dance f M))) 0 0
  show WN K na (xPut na h (C, B, P, I)) 0 0 Q9 0 [some (.ref (na 130)), some (.int f), none, none] []
  have hI0 := hI
  have hR0 := hR
  obtain ⟨hw, gPe, gRi, gCl, gSt, gTh, gFi, gTx, gTr, gTp, gRd, gOr⟩ := hR
  dsimp only at hw gPe gRi gCl gSt gTh gFi gTx gTr gTp gRd gOr
  obtain ⟨⟨h0, b0⟩, ⟨h1, b1a, b1⟩, ⟨h11, b11⟩, ⟨h14, b14⟩, ⟨h15, b15, b15n⟩, ⟨h20, b20⟩, ⟨h26, b26⟩, ⟨h27, b27⟩, ⟨h55, b55⟩, iP, iH, iHi, iHd, iC, iT, iF, iG, iS, iZ⟩ := hI
  refine n_aload_n hC dX0_dance_0 rfl ?_
  refine n_iload_n hC dX0_dance_1 rfl ?_
  refine n_callV1z hC (ct_X0_isFigure na _ _ _ _ _ (n := mN M 26) (gFi.1.trans h26) (by omega) f) md_X0_isFigure q739 dX0_dance_2 rfl xPut_o rfl rfl ⟨rfl, rfl, by decide, by decide⟩ rfl (Nat.le_of_ble_eq_true rfl) (by decide) (by decide) (fun r0 na0 h0 hp0 => ?_)
  obtain ⟨rfl, rfl, rfl⟩ := hp0
  refine n_if_neB hC (tgt := 10) dX0_dance_5 (by decide) (fun c_5 => ?_) (fun c_5 => ?_)
  · skip
    refine n_aload_n hC dX0_dance_10 rfl ?_
    refine x_getI hC 6 (v := nbo (mB M 11)) q154 dX0_dance_11 rfl (by decide) (by decide) (gRi.2.2.1.trans h11) ?_
    refine n_if_neB hC (tgt := 20) dX0_dance_14 (by decide) (fun c_14 => ?_) (fun c_14 => ?_)
    · skip
      obtain ⟨j, hj, ej⟩ := (nin_t (by omega)).mp c_5
      subst ej
      have hjc : (nI j).toNatClampNeg = j := nI_clamp (by omega)
      obtain ⟨f1, f2, f3, f4, f5⟩ := xr_fig gFi hj
      have fl9 := (iF j hj).2
      have hn3 := b11 c_14
      refine n_aload_n hC dX0_dance_20 rfl ?_
      refine x_getA hC 13 q161 dX0_dance_21 rfl (by decide) (by decide) ?_
      refine n_iload_n hC dX0_dance_24 rfl ?_
      refine x_fig hC dX0_dance_25 rfl (by omega) f1 ?_
      refine n_astore_n hC dX0_dance_26 (Nat.le_of_ble_eq_true rfl) ?_
      refine n_iconst hC (v := nI 0) dX0_dance_27 (by decide) ?_
      refine n_istore_n hC dX0_dance_28 (Nat.le_of_ble_eq_true rfl) ?_
      have lp29 : ∀ d9 : Nat, ∀ (k : Nat) (C2 : nMem) (B2 : Nat → nMem) (M2 : nMem), mA M 28 j - k = d9 → (k ≤ mA M 28 j) → (xRel (C2, B2, P, I) M2) → (mInv M2) → (mFr [5, 6, 8, 14, 15, 16, 17, 18, 19] M M2) → ((k + (dnc ((mFs M j).drop k) M2).1, (dnc ((mFs M j).drop k) M2).2) = dnc (mFs M j) M) → WN K na (xPut na h (C2, B2, P, I)) 0 0 Q9 29 [some (.ref (na 130)), some (.int (nI j)), some (.ref (na (bB (I (100 + j)) + 9))), some (.int (nI k))] [] := by
        intro d9
        induction d9 using Nat.strongRecOn with
        | _ d9 ih29 =>
          intro k C2 B2 M2 hd29 hk hR2 hI2 hFM hd
          obtain ⟨-, -, u3, -, -, -, u7, -⟩ := id hR2
          dsimp only at u3 u7
          have z1 : mN M2 1 = mN M 1 := mN_fr hFM (by decide)
          have q2 : C2 2 0 = nI (mN M 1) := by rw [u3.1, hFM 1 (by decide)]; exact h1
          obtain ⟨v1, v2, v3, -, v5⟩ := xr_fig u7 (f := j) (by rw [mN_fr hFM (by decide)]; exact hj)
          rw [mA_fr hFM (by decide)] at v3 v5
          have v6 : ∀ k, k < mA M 28 j → B2 (I (100 + j)) 0 k = nI (mA M 29 (300 * j + k)) := fun k hk => (v5 k hk).trans (by rw [mA_fr hFM (by decide)])
          refine n_iload_n hC dX0_dance_29 rfl ?_
          refine n_aload_n hC dX0_dance_30 rfl ?_
          refine o_getIN hC gW_X12 (xBlk_o (na := na) (h := h) (X := (C2, B2, P, I)) (i := (I (100 + j))) (c := (3, 0)) v2 ⟨by decide, by decide⟩) (host := "MaypoleGreen") 1 (v := nI (mA M 28 j)) (by decide) dX0_dance_31 rfl (by decide) (by decide) v3 ?_
          refine n_icmp_geN hC (tgt := 83) dX0_dance_34 (by decide) (by omega) (by omega) (fun c_34 => ?_) (fun c_34 => ?_)
          · skip
            refine n_iload_n hC dX0_dance_83 rfl ?_
            exact n_iret hC dX0_dance_84 (by decide) (by decide) (xOp.mk (M2 := M2) (by simp only [o_dance, c_5, c_14, hjc, Bool.true_eq_false, if_false]; rw [← hd, List.drop_eq_nil_of_le (by rw [mFs_len]; omega)]; rfl) hR2)
          · skip
            obtain ⟨-, hs9⟩ := iG j k hj c_34
            have hs8 := stp_lt hs9
            refine n_aload_n hC dX0_dance_37 rfl ?_
            refine o_getAN hC gW_X12 (xBlk_o (na := na) (h := h) (X := (C2, B2, P, I)) (i := (I (100 + j))) (c := (3, 0)) v2 ⟨by decide, by decide⟩) (host := "MaypoleGreen") 0 (by decide) dX0_dance_38 rfl (by decide) (by decide) ?_
            refine n_iload_n hC dX0_dance_41 rfl ?_
            refine o_aldN hC gW_X12 (xBlk_o (na := na) (h := h) (X := (C2, B2, P, I)) (i := (I (100 + j))) (c := (3, 0)) v2 ⟨by decide, by decide⟩) 0 (v := nI (mA M 29 (300 * j + k))) dX0_dance_42 rfl gI_X12_0 (by show k < 300; omega) (v6 k c_34) ?_
            refine n_bipush hC (v := nI 100) dX0_dance_43 (by decide) ?_
            refine n_icmp_geN hC (tgt := 64) dX0_dance_45 (by decide) (by omega) (by omega) (fun c_45 => ?_) (fun c_45 => ?_)
            · skip
              have hds := ds_st (M := M2) (by omega) hs9 (by omega)
              refine n_aload_n hC dX0_dance_64 rfl ?_
              refine n_aload_n hC dX0_dance_65 rfl ?_
              refine o_getAN hC gW_X12 (xBlk_o (na := na) (h := h) (X := (C2, B2, P, I)) (i := (I (100 + j))) (c := (3, 0)) v2 ⟨by decide, by decide⟩) (host := "MaypoleGreen") 0 (by decide) dX0_dance_66 rfl (by decide) (by decide) ?_
              refine n_iload_n hC dX0_dance_69 rfl ?_
              refine o_aldN hC gW_X12 (xBlk_o (na := na) (h := h) (X := (C2, B2, P, I)) (i := (I (100 + j))) (c := (3, 0)) v2 ⟨by decide, by decide⟩) 0 (v := nI (mA M 29 (300 * j + k))) dX0_dance_70 rfl gI_X12_0 (by show k < 300; omega) (v6 k c_34) ?_
              refine n_callV1i hC (ct_X0_steps na _ _ _ _ _ M2 hR2 hI2 (s := (mA M 29 (300 * j + k))) (by omega) (fun z => ⟨by omega, by unfold stp at hs9; omega⟩)) md_X0_steps q405 dX0_dance_71 rfl xPut_o rfl rfl ⟨rfl, rfl, by decide, by decide⟩ rfl (Nat.le_of_ble_eq_true rfl) (by decide) (by decide) (fun r1 na1 h1 hp1 => ?_)
              obtain ⟨rfl, rfl, C9, B9, rfl, hR9⟩ := hp1
              refine n_if_le hC (tgt := 83) dX0_dance_74 (by decide) (fun c_74 => ?_) (fun c_74 => ?_)
              · skip
                refine n_iload_n hC dX0_dance_83 rfl ?_
                exact n_iret hC dX0_dance_84 (by decide) (by decide) (xOp.mk (M2 := (st_o (mA M 29 (300 * j + k)) M2).2) (by simp only [o_dance, c_5, c_14, hjc, Bool.true_eq_false, if_false]; rw [← hd, drop_cons (by rw [mFs_len]; omega), mFs_get (by omega), dnc_n (show dstep (mA M 29 (300 * j + k)) M2 = ((st_o (mA M 29 (300 * j + k)) M2).1, (st_o (mA M 29 (300 * j + k)) M2).2) from hds) (Int32.not_lt.mpr c_74)]; rfl) hR9)
              · skip
                refine n_iincN hC dX0_dance_77 (j := 1) (c := k + 1) rfl (by decide) rfl ?_
                refine n_goto hC (tgt := 29) dX0_dance_80 (by decide) ?_
                exact WN.forget (L' := [some (.ref (na 130)), some (.int (nI j)), some (.ref (na (bB (I (100 + j)) + 9))), some (.int (nI (k + 1)))]) (⟨Or.inr rfl, Or.inr rfl, Or.inr rfl, Or.inr rfl, trivial⟩) (ih29 _ (by omega) (k + 1) C9 B9 ((st_o (mA M 29 (300 * j + k)) M2).2) rfl (by omega) hR9 (by rw [← hds]; exact inv_dstep hI2 _) (mFr.trans (fun _ h => h) hFM (by rw [← hds]; exact dstep_fr _ _)) (by rw [← hd, drop_cons (l := mFs M j) (k := k) (by rw [mFs_len]; omega), mFs_get (f := j) (k := k) (by omega), dnc_y (show dstep (mA M 29 (300 * j + k)) M2 = ((st_o (mA M 29 (300 * j + k)) M2).1, (st_o (mA M 29 (300 * j + k)) M2).2) from hds) (Int32.not_le.mp c_74)]; exact Prod.ext (by show k + 1 + _ = k + (_ + 1); omega) rfl))
            · skip
              refine n_aload_n hC dX0_dance_48 rfl ?_
              refine o_getAN hC gW_X12 (xBlk_o (na := na) (h := h) (X := (C2, B2, P, I)) (i := (I (100 + j))) (c := (3, 0)) v2 ⟨by decide, by decide⟩) (host := "MaypoleGreen") 0 (by decide) dX0_dance_49 rfl (by decide) (by decide) ?_
              refine n_iload_n hC dX0_dance_52 rfl ?_
              refine o_aldN hC gW_X12 (xBlk_o (na := na) (h := h) (X := (C2, B2, P, I)) (i := (I (100 + j))) (c := (3, 0)) v2 ⟨by decide, by decide⟩) 0 (v := nI (mA M 29 (300 * j + k))) dX0_dance_53 rfl gI_X12_0 (by show k < 300; omega) (v6 k c_34) ?_
              refine n_bipush hC (v := nI 10) dX0_dance_54 (by decide) ?_
              refine n_idivN hC dX0_dance_56 (by omega) (by omega) (by omega) rfl ?_
              refine n_aload_n hC dX0_dance_57 rfl ?_
              refine x_getI hC 2 (v := nI (mN M 1)) q150 dX0_dance_58 rfl (by decide) (by decide) q2 ?_
              refine n_icmp_geN hC (tgt := 83) dX0_dance_61 (by decide) (by omega) (by omega) (fun c_61 => ?_) (fun c_61 => ?_)
              · skip
                refine n_iload_n hC dX0_dance_83 rfl ?_
                exact n_iret hC dX0_dance_84 (by decide) (by decide) (xOp.mk (M2 := M2) (by simp only [o_dance, c_5, c_14, hjc, Bool.true_eq_false, if_false]; rw [← hd, drop_cons (by rw [mFs_len]; omega), mFs_get (by omega), dnc_n (ds_out (M := M2) (by omega) (by omega)) (by decide)]; rfl) hR2)
              · skip
                have hds := ds_st (M := M2) (by omega) hs9 (by omega)
                refine n_aload_n hC dX0_dance_64 rfl ?_
                refine n_aload_n hC dX0_dance_65 rfl ?_
                refine o_getAN hC gW_X12 (xBlk_o (na := na) (h := h) (X := (C2, B2, P, I)) (i := (I (100 + j))) (c := (3, 0)) v2 ⟨by decide, by decide⟩) (host := "MaypoleGreen") 0 (by decide) dX0_dance_66 rfl (by decide) (by decide) ?_
                refine n_iload_n hC dX0_dance_69 rfl ?_
                refine o_aldN hC gW_X12 (xBlk_o (na := na) (h := h) (X := (C2, B2, P, I)) (i := (I (100 + j))) (c := (3, 0)) v2 ⟨by decide, by decide⟩) 0 (v := nI (mA M 29 (300 * j + k))) dX0_dance_70 rfl gI_X12_0 (by show k < 300; omega) (v6 k c_34) ?_
                refine n_callV1i hC (ct_X0_steps na _ _ _ _ _ M2 hR2 hI2 (s := (mA M 29 (300 * j + k))) (by omega) (fun z => ⟨by omega, by unfold stp at hs9; omega⟩)) md_X0_steps q405 dX0_dance_71 rfl xPut_o rfl rfl ⟨rfl, rfl, by decide, by decide⟩ rfl (Nat.le_of_ble_eq_true rfl) (by decide) (by decide) (fun r2 na2 h2 hp2 => ?_)
                obtain ⟨rfl, rfl, C9, B9, rfl, hR9⟩ := hp2
                refine n_if_le hC (tgt := 83) dX0_dance_74 (by decide) (fun c_74 => ?_) (fun c_74 => ?_)
                · skip
                  refine n_iload_n hC dX0_dance_83 rfl ?_
                  exact n_iret hC dX0_dance_84 (by decide) (by decide) (xOp.mk (M2 := (st_o (mA M 29 (300 * j + k)) M2).2) (by simp only [o_dance, c_5, c_14, hjc, Bool.true_eq_false, if_false]; rw [← hd, drop_cons (by rw [mFs_len]; omega), mFs_get (by omega), dnc_n (show dstep (mA M 29 (300 * j + k)) M2 = ((st_o (mA M 29 (300 * j + k)) M2).1, (st_o (mA M 29 (300 * j + k)) M2).2) from hds) (Int32.not_lt.mpr c_74)]; rfl) hR9)
                · skip
                  refine n_iincN hC dX0_dance_77 (j := 1) (c := k + 1) rfl (by decide) rfl ?_
                  refine n_goto hC (tgt := 29) dX0_dance_80 (by decide) ?_
                  exact WN.forget (L' := [some (.ref (na 130)), some (.int (nI j)), some (.ref (na (bB (I (100 + j)) + 9))), some (.int (nI (k + 1)))]) (⟨Or.inr rfl, Or.inr rfl, Or.inr rfl, Or.inr rfl, trivial⟩) (ih29 _ (by omega) (k + 1) C9 B9 ((st_o (mA M 29 (300 * j + k)) M2).2) rfl (by omega) hR9 (by rw [← hds]; exact inv_dstep hI2 _) (mFr.trans (fun _ h => h) hFM (by rw [← hds]; exact dstep_fr _ _)) (by rw [← hd, drop_cons (l := mFs M j) (k := k) (by rw [mFs_len]; omega), mFs_get (f := j) (k := k) (by omega), dnc_y (show dstep (mA M 29 (300 * j + k)) M2 = ((st_o (mA M 29 (300 * j + k)) M2).1, (st_o (mA M 29 (300 * j + k)) M2).2) from hds) (Int32.not_le.mp c_74)]; exact Prod.ext (by show k + 1 + _ = k + (_ + 1); omega) rfl))
      exact WN.forget (L' := [some (.ref (na 130)), some (.int (nI j)), some (.ref (na (bB (I (100 + j)) + 9))), some (.int (nI 0))]) (⟨Or.inr rfl, Or.inr rfl, Or.inr rfl, Or.inr rfl, trivial⟩) (lp29 _ 0 C B M rfl (by omega) hR0 hI0 mFr.rf (by rw [List.drop_zero, Nat.zero_add]))
    · skip
      refine n_bipush hC (v := (-3)) dX0_dance_17 (by decide) ?_
      exact n_iret hC dX0_dance_19 (by decide) (by decide) (xOp.mk (M2 := M) (by simp [o_dance, c_5, c_14]) hR0)
  · skip
    refine n_iconst hC (v := (-1)) dX0_dance_8 (by decide) ?_
    exact n_iret hC dX0_dance_9 (by decide) (by decide) (xOp.mk (M2 := M) (by simp [o_dance, c_5]) hR0)

set_option maxHeartbeats 4000000 in
set_option maxRecDepth 100000 in
theorem ct_X0_isOfBut (na : nA) (h : nH) (C : nMem) (B : Nat → nMem) (P : Nat → Nat × Nat) (I : Nat → Nat) (M : nMem) (hn : C 2 0 = nI (mN M 1)) (b1 : mN M 1 ≤ 9) {j : Nat} (f2 : P (I (100 + j)) = (3, 0)) (f3 : B (I (100 + j)) 1 0 = nI (mA M 28 j)) (f5 : ∀ k, k < mA M 28 j → B (I (100 + j)) 0 k = nI (mA M 29 (300 * j + k))) (fl9 : mA M 28 j ≤ 300) (hst : ∀ k, k < mA M 28 j → stp (mA M 29 (300 * j + k))) (bv : Int32) : nM yX0_isOfBut cX0_isOfBut 5 (some .boolean) (nRm 0 0 0) [.ref (na 130), .ref (na (bB (I (100 + j)) + 9)), .int bv] na (xPut na h (C, B, P, I)) (nQi (hPure na (xPut na h (C, B, P, I)) (nbo (allb (mA M 28 j) (fun k => decide (nI k = bv) || (decide (100 ≤ mA M 29 (300 * j + k)) || decide (mA M 29 (300 * j + k) / 10 < mN M 1))))))) 0 0 := by
  refine nM.ofN RX0 rfl (by decide) (by intro v hv; simp only [List.mem_cons, List.not_mem_nil, or_false] at hv; rcases hv with rfl | rfl | rfl <;> rfl) (Nat.le_of_ble_eq_true rfl) (fun K hC hnm => ?_)
  show WN K na (xPut na h (C, B, P, I)) 0 0 (nE K (nQi (hPure na (xPut na h (C, B, P, I)) (nbo (allb (mA M 28 j) (fun k => decide (nI k = bv) || (decide (100 ≤ mA M 29 (300 * j + k)) || decide (mA M 29 (300 * j + k) / 10 < mN M 1))))))) 0 0) 0 [some (.ref (na 130)), some (.ref (na (bB (I (100 + j)) + 9))), some (.int bv), none, none] []
  let Q9 : State → Prop := nE K (nQi (hPure na (xPut na h (C, B, P, I)) (nbo (allb (mA M 28 j) (fun k => decide (nI k = bv) || (decide (100 ≤ mA M 29 (300 * j + k)) || decide (mA M 29 (300 * j + k) / 10 < mN M 1))))))) 0 0
  show WN K na (xPut na h (C, B, P, I)) 0 0 Q9 0 [some (.ref (na 130)), some (.ref (na (bB (I (100 + j)) + 9))), some (.int bv), none, none] []
  refine n_iconst hC (v := nbo true) dX0_isOfBut_0 (by decide) ?_
  refine n_istore_n hC dX0_isOfBut_1 (Nat.le_of_ble_eq_true rfl) ?_
  refine n_iconst hC (v := nI 0) dX0_isOfBut_2 (by decide) ?_
  refine n_istore hC dX0_isOfBut_3 (Nat.le_of_ble_eq_true rfl) ?_
  have lp5 : ∀ d9 : Nat, ∀ (p : Nat) (g : Bool), mA M 28 j - p = d9 → (p ≤ mA M 28 j) → (allb p (fun k => decide (nI k = bv) || (decide (100 ≤ mA M 29 (300 * j + k)) || decide (mA M 29 (300 * j + k) / 10 < mN M 1))) = g) → WN K na (xPut na h (C, B, P, I)) 0 0 Q9 5 [some (.ref (na 130)), some (.ref (na (bB (I (100 + j)) + 9))), some (.int bv), some (.int (nbo g)), some (.int (nI p))] [] := by
    intro d9
    induction d9 using Nat.strongRecOn with
    | _ d9 ih5 =>
      intro p g hd5 hp hg
      refine n_iload hC dX0_isOfBut_5 rfl ?_
      refine n_aload_n hC dX0_isOfBut_7 rfl ?_
      refine o_getIN hC gW_X12 (xBlk_o (na := na) (h := h) (X := (C, B, P, I)) (i := (I (100 + j))) (c := (3, 0)) f2 ⟨by decide, by decide⟩) (host := "MaypoleGreen") 1 (v := nI (mA M 28 j)) (by decide) dX0_isOfBut_8 rfl (by decide) (by decide) f3 ?_
      refine n_icmp_geN hC (tgt := 65) dX0_isOfBut_11 (by decide) (by omega) (by omega) (fun c_11 => ?_) (fun c_11 => ?_)
      · skip
        have hgN : allb (mA M 28 j) (fun k => decide (nI k = bv) || (decide (100 ≤ mA M 29 (300 * j + k)) || decide (mA M 29 (300 * j + k) / 10 < mN M 1))) = g := by rw [← hg, show p = mA M 28 j by omega]
        refine n_iload_n hC dX0_isOfBut_65 rfl ?_
        exact n_zret hC dX0_isOfBut_66 (nbo_nar _) (by decide) (by decide) (⟨by rw [hgN], rfl, rfl⟩)
      · skip
        have hs8 := stp_lt (hst p (by omega))
        refine n_iload_n hC dX0_isOfBut_14 rfl ?_
        refine n_if_eqB hC (tgt := 65) dX0_isOfBut_15 (by decide) (fun c_15 => ?_) (fun c_15 => ?_)
        · skip
          have hgN : allb (mA M 28 j) (fun k => decide (nI k = bv) || (decide (100 ≤ mA M 29 (300 * j + k)) || decide (mA M 29 (300 * j + k) / 10 < mN M 1))) = g := by
            rw [c_15] at hg ⊢
            cases z : allb (mA M 28 j) (fun k => decide (nI k = bv) || (decide (100 ≤ mA M 29 (300 * j + k)) || decide (mA M 29 (300 * j + k) / 10 < mN M 1))) with
            | false => rfl
            | true => rw [allb_mono (show p ≤ mA M 28 j by omega) z] at hg; cases hg
          refine n_iload_n hC dX0_isOfBut_65 rfl ?_
          exact n_zret hC dX0_isOfBut_66 (nbo_nar _) (by decide) (by decide) (⟨by rw [hgN], rfl, rfl⟩)
        · skip
          refine n_iload hC dX0_isOfBut_18 rfl ?_
          refine n_iload_n hC dX0_isOfBut_20 rfl ?_
          refine n_icmp_eq hC (tgt := 53) dX0_isOfBut_21 (by decide) (fun c_21 => ?_) (fun c_21 => ?_)
          · skip
            refine n_iconst hC (v := nbo true) dX0_isOfBut_53 (by decide) ?_
            refine n_goto hC (tgt := 58) dX0_isOfBut_54 (by decide) ?_
            refine n_istore_n hC dX0_isOfBut_58 (Nat.le_of_ble_eq_true rfl) ?_
            refine n_iincN hC dX0_isOfBut_59 (j := 1) (c := p + 1) rfl (by decide) rfl ?_
            refine n_goto hC (tgt := 5) dX0_isOfBut_62 (by decide) ?_
            exact WN.forget (L' := [some (.ref (na 130)), some (.ref (na (bB (I (100 + j)) + 9))), some (.int bv), some (.int (nbo true)), some (.int (nI (p + 1)))]) (⟨Or.inr rfl, Or.inr rfl, Or.inr rfl, Or.inr rfl, Or.inr rfl, trivial⟩) (ih5 _ (by omega) (p + 1) true rfl (by omega) (by show (allb p _ && (decide _ || (decide _ || decide _))) = true; rw [hg, c_15, decide_eq_true c_21]; rfl))
          · skip
            refine n_aload_n hC dX0_isOfBut_24 rfl ?_
            refine o_getAN hC gW_X12 (xBlk_o (na := na) (h := h) (X := (C, B, P, I)) (i := (I (100 + j))) (c := (3, 0)) f2 ⟨by decide, by decide⟩) (host := "MaypoleGreen") 0 (by decide) dX0_isOfBut_25 rfl (by decide) (by decide) ?_
            refine n_iload hC dX0_isOfBut_28 rfl ?_
            refine o_aldN hC gW_X12 (xBlk_o (na := na) (h := h) (X := (C, B, P, I)) (i := (I (100 + j))) (c := (3, 0)) f2 ⟨by decide, by decide⟩) 0 (v := nI (mA M 29 (300 * j + p))) dX0_isOfBut_30 rfl gI_X12_0 (by show p < 300; omega) (f5 p (by omega)) ?_
            refine n_bipush hC (v := nI 100) dX0_isOfBut_31 (by decide) ?_
            refine n_icmp_geN hC (tgt := 53) dX0_isOfBut_33 (by decide) (by omega) (by omega) (fun c_33 => ?_) (fun c_33 => ?_)
            · skip
              refine n_iconst hC (v := nbo true) dX0_isOfBut_53 (by decide) ?_
              refine n_goto hC (tgt := 58) dX0_isOfBut_54 (by decide) ?_
              refine n_istore_n hC dX0_isOfBut_58 (Nat.le_of_ble_eq_true rfl) ?_
              refine n_iincN hC dX0_isOfBut_59 (j := 1) (c := p + 1) rfl (by decide) rfl ?_
              refine n_goto hC (tgt := 5) dX0_isOfBut_62 (by decide) ?_
              exact WN.forget (L' := [some (.ref (na 130)), some (.ref (na (bB (I (100 + j)) + 9))), some (.int bv), some (.int (nbo true)), some (.int (nI (p + 1)))]) (⟨Or.inr rfl, Or.inr rfl, Or.inr rfl, Or.inr rfl, Or.inr rfl, trivial⟩) (ih5 _ (by omega) (p + 1) true rfl (by omega) (by show (allb p _ && (decide _ || (decide _ || decide _))) = true; rw [hg, c_15, decide_eq_true c_33, Bool.true_or, Bool.or_true]; rfl))
            · skip
              refine n_aload_n hC dX0_isOfBut_36 rfl ?_
              refine o_getAN hC gW_X12 (xBlk_o (na := na) (h := h) (X := (C, B, P, I)) (i := (I (100 + j))) (c := (3, 0)) f2 ⟨by decide, by decide⟩) (host := "MaypoleGreen") 0 (by decide) dX0_isOfBut_37 rfl (by decide) (by decide) ?_
              refine n_iload hC dX0_isOfBut_40 rfl ?_
              refine o_aldN hC gW_X12 (xBlk_o (na := na) (h := h) (X := (C, B, P, I)) (i := (I (100 + j))) (c := (3, 0)) f2 ⟨by decide, by decide⟩) 0 (v := nI (mA M 29 (300 * j + p))) dX0_isOfBut_42 rfl gI_X12_0 (by show p < 300; omega) (f5 p (by omega)) ?_
              refine n_bipush hC (v := nI 10) dX0_isOfBut_43 (by decide) ?_
              refine n_idivN hC dX0_isOfBut_45 (by omega) (by omega) (by omega) rfl ?_
              refine n_aload_n hC dX0_isOfBut_46 rfl ?_
              refine x_getI hC 2 (v := nI (mN M 1)) q150 dX0_isOfBut_47 rfl (by decide) (by decide) hn ?_
              refine n_icmp_geN hC (tgt := 57) dX0_isOfBut_50 (by decide) (by omega) (by omega) (fun c_50 => ?_) (fun c_50 => ?_)
              · skip
                refine n_iconst hC (v := nbo false) dX0_isOfBut_57 (by decide) ?_
                refine n_istore_n hC dX0_isOfBut_58 (Nat.le_of_ble_eq_true rfl) ?_
                refine n_iincN hC dX0_isOfBut_59 (j := 1) (c := p + 1) rfl (by decide) rfl ?_
                refine n_goto hC (tgt := 5) dX0_isOfBut_62 (by decide) ?_
                exact WN.forget (L' := [some (.ref (na 130)), some (.ref (na (bB (I (100 + j)) + 9))), some (.int bv), some (.int (nbo false)), some (.int (nI (p + 1)))]) (⟨Or.inr rfl, Or.inr rfl, Or.inr rfl, Or.inr rfl, Or.inr rfl, trivial⟩) (ih5 _ (by omega) (p + 1) false rfl (by omega) (by show (allb p _ && (decide _ || (decide _ || decide _))) = false; rw [hg, c_15, decide_eq_false c_21, decide_eq_false (show ¬ 100 ≤ (mA M 29 (300 * j + p)) by omega), decide_eq_false (show ¬ (mA M 29 (300 * j + p)) / 10 < mN M 1 by omega)]; rfl))
              · skip
                refine n_iconst hC (v := nbo true) dX0_isOfBut_53 (by decide) ?_
                refine n_goto hC (tgt := 58) dX0_isOfBut_54 (by decide) ?_
                refine n_istore_n hC dX0_isOfBut_58 (Nat.le_of_ble_eq_true rfl) ?_
                refine n_iincN hC dX0_isOfBut_59 (j := 1) (c := p + 1) rfl (by decide) rfl ?_
                refine n_goto hC (tgt := 5) dX0_isOfBut_62 (by decide) ?_
                exact WN.forget (L' := [some (.ref (na 130)), some (.ref (na (bB (I (100 + j)) + 9))), some (.int bv), some (.int (nbo true)), some (.int (nI (p + 1)))]) (⟨Or.inr rfl, Or.inr rfl, Or.inr rfl, Or.inr rfl, Or.inr rfl, trivial⟩) (ih5 _ (by omega) (p + 1) true rfl (by omega) (by show (allb p _ && (decide _ || (decide _ || decide _))) = true; rw [hg, c_15, decide_eq_true c_50, Bool.or_true, Bool.or_true]; rfl))
  exact WN.forget (L' := [some (.ref (na 130)), some (.ref (na (bB (I (100 + j)) + 9))), some (.int bv), some (.int (nbo true)), some (.int (nI 0))]) (⟨Or.inr rfl, Or.inr rfl, Or.inr rfl, Or.inr rfl, Or.inr rfl, trivial⟩) (lp5 _ 0 true rfl (by omega) rfl)

theorem bset_bset (B : Nat → nMem) (i : Nat) (R S : nMem) : bset (bset B i R) i S = bset B i S := by
  funext j
  unfold bset
  split <;> rfl
/-- the trial changed -/
theorem xRel.trial {C : nMem} {B : Nat → nMem} {P : Nat → Nat × Nat} {I : Nat → Nat} {M R : nMem} (h : xRel (C, B, P, I) M) (hn : mN M 1 ≠ 0) (hR : R 0 0 = nI (mN M 1)) : xRel (C, bset B (I 8) R, P, I) M := by
  obtain ⟨hw, gPe, gRi, gCl, gSt, gTh, gFi, gTx, gTr, gTp, gRd, gOr⟩ := h
  dsimp only at hw gPe gRi gCl gSt gTh gFi gTx gTr gTp gRd gOr
  obtain ⟨r1, r2, r3, r4, r5, r6, r7⟩ := gRd.2 hn
  refine ⟨hw, gPe, gRi, gCl, gSt, gTh, gFi.bs (by rw [r5]; decide), gTx, gTr.bs (by rw [r5]; decide), gTp.bs (by rw [r5]; decide), ⟨gRd.1, fun _ => ⟨r1, r2, r3, r4, r5, ?_, ?_⟩⟩, gOr.bs (by rw [r5]; decide)⟩
  · dsimp only
    rw [bset_n r3]; exact r6
  · dsimp only
    rw [bset_s]; exact hR
def tEnd (M : nMem) (o : Option TT) : Bool := match o with
  | none => false
  | some T => decide (T.2.2.2.1 = mN M 15)
theorem t_end2 {M R S : nMem} {n : Nat} (hS : rdRel S M) (b15 : mN M 15 ≤ 100) (hn : n = mN M 1) {o : Option TT} (hT : tSt M R n o) : rdLike R S n = tEnd M o := by
  cases o with
  | none => exact t_end hS b15 hn hT
  | some T => exact t_end hS b15 hn hT
theorem mMakes_e {M : nMem} {L : List Nat} {av sv : Int32} : mMakes M L av sv = tEnd M (trun M (mN M 1) (mkSq L av sv L.length) (T0 M)) := by
  unfold mMakes tEnd
  cases trun M (mN M 1) (mkSq L av sv L.length) (T0 M) <;> rfl
theorem t_begin {M R : nMem} {n : Nat} {f : Nat → Int32} (h0 : R 0 0 = nI n) (hn9 : n ≤ 9) (hf : ∀ p, p < n → f p = M 9 p) {R9 : nMem} (e : R9 = mset (mset (mset (mset (mset R 1 (fil nI (R 1) n)) 2 (fil f (R 2) n)) 3 (fil (fun _ => nI 0) (R 3) n)) 6 (fun _ => nI 0)) 7 (fun _ => nI 0)) : rdV R9 n ∧ tRl M R9 n (T0 M) := by
  subst e
  have e1 : ∀ p, p < n → fil nI (R 1) n p = nI p := fun p hp => fil_lt hp
  refine ⟨⟨h0, rfl, Nat.zero_le _, rfl, Nat.zero_le _, fun p hp => ?_⟩, fun p hp => ⟨e1 p hp, hp⟩, fun p hp => ?_, fun p hp => ?_, rfl, rfl, fun a b _ _ z => z, Nat.zero_le _, fun r hr => absurd hr (Nat.not_lt_zero r)⟩
  · have em : mA (mset (mset (mset (mset (mset R 1 (fil nI (R 1) n)) 2 (fil f (R 2) n)) 3 (fil (fun _ => nI 0) (R 3) n)) 6 (fun _ => nI 0)) 7 (fun _ => nI 0)) 1 p = p := mA_of (e1 p hp) (by omega)
    rw [em]
    exact ⟨e1 p hp, hp⟩
  · show fil f (R 2) n p = M 9 p
    rw [fil_lt hp, hf p hp]
  · show fil (fun _ => nI 0) (R 3) n p = nI 0
    rw [fil_lt hp]
theorem t_stepo {M R R2 : nMem} {n s : Nat} (hV : rdV R n) (hn3 : 3 ≤ n) (hn9 : n ≤ 9) (b15 : mN M 15 ≤ 100) (hs2 : s < 100 → s / 10 < n ∧ s % 10 ≤ 1) (hr : rfS R n s = 0) (hD : rdDoes R n s R2) {o : Option TT} (hT : tSt M R n o) : tSt M R2 n (o.bind (tstep M n s)) := by
  cases o with
  | none => exact tBad_step hV hn3 hs2 hr hD hT
  | some T => exact t_step hV hn3 hn9 b15 hs2 hr hD hT
theorem t_refo {M R : nMem} {n s : Nat} (hV : rdV R n) (hn3 : 3 ≤ n) (hn9 : n ≤ 9) (b15 : mN M 15 ≤ 100) (hs2 : s < 100 → s / 10 < n ∧ s % 10 ≤ 1) (hr : ¬ rfS R n s = 0) {o : Option TT} (hT : tSt M R n o) : o.bind (tstep M n s) = none := by
  cases o with
  | none => rfl
  | some T => exact t_ref hV hn3 hn9 b15 hs2 hT hr
theorem trun_s1 {M : nMem} {n s : Nat} {o : Option TT} : o.bind (trun M n [s]) = o.bind (tstep M n s) := by
  cases o with
  | none => rfl
  | some T =>
    show (tstep M n s T).bind (trun M n []) = tstep M n s T
    cases tstep M n s T <;> rfl
theorem trun_s2 {M : nMem} {n s : Nat} {o : Option TT} : o.bind (trun M n [s, s]) = (o.bind (tstep M n s)).bind (tstep M n s) := by
  cases o with
  | none => rfl
  | some T =>
    show (tstep M n s T).bind (trun M n [s]) = (tstep M n s T).bind (tstep M n s)
    exact trun_s1
theorem trun_s0 {M : nMem} {n : Nat} {o : Option TT} : o.bind (trun M n []) = o := by cases o <;> rfl
theorem und_pl {s n : Nat} (hs : stp s) (h : 100 ≤ s ∨ s / 10 < n) : und s < 100 → und s / 10 < n ∧ und s % 10 ≤ 1 := by
  unfold und flp
  unfold stp at hs
  intro z
  by_cases c : 100 ≤ s
  · rw [if_pos c] at z; omega
  · rw [if_neg c]
    split <;> omega
theorem mkSq_k {L : List Nat} {av sv : Int32} {k : Nat} {M : nMem} {n : Nat} : trun M n (mkSq L av sv (k + 1)) (T0 M) = (trun M n (mkSq L av sv k) (T0 M)).bind (trun M n (mkEl L av sv k)) := by
  show trun M n (mkSq L av sv k ++ mkEl L av sv k) (T0 M) = _
  rw [trun_app]
theorem mkEl_n {L : List Nat} {av sv : Int32} {k : Nat} (h : ¬ nI k = av) : mkEl L av sv k = [L.getD k 0] := by
  unfold mkEl
  rw [if_neg (fun z => h z.1), if_neg (fun z => h z.1), if_neg (fun z => h z.1)]
theorem mkEl_0 {L : List Nat} {av : Int32} {k : Nat} (h : nI k = av) : mkEl L av (nI 0) k = [] := by unfold mkEl; rw [if_pos ⟨h, rfl⟩]
theorem mkEl_1 {L : List Nat} {av : Int32} {k : Nat} (h : nI k = av) : mkEl L av (nI 1) k = [und (L.getD k 0)] := by
  unfold mkEl
  rw [if_neg (fun z => absurd z.2 (by decide)), if_pos ⟨h, rfl⟩]
theorem mkEl_2 {L : List Nat} {av : Int32} {k : Nat} (h : nI k = av) : mkEl L av (nI 2) k = [L.getD k 0, L.getD k 0] := by
  unfold mkEl
  rw [if_neg (fun z => absurd z.2 (by decide)), if_neg (fun z => absurd z.2 (by decide)), if_pos ⟨h, rfl⟩]
def xGv (na : nA) (h : nH) (C : nMem) (P : Nat → Nat × Nat) (I : Nat → Nat) (M : nMem) (v : Bool) : Int32 → nA → nH → Prop := fun r na' h' => nbo v = r ∧ na = na' ∧ ∃ B2, xPut na h (C, B2, P, I) = h' ∧ xRel (C, B2, P, I) M
set_option maxHeartbeats 4000000 in
set_option maxRecDepth 100000 in
theorem ct_X0_gives (na : nA) (h : nH) (C : nMem) (B : Nat → nMem) (P : Nat → Nat × Nat) (I : Nat → Nat) (M : nMem) (hR : xRel (C, B, P, I) M) (hI : mInv M) {j : Nat} (hj : j < mN M 26) (hd : mB M 11 = true) (av : Int32) {wh : Nat} (hh : wh ≤ 2) (hok : ∀ k, k < mA M 28 j → ¬ (nI k = av ∧ wh = 0) → 100 ≤ mA M 29 (300 * j + k) ∨ mA M 29 (300 * j + k) / 10 < mN M 1) : nM yX0_gives cX0_gives 7 (some .boolean) (nRm 3 0 0) [.ref (na 130), .ref (na (bB (I (100 + j)) + 9)), .int av, .int (nI wh)] na (xPut na h (C, B, P, I)) (nQi (xGv na h C P I M (mMakes M (mFs M j) av (nI wh)))) 0 0 := by
  refine nM.ofN RX0 rfl (by decide) (by intro v hv; simp only [List.mem_cons, List.not_mem_nil, or_false] at hv; rcases hv with rfl | rfl | rfl | rfl <;> rfl) (Nat.le_of_ble_eq_true rfl) (fun K hC hnm => ?_)
  show WN K na (xPut na h (C, B, P, I)) 0 0 (nE K (nQi (xGv na h C P I M (mMakes M (mFs M j) av (nI wh)))) 0 0) 0 [some (.ref (na 130)), some (.ref (na (bB (I (100 + j)) + 9))), some (.int av), some (.int (nI wh)), none, none, none] []
  let Q9 : State → Prop := nE K (nQi (xGv na h C P I M (mMakes M (mFs M j) av (nI wh)))) 0 0
  show WN K na (xPut na h (C, B, P, I)) 0 0 Q9 0 [some (.ref (na 130)), some (.ref (na (bB (I (100 + j)) + 9))), some (.int av), some (.int (nI wh)), none, none, none] []
  have hR0 := hR
  obtain ⟨hw, gPe, gRi, gCl, gSt, gTh, gFi, gTx, gTr, gTp, gRd, gOr⟩ := hR
  dsimp only at hw gPe gRi gCl gSt gTh gFi gTx gTr gTp gRd gOr
  obtain ⟨⟨h0, b0⟩, ⟨h1, b1a, b1⟩, ⟨h11, b11⟩, ⟨h14, b14⟩, ⟨h15, b15, b15n⟩, ⟨h20, b20⟩, ⟨h26, b26⟩, ⟨h27, b27⟩, ⟨h55, b55⟩, iP, iH, iHi, iHd, iC, iT, iF, iG, iS, iZ⟩ := hI
  have hn3 := b11 hd
  obtain ⟨r1, r2, r3, r4, r5, r6, r7⟩ := gRd.2 (show mN M 1 ≠ 0 by omega)
  obtain ⟨f1, f2, f3, f4, f5⟩ := xr_fig gFi hj
  have fl9 := (iF j hj).2
  have hF8 : I (100 + j) ≠ I 8 := fun z => by rw [z, r5] at f2; exact absurd f2 (by decide)
  rcases (show wh = 0 ∨ wh = 1 ∨ wh = 2 by omega) with e9 | e9 | e9
  · skip
    subst e9
    refine n_aload_n hC dX0_gives_0 rfl ?_
    refine x_getR hC 8 q156 dX0_gives_1 rfl (by decide) (by decide) r2 ?_
    refine n_aload_n hC dX0_gives_4 rfl ?_
    refine x_getA hC 10 q158 dX0_gives_5 rfl (by decide) (by decide) ?_
    refine n_callV1v hC (xc_rel (i := (I 8)) (c := (2, 0)) r5 ⟨by decide, by decide⟩ (ct_X9_begins (bB (I 8)) na _ (B (I 8)) (n := mN M 1) r7 hn3 b1 (kk := 110) (f := C 10) (by unfold bB; omega) (xPut_a (j := 10) rfl))) md_X9_begins q365 dX0_gives_8 rfl (((xBlk_o (na := na) (h := h) (X := (C, B, P, I)) (i := (I 8)) (c := (2, 0)) r5 ⟨by decide, by decide⟩) 9 (by decide)).trans (if_pos rfl)) rfl rfl ⟨rfl, rfl, by decide, by decide⟩ rfl (Nat.le_of_ble_eq_true rfl) (by decide) (by decide) (fun na0 h0 hp0 => ?_)
    obtain ⟨rfl, R9, rfl, eR9⟩ := hp0
    obtain ⟨hV, hT0⟩ := t_begin (M := M) r7 b1 (fun p hp => ((gCl.2 hd) p hp).1) eR9
    refine n_iconst hC (v := nI 0) dX0_gives_11 (by decide) ?_
    refine n_istore hC dX0_gives_12 (Nat.le_of_ble_eq_true rfl) ?_
    have lp14 : ∀ d9 : Nat, ∀ (k : Nat) (R2 : nMem), mA M 28 j - k = d9 → (k ≤ mA M 28 j) → (rdV R2 (mN M 1)) → (tSt M R2 (mN M 1) (trun M (mN M 1) (mkSq (mFs M j) av (nI 0) k) (T0 M))) → WN K na (xPut na h (C, (bset B (I 8) R2), P, I)) 0 0 Q9 14 [some (.ref (na 130)), some (.ref (na (bB (I (100 + j)) + 9))), some (.int av), some (.int (nI 0)), some (.int (nI k)), none, none] [] := by
      intro d9
      induction d9 using Nat.strongRecOn with
      | _ d9 ih14 =>
        intro k R2 hd14 hk hV hT
        have e8 : bset B (I 8) R2 (I 8) = R2 := bset_s _ _ _
        have e7 : bset B (I 8) R2 (I 7) = B (I 7) := bset_n r3
        have eF : bset B (I 8) R2 (I (100 + j)) = B (I (100 + j)) := bset_n hF8
        refine n_iload hC dX0_gives_14 rfl ?_
        refine n_aload_n hC dX0_gives_16 rfl ?_
        refine o_getIN hC gW_X12 (xBlk_o (na := na) (h := h) (X := (C, (bset B (I 8) R2), P, I)) (i := (I (100 + j))) (c := (3, 0)) f2 ⟨by decide, by decide⟩) (host := "MaypoleGreen") 1 (v := nI (mA M 28 j)) (by decide) dX0_gives_17 rfl (by decide) (by decide) ((congrFun (congrFun eF 1) 0).trans f3) ?_
        refine n_icmp_geN hC (tgt := 114) dX0_gives_20 (by decide) (by omega) (by omega) (fun c_20 => ?_) (fun c_20 => ?_)
        · skip
          refine n_aload_n hC dX0_gives_114 rfl ?_
          refine x_getR hC 8 q156 dX0_gives_115 rfl (by decide) (by decide) r2 ?_
          refine n_aload_n hC dX0_gives_118 rfl ?_
          refine x_getR hC 7 q155 dX0_gives_119 rfl (by decide) (by decide) r1 ?_
          refine n_callV1z hC (xc_pure (i := (I 8)) (c := (2, 0)) r5 ⟨by decide, by decide⟩ (ct_X9_isLike (bB (I 8)) na _ ((bset B (I 8) R2) (I 8)) (n := mN M 1) (by rw [e8]; exact hV.1) b1 (by rw [e8]; exact hV.2.1) (by rw [e8]; exact hV.2.2.1) (bB (I 7)) ((bset B (I 8) R2) (I 7)) (by unfold bB; omega) (xBlk_o (na := na) (h := h) (X := (C, (bset B (I 8) R2), P, I)) (i := (I 7)) (c := (2, 0)) r4 ⟨by decide, by decide⟩) (by rw [e7, rd_6 r6 b15]; exact r6.2.1) (by rw [e7, rd_6 r6 b15]; exact b15))) md_X9_isLike q756 dX0_gives_122 rfl (((xBlk_o (na := na) (h := h) (X := (C, (bset B (I 8) R2), P, I)) (i := (I 8)) (c := (2, 0)) r5 ⟨by decide, by decide⟩) 9 (by decide)).trans (if_pos rfl)) rfl rfl ⟨rfl, rfl, by decide, by decide⟩ rfl (Nat.le_of_ble_eq_true rfl) (by decide) (by decide) (fun r1 na1 h1 hp1 => ?_)
          obtain ⟨rfl, rfl, rfl⟩ := hp1
          exact n_zret hC dX0_gives_125 (nbo_nar _) (by decide) (by decide) (⟨by rw [e8, e7, t_end2 r6 b15 rfl hT, mMakes_e, mFs_len, show k = mA M 28 j by omega], rfl, _, rfl, hR0.trial (by omega) hV.1⟩)
        · skip
          obtain ⟨-, hs9⟩ := iG j k hj c_20
          have hs8 := stp_lt hs9
          have hu8 := und_lt hs8
          have hokk := hok k c_20
          refine n_iload hC dX0_gives_23 rfl ?_
          refine n_iload_n hC dX0_gives_25 rfl ?_
          refine n_icmp_ne hC (tgt := 47) dX0_gives_26 (by decide) (fun c_26 => ?_) (fun c_26 => ?_)
          · skip
            refine n_aload_n hC dX0_gives_47 rfl ?_
            refine o_getAN hC gW_X12 (xBlk_o (na := na) (h := h) (X := (C, (bset B (I 8) R2), P, I)) (i := (I (100 + j))) (c := (3, 0)) f2 ⟨by decide, by decide⟩) (host := "MaypoleGreen") 0 (by decide) dX0_gives_48 rfl (by decide) (by decide) ?_
            refine n_iload hC dX0_gives_51 rfl ?_
            refine o_aldN hC gW_X12 (xBlk_o (na := na) (h := h) (X := (C, (bset B (I 8) R2), P, I)) (i := (I (100 + j))) (c := (3, 0)) f2 ⟨by decide, by decide⟩) 0 (v := nI (mA M 29 (300 * j + k))) dX0_gives_53 rfl gI_X12_0 (by show k < 300; omega) ((congrFun (congrFun eF 0) _).trans (f5 k c_20)) ?_
            refine n_istore hC dX0_gives_54 (Nat.le_of_ble_eq_true rfl) ?_
            refine n_iload hC dX0_gives_56 rfl ?_
            refine n_iload_n hC dX0_gives_58 rfl ?_
            refine n_icmp_ne hC (tgt := 67) dX0_gives_59 (by decide) (fun c_59 => ?_) (fun c_59 => absurd c_59 (c_26))
            refine n_iconst hC (v := nI 1) dX0_gives_67 (by decide) ?_
            refine n_goto hC (tgt := 72) dX0_gives_68 (by decide) ?_
            refine n_istore hC dX0_gives_72 (Nat.le_of_ble_eq_true rfl) ?_
            have hs2 : (mA M 29 (300 * j + k)) < 100 → (mA M 29 (300 * j + k)) / 10 < mN M 1 ∧ (mA M 29 (300 * j + k)) % 10 ≤ 1 := fun z => ⟨by have := hokk (fun y => c_26 y.1); omega, by unfold stp at hs9; omega⟩
            refine n_iload hC dX0_gives_74 rfl ?_
            refine n_if_leN hC (tgt := 108) dX0_gives_76 (by decide) (by omega) (fun c_76 => absurd c_76 (by decide)) (fun c_76 => ?_)
            refine n_aload_n hC dX0_gives_79 rfl ?_
            refine x_getR hC 8 q156 dX0_gives_80 rfl (by decide) (by decide) r2 ?_
            refine n_iload hC dX0_gives_83 rfl ?_
            refine n_callV1i hC (xc_pure (i := (I 8)) (c := (2, 0)) r5 ⟨by decide, by decide⟩ (ct_X9_refuses (bB (I 8)) na _ ((bset B (I 8) R2) (I 8)) (n := mN M 1) (by rw [e8]; exact hV.1) hn3 b1 (by rw [e8]; exact hV.2.1) (by rw [e8]; exact hV.2.2.1) (by rw [e8]; exact hV.2.2.2.1) (by rw [e8]; exact hV.2.2.2.2.1) (by rw [e8]; exact hV.2.2.2.2.2) (s := (mA M 29 (300 * j + k))) (by omega) hs2)) md_X9_refuses q409 dX0_gives_85 rfl (((xBlk_o (na := na) (h := h) (X := (C, (bset B (I 8) R2), P, I)) (i := (I 8)) (c := (2, 0)) r5 ⟨by decide, by decide⟩) 9 (by decide)).trans (if_pos rfl)) rfl rfl ⟨rfl, rfl, by decide, by decide⟩ rfl (Nat.le_of_ble_eq_true rfl) (by decide) (by decide) (fun r2 na2 h2 hp2 => ?_)
            obtain ⟨rfl, rfl, rfl⟩ := hp2
            rw [e8]
            refine n_if_eq hC (tgt := 93) dX0_gives_88 (by decide) (fun c_88 => ?_) (fun c_88 => ?_)
            · skip
              refine n_aload_n hC dX0_gives_93 rfl ?_
              refine x_getR hC 8 q156 dX0_gives_94 rfl (by decide) (by decide) r2 ?_
              refine n_iload hC dX0_gives_97 rfl ?_
              refine n_callV1v hC (xc_rel (i := (I 8)) (c := (2, 0)) r5 ⟨by decide, by decide⟩ (ct_X9_does (bB (I 8)) na _ ((bset B (I 8) R2) (I 8)) (n := mN M 1) (by rw [e8]; exact hV.1) hn3 b1 (by rw [e8]; exact hV.2.1) (by rw [e8]; exact hV.2.2.2.1) (by rw [e8]; exact hV.2.2.2.2.1) (by rw [e8]; exact hV.2.2.2.2.2) (s := (mA M 29 (300 * j + k))) (by omega) hs2 (fun z => by rw [e8]; have := (rf_0 c_88).2 z; have := hV.2.2.1; omega))) md_X9_does q417 dX0_gives_99 rfl (((xBlk_o (na := na) (h := h) (X := (C, (bset B (I 8) R2), P, I)) (i := (I 8)) (c := (2, 0)) r5 ⟨by decide, by decide⟩) 9 (by decide)).trans (if_pos rfl)) rfl rfl ⟨rfl, rfl, by decide, by decide⟩ rfl (Nat.le_of_ble_eq_true rfl) (by decide) (by decide) (fun na3 h3 hp3 => ?_)
              obtain ⟨rfl, R23, rfl, hD9⟩ := hp3
              rw [e8] at hD9
              rw [bset_bset]
              have hT := t_stepo hV hn3 b1 b15 hs2 c_88 hD9 hT
              have hV := (rdV_step hV hn3 hs2 c_88 hD9).1
              have e8 : bset B (I 8) R23 (I 8) = R23 := bset_s _ _ _
              have e7 : bset B (I 8) R23 (I 7) = B (I 7) := bset_n r3
              have eF : bset B (I 8) R23 (I (100 + j)) = B (I (100 + j)) := bset_n hF8
              refine n_iinc hC dX0_gives_102 (v := nI 0) rfl rfl ?_
              refine n_goto hC (tgt := 74) dX0_gives_105 (by decide) ?_
              refine n_iload hC dX0_gives_74 rfl ?_
              refine n_if_leN hC (tgt := 108) dX0_gives_76 (by decide) (by omega) (fun c_76 => ?_) (fun c_76 => absurd c_76 (by decide))
              refine n_iincN hC dX0_gives_108 (j := 1) (c := k + 1) rfl (by decide) rfl ?_
              refine n_goto hC (tgt := 14) dX0_gives_111 (by decide) ?_
              exact WN.forget (L' := [some (.ref (na 130)), some (.ref (na (bB (I (100 + j)) + 9))), some (.int av), some (.int (nI 0)), some (.int (nI (k + 1))), none, none]) (⟨Or.inr rfl, Or.inr rfl, Or.inr rfl, Or.inr rfl, Or.inr rfl, Or.inl rfl, Or.inl rfl, trivial⟩) (ih14 _ (by omega) (k + 1) R23 rfl (by omega) hV (by rw [mkSq_k, mkEl_n c_26, trun_s1, mFs_get c_20]; exact hT))
            · skip
              refine n_iconst hC (v := nI 0) dX0_gives_91 (by decide) ?_
              exact n_zret hC dX0_gives_92 rfl (by decide) (by decide) (⟨by rw [mMakes_n (k := k + 1) (by rw [mFs_len]; omega) (by rw [mkSq_k, mkEl_n c_26, trun_s1, mFs_get c_20]; exact t_refo hV hn3 b1 b15 hs2 c_88 hT)]; rfl, rfl, _, rfl, hR0.trial (by omega) hV.1⟩)
          · skip
            refine n_iload_n hC dX0_gives_29 rfl ?_
            refine n_iconst hC (v := nI 1) dX0_gives_30 (by decide) ?_
            refine n_icmp_neN hC (tgt := 47) dX0_gives_31 (by decide) (by omega) (by omega) (fun c_31 => ?_) (fun c_31 => absurd c_31 (by decide))
            refine n_aload_n hC dX0_gives_47 rfl ?_
            refine o_getAN hC gW_X12 (xBlk_o (na := na) (h := h) (X := (C, (bset B (I 8) R2), P, I)) (i := (I (100 + j))) (c := (3, 0)) f2 ⟨by decide, by decide⟩) (host := "MaypoleGreen") 0 (by decide) dX0_gives_48 rfl (by decide) (by decide) ?_
            refine n_iload hC dX0_gives_51 rfl ?_
            refine o_aldN hC gW_X12 (xBlk_o (na := na) (h := h) (X := (C, (bset B (I 8) R2), P, I)) (i := (I (100 + j))) (c := (3, 0)) f2 ⟨by decide, by decide⟩) 0 (v := nI (mA M 29 (300 * j + k))) dX0_gives_53 rfl gI_X12_0 (by show k < 300; omega) ((congrFun (congrFun eF 0) _).trans (f5 k c_20)) ?_
            refine n_istore hC dX0_gives_54 (Nat.le_of_ble_eq_true rfl) ?_
            refine n_iload hC dX0_gives_56 rfl ?_
            refine n_iload_n hC dX0_gives_58 rfl ?_
            refine n_icmp_ne hC (tgt := 67) dX0_gives_59 (by decide) (fun c_59 => ((c_59 c_26).elim)) (fun c_59 => ?_)
            refine n_iload_n hC dX0_gives_62 rfl ?_
            refine n_iconst hC (v := nI 1) dX0_gives_63 (by decide) ?_
            refine n_icmp_neN hC (tgt := 71) dX0_gives_64 (by decide) (by omega) (by omega) (fun c_64 => ?_) (fun c_64 => absurd c_64 (by decide))
            refine n_iload_n hC dX0_gives_71 rfl ?_
            refine n_istore hC dX0_gives_72 (Nat.le_of_ble_eq_true rfl) ?_
            skip
            refine n_iload hC dX0_gives_74 rfl ?_
            refine n_if_leN hC (tgt := 108) dX0_gives_76 (by decide) (by omega) (fun c_76 => ?_) (fun c_76 => absurd c_76 (by decide))
            refine n_iincN hC dX0_gives_108 (j := 1) (c := k + 1) rfl (by decide) rfl ?_
            refine n_goto hC (tgt := 14) dX0_gives_111 (by decide) ?_
            exact WN.forget (L' := [some (.ref (na 130)), some (.ref (na (bB (I (100 + j)) + 9))), some (.int av), some (.int (nI 0)), some (.int (nI (k + 1))), none, none]) (⟨Or.inr rfl, Or.inr rfl, Or.inr rfl, Or.inr rfl, Or.inr rfl, Or.inl rfl, Or.inl rfl, trivial⟩) (ih14 _ (by omega) (k + 1) R2 rfl (by omega) hV (by rw [mkSq_k, mkEl_0 c_26, trun_s0]; exact hT))
    exact WN.forget (L' := [some (.ref (na 130)), some (.ref (na (bB (I (100 + j)) + 9))), some (.int av), some (.int (nI 0)), some (.int (nI 0)), none, none]) (⟨Or.inr rfl, Or.inr rfl, Or.inr rfl, Or.inr rfl, Or.inr rfl, Or.inl rfl, Or.inl rfl, trivial⟩) (lp14 _ 0 R9 rfl (by omega) hV hT0)
  · skip
    subst e9
    refine n_aload_n hC dX0_gives_0 rfl ?_
    refine x_getR hC 8 q156 dX0_gives_1 rfl (by decide) (by decide) r2 ?_
    refine n_aload_n hC dX0_gives_4 rfl ?_
    refine x_getA hC 10 q158 dX0_gives_5 rfl (by decide) (by decide) ?_
    refine n_callV1v hC (xc_rel (i := (I 8)) (c := (2, 0)) r5 ⟨by decide, by decide⟩ (ct_X9_begins (bB (I 8)) na _ (B (I 8)) (n := mN M 1) r7 hn3 b1 (kk := 110) (f := C 10) (by unfold bB; omega) (xPut_a (j := 10) rfl))) md_X9_begins q365 dX0_gives_8 rfl (((xBlk_o (na := na) (h := h) (X := (C, B, P, I)) (i := (I 8)) (c := (2, 0)) r5 ⟨by decide, by decide⟩) 9 (by decide)).trans (if_pos rfl)) rfl rfl ⟨rfl, rfl, by decide, by decide⟩ rfl (Nat.le_of_ble_eq_true rfl) (by decide) (by decide) (fun na4 h4 hp4 => ?_)
    obtain ⟨rfl, R9, rfl, eR9⟩ := hp4
    obtain ⟨hV, hT0⟩ := t_begin (M := M) r7 b1 (fun p hp => ((gCl.2 hd) p hp).1) eR9
    refine n_iconst hC (v := nI 0) dX0_gives_11 (by decide) ?_
    refine n_istore hC dX0_gives_12 (Nat.le_of_ble_eq_true rfl) ?_
    have lp14 : ∀ d9 : Nat, ∀ (k : Nat) (R2 : nMem), mA M 28 j - k = d9 → (k ≤ mA M 28 j) → (rdV R2 (mN M 1)) → (tSt M R2 (mN M 1) (trun M (mN M 1) (mkSq (mFs M j) av (nI 1) k) (T0 M))) → WN K na (xPut na h (C, (bset B (I 8) R2), P, I)) 0 0 Q9 14 [some (.ref (na 130)), some (.ref (na (bB (I (100 + j)) + 9))), some (.int av), some (.int (nI 1)), some (.int (nI k)), none, none] [] := by
      intro d9
      induction d9 using Nat.strongRecOn with
      | _ d9 ih14 =>
        intro k R2 hd14 hk hV hT
        have e8 : bset B (I 8) R2 (I 8) = R2 := bset_s _ _ _
        have e7 : bset B (I 8) R2 (I 7) = B (I 7) := bset_n r3
        have eF : bset B (I 8) R2 (I (100 + j)) = B (I (100 + j)) := bset_n hF8
        refine n_iload hC dX0_gives_14 rfl ?_
        refine n_aload_n hC dX0_gives_16 rfl ?_
        refine o_getIN hC gW_X12 (xBlk_o (na := na) (h := h) (X := (C, (bset B (I 8) R2), P, I)) (i := (I (100 + j))) (c := (3, 0)) f2 ⟨by decide, by decide⟩) (host := "MaypoleGreen") 1 (v := nI (mA M 28 j)) (by decide) dX0_gives_17 rfl (by decide) (by decide) ((congrFun (congrFun eF 1) 0).trans f3) ?_
        refine n_icmp_geN hC (tgt := 114) dX0_gives_20 (by decide) (by omega) (by omega) (fun c_20 => ?_) (fun c_20 => ?_)
        · skip
          refine n_aload_n hC dX0_gives_114 rfl ?_
          refine x_getR hC 8 q156 dX0_gives_115 rfl (by decide) (by decide) r2 ?_
          refine n_aload_n hC dX0_gives_118 rfl ?_
          refine x_getR hC 7 q155 dX0_gives_119 rfl (by decide) (by decide) r1 ?_
          refine n_callV1z hC (xc_pure (i := (I 8)) (c := (2, 0)) r5 ⟨by decide, by decide⟩ (ct_X9_isLike (bB (I 8)) na _ ((bset B (I 8) R2) (I 8)) (n := mN M 1) (by rw [e8]; exact hV.1) b1 (by rw [e8]; exact hV.2.1) (by rw [e8]; exact hV.2.2.1) (bB (I 7)) ((bset B (I 8) R2) (I 7)) (by unfold bB; omega) (xBlk_o (na := na) (h := h) (X := (C, (bset B (I 8) R2), P, I)) (i := (I 7)) (c := (2, 0)) r4 ⟨by decide, by decide⟩) (by rw [e7, rd_6 r6 b15]; exact r6.2.1) (by rw [e7, rd_6 r6 b15]; exact b15))) md_X9_isLike q756 dX0_gives_122 rfl (((xBlk_o (na := na) (h := h) (X := (C, (bset B (I 8) R2), P, I)) (i := (I 8)) (c := (2, 0)) r5 ⟨by decide, by decide⟩) 9 (by decide)).trans (if_pos rfl)) rfl rfl ⟨rfl, rfl, by decide, by decide⟩ rfl (Nat.le_of_ble_eq_true rfl) (by decide) (by decide) (fun r5 na5 h5 hp5 => ?_)
          obtain ⟨rfl, rfl, rfl⟩ := hp5
          exact n_zret hC dX0_gives_125 (nbo_nar _) (by decide) (by decide) (⟨by rw [e8, e7, t_end2 r6 b15 rfl hT, mMakes_e, mFs_len, show k = mA M 28 j by omega], rfl, _, rfl, hR0.trial (by omega) hV.1⟩)
        · skip
          obtain ⟨-, hs9⟩ := iG j k hj c_20
          have hs8 := stp_lt hs9
          have hu8 := und_lt hs8
          have hokk := hok k c_20
          refine n_iload hC dX0_gives_23 rfl ?_
          refine n_iload_n hC dX0_gives_25 rfl ?_
          refine n_icmp_ne hC (tgt := 47) dX0_gives_26 (by decide) (fun c_26 => ?_) (fun c_26 => ?_)
          · skip
            refine n_aload_n hC dX0_gives_47 rfl ?_
            refine o_getAN hC gW_X12 (xBlk_o (na := na) (h := h) (X := (C, (bset B (I 8) R2), P, I)) (i := (I (100 + j))) (c := (3, 0)) f2 ⟨by decide, by decide⟩) (host := "MaypoleGreen") 0 (by decide) dX0_gives_48 rfl (by decide) (by decide) ?_
            refine n_iload hC dX0_gives_51 rfl ?_
            refine o_aldN hC gW_X12 (xBlk_o (na := na) (h := h) (X := (C, (bset B (I 8) R2), P, I)) (i := (I (100 + j))) (c := (3, 0)) f2 ⟨by decide, by decide⟩) 0 (v := nI (mA M 29 (300 * j + k))) dX0_gives_53 rfl gI_X12_0 (by show k < 300; omega) ((congrFun (congrFun eF 0) _).trans (f5 k c_20)) ?_
            refine n_istore hC dX0_gives_54 (Nat.le_of_ble_eq_true rfl) ?_
            refine n_iload hC dX0_gives_56 rfl ?_
            refine n_iload_n hC dX0_gives_58 rfl ?_
            refine n_icmp_ne hC (tgt := 67) dX0_gives_59 (by decide) (fun c_59 => ?_) (fun c_59 => absurd c_59 (c_26))
            refine n_iconst hC (v := nI 1) dX0_gives_67 (by decide) ?_
            refine n_goto hC (tgt := 72) dX0_gives_68 (by decide) ?_
            refine n_istore hC dX0_gives_72 (Nat.le_of_ble_eq_true rfl) ?_
            have hs2 : (mA M 29 (300 * j + k)) < 100 → (mA M 29 (300 * j + k)) / 10 < mN M 1 ∧ (mA M 29 (300 * j + k)) % 10 ≤ 1 := fun z => ⟨by have := hokk (fun y => c_26 y.1); omega, by unfold stp at hs9; omega⟩
            refine n_iload hC dX0_gives_74 rfl ?_
            refine n_if_leN hC (tgt := 108) dX0_gives_76 (by decide) (by omega) (fun c_76 => absurd c_76 (by decide)) (fun c_76 => ?_)
            refine n_aload_n hC dX0_gives_79 rfl ?_
            refine x_getR hC 8 q156 dX0_gives_80 rfl (by decide) (by decide) r2 ?_
            refine n_iload hC dX0_gives_83 rfl ?_
            refine n_callV1i hC (xc_pure (i := (I 8)) (c := (2, 0)) r5 ⟨by decide, by decide⟩ (ct_X9_refuses (bB (I 8)) na _ ((bset B (I 8) R2) (I 8)) (n := mN M 1) (by rw [e8]; exact hV.1) hn3 b1 (by rw [e8]; exact hV.2.1) (by rw [e8]; exact hV.2.2.1) (by rw [e8]; exact hV.2.2.2.1) (by rw [e8]; exact hV.2.2.2.2.1) (by rw [e8]; exact hV.2.2.2.2.2) (s := (mA M 29 (300 * j + k))) (by omega) hs2)) md_X9_refuses q409 dX0_gives_85 rfl (((xBlk_o (na := na) (h := h) (X := (C, (bset B (I 8) R2), P, I)) (i := (I 8)) (c := (2, 0)) r5 ⟨by decide, by decide⟩) 9 (by decide)).trans (if_pos rfl)) rfl rfl ⟨rfl, rfl, by decide, by decide⟩ rfl (Nat.le_of_ble_eq_true rfl) (by decide) (by decide) (fun r6 na6 h6 hp6 => ?_)
            obtain ⟨rfl, rfl, rfl⟩ := hp6
            rw [e8]
            refine n_if_eq hC (tgt := 93) dX0_gives_88 (by decide) (fun c_88 => ?_) (fun c_88 => ?_)
            · skip
              refine n_aload_n hC dX0_gives_93 rfl ?_
              refine x_getR hC 8 q156 dX0_gives_94 rfl (by decide) (by decide) r2 ?_
              refine n_iload hC dX0_gives_97 rfl ?_
              refine n_callV1v hC (xc_rel (i := (I 8)) (c := (2, 0)) r5 ⟨by decide, by decide⟩ (ct_X9_does (bB (I 8)) na _ ((bset B (I 8) R2) (I 8)) (n := mN M 1) (by rw [e8]; exact hV.1) hn3 b1 (by rw [e8]; exact hV.2.1) (by rw [e8]; exact hV.2.2.2.1) (by rw [e8]; exact hV.2.2.2.2.1) (by rw [e8]; exact hV.2.2.2.2.2) (s := (mA M 29 (300 * j + k))) (by omega) hs2 (fun z => by rw [e8]; have := (rf_0 c_88).2 z; have := hV.2.2.1; omega))) md_X9_does q417 dX0_gives_99 rfl (((xBlk_o (na := na) (h := h) (X := (C, (bset B (I 8) R2), P, I)) (i := (I 8)) (c := (2, 0)) r5 ⟨by decide, by decide⟩) 9 (by decide)).trans (if_pos rfl)) rfl rfl ⟨rfl, rfl, by decide, by decide⟩ rfl (Nat.le_of_ble_eq_true rfl) (by decide) (by decide) (fun na7 h7 hp7 => ?_)
              obtain ⟨rfl, R27, rfl, hD9⟩ := hp7
              rw [e8] at hD9
              rw [bset_bset]
              have hT := t_stepo hV hn3 b1 b15 hs2 c_88 hD9 hT
              have hV := (rdV_step hV hn3 hs2 c_88 hD9).1
              have e8 : bset B (I 8) R27 (I 8) = R27 := bset_s _ _ _
              have e7 : bset B (I 8) R27 (I 7) = B (I 7) := bset_n r3
              have eF : bset B (I 8) R27 (I (100 + j)) = B (I (100 + j)) := bset_n hF8
              refine n_iinc hC dX0_gives_102 (v := nI 0) rfl rfl ?_
              refine n_goto hC (tgt := 74) dX0_gives_105 (by decide) ?_
              refine n_iload hC dX0_gives_74 rfl ?_
              refine n_if_leN hC (tgt := 108) dX0_gives_76 (by decide) (by omega) (fun c_76 => ?_) (fun c_76 => absurd c_76 (by decide))
              refine n_iincN hC dX0_gives_108 (j := 1) (c := k + 1) rfl (by decide) rfl ?_
              refine n_goto hC (tgt := 14) dX0_gives_111 (by decide) ?_
              exact WN.forget (L' := [some (.ref (na 130)), some (.ref (na (bB (I (100 + j)) + 9))), some (.int av), some (.int (nI 1)), some (.int (nI (k + 1))), none, none]) (⟨Or.inr rfl, Or.inr rfl, Or.inr rfl, Or.inr rfl, Or.inr rfl, Or.inl rfl, Or.inl rfl, trivial⟩) (ih14 _ (by omega) (k + 1) R27 rfl (by omega) hV (by rw [mkSq_k, mkEl_n c_26, trun_s1, mFs_get c_20]; exact hT))
            · skip
              refine n_iconst hC (v := nI 0) dX0_gives_91 (by decide) ?_
              exact n_zret hC dX0_gives_92 rfl (by decide) (by decide) (⟨by rw [mMakes_n (k := k + 1) (by rw [mFs_len]; omega) (by rw [mkSq_k, mkEl_n c_26, trun_s1, mFs_get c_20]; exact t_refo hV hn3 b1 b15 hs2 c_88 hT)]; rfl, rfl, _, rfl, hR0.trial (by omega) hV.1⟩)
          · skip
            refine n_iload_n hC dX0_gives_29 rfl ?_
            refine n_iconst hC (v := nI 1) dX0_gives_30 (by decide) ?_
            refine n_icmp_neN hC (tgt := 47) dX0_gives_31 (by decide) (by omega) (by omega) (fun c_31 => absurd c_31 (by decide)) (fun c_31 => ?_)
            refine n_aload_n hC dX0_gives_34 rfl ?_
            refine o_getAN hC gW_X12 (xBlk_o (na := na) (h := h) (X := (C, (bset B (I 8) R2), P, I)) (i := (I (100 + j))) (c := (3, 0)) f2 ⟨by decide, by decide⟩) (host := "MaypoleGreen") 0 (by decide) dX0_gives_35 rfl (by decide) (by decide) ?_
            refine n_iload hC dX0_gives_38 rfl ?_
            refine o_aldN hC gW_X12 (xBlk_o (na := na) (h := h) (X := (C, (bset B (I 8) R2), P, I)) (i := (I (100 + j))) (c := (3, 0)) f2 ⟨by decide, by decide⟩) 0 (v := nI (mA M 29 (300 * j + k))) dX0_gives_40 rfl gI_X12_0 (by show k < 300; omega) ((congrFun (congrFun eF 0) _).trans (f5 k c_20)) ?_
            refine n_callS1i hC (ct_X0_undoing na _ (s := (mA M 29 (300 * j + k))) (by omega)) ms_X0_undoing q755 dX0_gives_41 ⟨rfl, rfl, by decide, by decide⟩ rfl (Nat.le_of_ble_eq_true rfl) (by decide) (by decide) (fun r8 na8 h8 hp8 => ?_)
            obtain ⟨rfl, rfl, rfl⟩ := hp8
            refine n_goto hC (tgt := 54) dX0_gives_44 (by decide) ?_
            refine n_istore hC dX0_gives_54 (Nat.le_of_ble_eq_true rfl) ?_
            refine n_iload hC dX0_gives_56 rfl ?_
            refine n_iload_n hC dX0_gives_58 rfl ?_
            refine n_icmp_ne hC (tgt := 67) dX0_gives_59 (by decide) (fun c_59 => ((c_59 c_26).elim)) (fun c_59 => ?_)
            refine n_iload_n hC dX0_gives_62 rfl ?_
            refine n_iconst hC (v := nI 1) dX0_gives_63 (by decide) ?_
            refine n_icmp_neN hC (tgt := 71) dX0_gives_64 (by decide) (by omega) (by omega) (fun c_64 => absurd c_64 (by decide)) (fun c_64 => ?_)
            refine n_iconst hC (v := nI 1) dX0_gives_67 (by decide) ?_
            refine n_goto hC (tgt := 72) dX0_gives_68 (by decide) ?_
            refine n_istore hC dX0_gives_72 (Nat.le_of_ble_eq_true rfl) ?_
            have hs2 : und (mA M 29 (300 * j + k)) < 100 → und (mA M 29 (300 * j + k)) / 10 < mN M 1 ∧ und (mA M 29 (300 * j + k)) % 10 ≤ 1 := und_pl hs9 (hokk (fun y => absurd y.2 (by decide)))
            refine n_iload hC dX0_gives_74 rfl ?_
            refine n_if_leN hC (tgt := 108) dX0_gives_76 (by decide) (by omega) (fun c_76 => absurd c_76 (by decide)) (fun c_76 => ?_)
            refine n_aload_n hC dX0_gives_79 rfl ?_
            refine x_getR hC 8 q156 dX0_gives_80 rfl (by decide) (by decide) r2 ?_
            refine n_iload hC dX0_gives_83 rfl ?_
            refine n_callV1i hC (xc_pure (i := (I 8)) (c := (2, 0)) r5 ⟨by decide, by decide⟩ (ct_X9_refuses (bB (I 8)) na _ ((bset B (I 8) R2) (I 8)) (n := mN M 1) (by rw [e8]; exact hV.1) hn3 b1 (by rw [e8]; exact hV.2.1) (by rw [e8]; exact hV.2.2.1) (by rw [e8]; exact hV.2.2.2.1) (by rw [e8]; exact hV.2.2.2.2.1) (by rw [e8]; exact hV.2.2.2.2.2) (s := und (mA M 29 (300 * j + k))) (by omega) hs2)) md_X9_refuses q409 dX0_gives_85 rfl (((xBlk_o (na := na) (h := h) (X := (C, (bset B (I 8) R2), P, I)) (i := (I 8)) (c := (2, 0)) r5 ⟨by decide, by decide⟩) 9 (by decide)).trans (if_pos rfl)) rfl rfl ⟨rfl, rfl, by decide, by decide⟩ rfl (Nat.le_of_ble_eq_true rfl) (by decide) (by decide) (fun r9 na9 h9 hp9 => ?_)
            obtain ⟨rfl, rfl, rfl⟩ := hp9
            rw [e8]
            refine n_if_eq hC (tgt := 93) dX0_gives_88 (by decide) (fun c_88 => ?_) (fun c_88 => ?_)
            · skip
              refine n_aload_n hC dX0_gives_93 rfl ?_
              refine x_getR hC 8 q156 dX0_gives_94 rfl (by decide) (by decide) r2 ?_
              refine n_iload hC dX0_gives_97 rfl ?_
              refine n_callV1v hC (xc_rel (i := (I 8)) (c := (2, 0)) r5 ⟨by decide, by decide⟩ (ct_X9_does (bB (I 8)) na _ ((bset B (I 8) R2) (I 8)) (n := mN M 1) (by rw [e8]; exact hV.1) hn3 b1 (by rw [e8]; exact hV.2.1) (by rw [e8]; exact hV.2.2.2.1) (by rw [e8]; exact hV.2.2.2.2.1) (by rw [e8]; exact hV.2.2.2.2.2) (s := und (mA M 29 (300 * j + k))) (by omega) hs2 (fun z => by rw [e8]; have := (rf_0 c_88).2 z; have := hV.2.2.1; omega))) md_X9_does q417 dX0_gives_99 rfl (((xBlk_o (na := na) (h := h) (X := (C, (bset B (I 8) R2), P, I)) (i := (I 8)) (c := (2, 0)) r5 ⟨by decide, by decide⟩) 9 (by decide)).trans (if_pos rfl)) rfl rfl ⟨rfl, rfl, by decide, by decide⟩ rfl (Nat.le_of_ble_eq_true rfl) (by decide) (by decide) (fun na10 h10 hp10 => ?_)
              obtain ⟨rfl, R30, rfl, hD9⟩ := hp10
              rw [e8] at hD9
              rw [bset_bset]
              have hT := t_stepo hV hn3 b1 b15 hs2 c_88 hD9 hT
              have hV := (rdV_step hV hn3 hs2 c_88 hD9).1
              have e8 : bset B (I 8) R30 (I 8) = R30 := bset_s _ _ _
              have e7 : bset B (I 8) R30 (I 7) = B (I 7) := bset_n r3
              have eF : bset B (I 8) R30 (I (100 + j)) = B (I (100 + j)) := bset_n hF8
              refine n_iinc hC dX0_gives_102 (v := nI 0) rfl rfl ?_
              refine n_goto hC (tgt := 74) dX0_gives_105 (by decide) ?_
              refine n_iload hC dX0_gives_74 rfl ?_
              refine n_if_leN hC (tgt := 108) dX0_gives_76 (by decide) (by omega) (fun c_76 => ?_) (fun c_76 => absurd c_76 (by decide))
              refine n_iincN hC dX0_gives_108 (j := 1) (c := k + 1) rfl (by decide) rfl ?_
              refine n_goto hC (tgt := 14) dX0_gives_111 (by decide) ?_
              exact WN.forget (L' := [some (.ref (na 130)), some (.ref (na (bB (I (100 + j)) + 9))), some (.int av), some (.int (nI 1)), some (.int (nI (k + 1))), none, none]) (⟨Or.inr rfl, Or.inr rfl, Or.inr rfl, Or.inr rfl, Or.inr rfl, Or.inl rfl, Or.inl rfl, trivial⟩) (ih14 _ (by omega) (k + 1) R30 rfl (by omega) hV (by rw [mkSq_k, mkEl_1 c_26, trun_s1, mFs_get c_20]; exact hT))
            · skip
              refine n_iconst hC (v := nI 0) dX0_gives_91 (by decide) ?_
              exact n_zret hC dX0_gives_92 rfl (by decide) (by decide) (⟨by rw [mMakes_n (k := k + 1) (by rw [mFs_len]; omega) (by rw [mkSq_k, mkEl_1 c_26, trun_s1, mFs_get c_20]; exact t_refo hV hn3 b1 b15 hs2 c_88 hT)]; rfl, rfl, _, rfl, hR0.trial (by omega) hV.1⟩)
    exact WN.forget (L' := [some (.ref (na 130)), some (.ref (na (bB (I (100 + j)) + 9))), some (.int av), some (.int (nI 1)), some (.int (nI 0)), none, none]) (⟨Or.inr rfl, Or.inr rfl, Or.inr rfl, Or.inr rfl, Or.inr rfl, Or.inl rfl, Or.inl rfl, trivial⟩) (lp14 _ 0 R9 rfl (by omega) hV hT0)
  · skip
    subst e9
    refine n_aload_n hC dX0_gives_0 rfl ?_
    refine x_getR hC 8 q156 dX0_gives_1 rfl (by decide) (by decide) r2 ?_
    refine n_aload_n hC dX0_gives_4 rfl ?_
    refine x_getA hC 10 q158 dX0_gives_5 rfl (by decide) (by decide) ?_
    refine n_callV1v hC (xc_rel (i := (I 8)) (c := (2, 0)) r5 ⟨by decide, by decide⟩ (ct_X9_begins (bB (I 8)) na _ (B (I 8)) (n := mN M 1) r7 hn3 b1 (kk := 110) (f := C 10) (by unfold bB; omega) (xPut_a (j := 10) rfl))) md_X9_begins q365 dX0_gives_8 rfl (((xBlk_o (na := na) (h := h) (X := (C, B, P, I)) (i := (I 8)) (c := (2, 0)) r5 ⟨by decide, by decide⟩) 9 (by decide)).trans (if_pos rfl)) rfl rfl ⟨rfl, rfl, by decide, by decide⟩ rfl (Nat.le_of_ble_eq_true rfl) (by decide) (by decide) (fun na11 h11 hp11 => ?_)
    obtain ⟨rfl, R9, rfl, eR9⟩ := hp11
    obtain ⟨hV, hT0⟩ := t_begin (M := M) r7 b1 (fun p hp => ((gCl.2 hd) p hp).1) eR9
    refine n_iconst hC (v := nI 0) dX0_gives_11 (by decide) ?_
    refine n_istore hC dX0_gives_12 (Nat.le_of_ble_eq_true rfl) ?_
    have lp14 : ∀ d9 : Nat, ∀ (k : Nat) (R2 : nMem), mA M 28 j - k = d9 → (k ≤ mA M 28 j) → (rdV R2 (mN M 1)) → (tSt M R2 (mN M 1) (trun M (mN M 1) (mkSq (mFs M j) av (nI 2) k) (T0 M))) → WN K na (xPut na h (C, (bset B (I 8) R2), P, I)) 0 0 Q9 14 [some (.ref (na 130)), some (.ref (na (bB (I (100 + j)) + 9))), some (.int av), some (.int (nI 2)), some (.int (nI k)), none, none] [] := by
      intro d9
      induction d9 using Nat.strongRecOn with
      | _ d9 ih14 =>
        intro k R2 hd14 hk hV hT
        have e8 : bset B (I 8) R2 (I 8) = R2 := bset_s _ _ _
        have e7 : bset B (I 8) R2 (I 7) = B (I 7) := bset_n r3
        have eF : bset B (I 8) R2 (I (100 + j)) = B (I (100 + j)) := bset_n hF8
        refine n_iload hC dX0_gives_14 rfl ?_
        refine n_aload_n hC dX0_gives_16 rfl ?_
        refine o_getIN hC gW_X12 (xBlk_o (na := na) (h := h) (X := (C, (bset B (I 8) R2), P, I)) (i := (I (100 + j))) (c := (3, 0)) f2 ⟨by decide, by decide⟩) (host := "MaypoleGreen") 1 (v := nI (mA M 28 j)) (by decide) dX0_gives_17 rfl (by decide) (by decide) ((congrFun (congrFun eF 1) 0).trans f3) ?_
        refine n_icmp_geN hC (tgt := 114) dX0_gives_20 (by decide) (by omega) (by omega) (fun c_20 => ?_) (fun c_20 => ?_)
        · skip
          refine n_aload_n hC dX0_gives_114 rfl ?_
          refine x_getR hC 8 q156 dX0_gives_115 rfl (by decide) (by decide) r2 ?_
          refine n_aload_n hC dX0_gives_118 rfl ?_
          refine x_getR hC 7 q155 dX0_gives_119 rfl (by decide) (by decide) r1 ?_
          refine n_callV1z hC (xc_pure (i := (I 8)) (c := (2, 0)) r5 ⟨by decide, by decide⟩ (ct_X9_isLike (bB (I 8)) na _ ((bset B (I 8) R2) (I 8)) (n := mN M 1) (by rw [e8]; exact hV.1) b1 (by rw [e8]; exact hV.2.1) (by rw [e8]; exact hV.2.2.1) (bB (I 7)) ((bset B (I 8) R2) (I 7)) (by unfold bB; omega) (xBlk_o (na := na) (h := h) (X := (C, (bset B (I 8) R2), P, I)) (i := (I 7)) (c := (2, 0)) r4 ⟨by decide, by decide⟩) (by rw [e7, rd_6 r6 b15]; exact r6.2.1) (by rw [e7, rd_6 r6 b15]; exact b15))) md_X9_isLike q756 dX0_gives_122 rfl (((xBlk_o (na := na) (h := h) (X := (C, (bset B (I 8) R2), P, I)) (i := (I 8)) (c := (2, 0)) r5 ⟨by decide, by decide⟩) 9 (by decide)).trans (if_pos rfl)) rfl rfl ⟨rfl, rfl, by decide, by decide⟩ rfl (Nat.le_of_ble_eq_true rfl) (by decide) (by decide) (fun r12 na12 h12 hp12 => ?_)
          obtain ⟨rfl, rfl, rfl⟩ := hp12
          exact n_zret hC dX0_gives_125 (nbo_nar _) (by decide) (by decide) (⟨by rw [e8, e7, t_end2 r6 b15 rfl hT, mMakes_e, mFs_len, show k = mA M 28 j by omega], rfl, _, rfl, hR0.trial (by omega) hV.1⟩)
        · skip
          obtain ⟨-, hs9⟩ := iG j k hj c_20
          have hs8 := stp_lt hs9
          have hu8 := und_lt hs8
          have hokk := hok k c_20
          refine n_iload hC dX0_gives_23 rfl ?_
          refine n_iload_n hC dX0_gives_25 rfl ?_
          refine n_icmp_ne hC (tgt := 47) dX0_gives_26 (by decide) (fun c_26 => ?_) (fun c_26 => ?_)
          · skip
            refine n_aload_n hC dX0_gives_47 rfl ?_
            refine o_getAN hC gW_X12 (xBlk_o (na := na) (h := h) (X := (C, (bset B (I 8) R2), P, I)) (i := (I (100 + j))) (c := (3, 0)) f2 ⟨by decide, by decide⟩) (host := "MaypoleGreen") 0 (by decide) dX0_gives_48 rfl (by decide) (by decide) ?_
            refine n_iload hC dX0_gives_51 rfl ?_
            refine o_aldN hC gW_X12 (xBlk_o (na := na) (h := h) (X := (C, (bset B (I 8) R2), P, I)) (i := (I (100 + j))) (c := (3, 0)) f2 ⟨by decide, by decide⟩) 0 (v := nI (mA M 29 (300 * j + k))) dX0_gives_53 rfl gI_X12_0 (by show k < 300; omega) ((congrFun (congrFun eF 0) _).trans (f5 k c_20)) ?_
            refine n_istore hC dX0_gives_54 (Nat.le_of_ble_eq_true rfl) ?_
            refine n_iload hC dX0_gives_56 rfl ?_
            refine n_iload_n hC dX0_gives_58 rfl ?_
            refine n_icmp_ne hC (tgt := 67) dX0_gives_59 (by decide) (fun c_59 => ?_) (fun c_59 => absurd c_59 (c_26))
            refine n_iconst hC (v := nI 1) dX0_gives_67 (by decide) ?_
            refine n_goto hC (tgt := 72) dX0_gives_68 (by decide) ?_
            refine n_istore hC dX0_gives_72 (Nat.le_of_ble_eq_true rfl) ?_
            have hs2 : (mA M 29 (300 * j + k)) < 100 → (mA M 29 (300 * j + k)) / 10 < mN M 1 ∧ (mA M 29 (300 * j + k)) % 10 ≤ 1 := fun z => ⟨by have := hokk (fun y => c_26 y.1); omega, by unfold stp at hs9; omega⟩
            refine n_iload hC dX0_gives_74 rfl ?_
            refine n_if_leN hC (tgt := 108) dX0_gives_76 (by decide) (by omega) (fun c_76 => absurd c_76 (by decide)) (fun c_76 => ?_)
            refine n_aload_n hC dX0_gives_79 rfl ?_
            refine x_getR hC 8 q156 dX0_gives_80 rfl (by decide) (by decide) r2 ?_
            refine n_iload hC dX0_gives_83 rfl ?_
            refine n_callV1i hC (xc_pure (i := (I 8)) (c := (2, 0)) r5 ⟨by decide, by decide⟩ (ct_X9_refuses (bB (I 8)) na _ ((bset B (I 8) R2) (I 8)) (n := mN M 1) (by rw [e8]; exact hV.1) hn3 b1 (by rw [e8]; exact hV.2.1) (by rw [e8]; exact hV.2.2.1) (by rw [e8]; exact hV.2.2.2.1) (by rw [e8]; exact hV.2.2.2.2.1) (by rw [e8]; exact hV.2.2.2.2.2) (s := (mA M 29 (300 * j + k))) (by omega) hs2)) md_X9_refuses q409 dX0_gives_85 rfl (((xBlk_o (na := na) (h := h) (X := (C, (bset B (I 8) R2), P, I)) (i := (I 8)) (c := (2, 0)) r5 ⟨by decide, by decide⟩) 9 (by decide)).trans (if_pos rfl)) rfl rfl ⟨rfl, rfl, by decide, by decide⟩ rfl (Nat.le_of_ble_eq_true rfl) (by decide) (by decide) (fun r13 na13 h13 hp13 => ?_)
            obtain ⟨rfl, rfl, rfl⟩ := hp13
            rw [e8]
            refine n_if_eq hC (tgt := 93) dX0_gives_88 (by decide) (fun c_88 => ?_) (fun c_88 => ?_)
            · skip
              refine n_aload_n hC dX0_gives_93 rfl ?_
              refine x_getR hC 8 q156 dX0_gives_94 rfl (by decide) (by decide) r2 ?_
              refine n_iload hC dX0_gives_97 rfl ?_
              refine n_callV1v hC (xc_rel (i := (I 8)) (c := (2, 0)) r5 ⟨by decide, by decide⟩ (ct_X9_does (bB (I 8)) na _ ((bset B (I 8) R2) (I 8)) (n := mN M 1) (by rw [e8]; exact hV.1) hn3 b1 (by rw [e8]; exact hV.2.1) (by rw [e8]; exact hV.2.2.2.1) (by rw [e8]; exact hV.2.2.2.2.1) (by rw [e8]; exact hV.2.2.2.2.2) (s := (mA M 29 (300 * j + k))) (by omega) hs2 (fun z => by rw [e8]; have := (rf_0 c_88).2 z; have := hV.2.2.1; omega))) md_X9_does q417 dX0_gives_99 rfl (((xBlk_o (na := na) (h := h) (X := (C, (bset B (I 8) R2), P, I)) (i := (I 8)) (c := (2, 0)) r5 ⟨by decide, by decide⟩) 9 (by decide)).trans (if_pos rfl)) rfl rfl ⟨rfl, rfl, by decide, by decide⟩ rfl (Nat.le_of_ble_eq_true rfl) (by decide) (by decide) (fun na14 h14 hp14 => ?_)
              obtain ⟨rfl, R34, rfl, hD9⟩ := hp14
              rw [e8] at hD9
              rw [bset_bset]
              have hT := t_stepo hV hn3 b1 b15 hs2 c_88 hD9 hT
              have hV := (rdV_step hV hn3 hs2 c_88 hD9).1
              have e8 : bset B (I 8) R34 (I 8) = R34 := bset_s _ _ _
              have e7 : bset B (I 8) R34 (I 7) = B (I 7) := bset_n r3
              have eF : bset B (I 8) R34 (I (100 + j)) = B (I (100 + j)) := bset_n hF8
              refine n_iinc hC dX0_gives_102 (v := nI 0) rfl rfl ?_
              refine n_goto hC (tgt := 74) dX0_gives_105 (by decide) ?_
              refine n_iload hC dX0_gives_74 rfl ?_
              refine n_if_leN hC (tgt := 108) dX0_gives_76 (by decide) (by omega) (fun c_76 => ?_) (fun c_76 => absurd c_76 (by decide))
              refine n_iincN hC dX0_gives_108 (j := 1) (c := k + 1) rfl (by decide) rfl ?_
              refine n_goto hC (tgt := 14) dX0_gives_111 (by decide) ?_
              exact WN.forget (L' := [some (.ref (na 130)), some (.ref (na (bB (I (100 + j)) + 9))), some (.int av), some (.int (nI 2)), some (.int (nI (k + 1))), none, none]) (⟨Or.inr rfl, Or.inr rfl, Or.inr rfl, Or.inr rfl, Or.inr rfl, Or.inl rfl, Or.inl rfl, trivial⟩) (ih14 _ (by omega) (k + 1) R34 rfl (by omega) hV (by rw [mkSq_k, mkEl_n c_26, trun_s1, mFs_get c_20]; exact hT))
            · skip
              refine n_iconst hC (v := nI 0) dX0_gives_91 (by decide) ?_
              exact n_zret hC dX0_gives_92 rfl (by decide) (by decide) (⟨by rw [mMakes_n (k := k + 1) (by rw [mFs_len]; omega) (by rw [mkSq_k, mkEl_n c_26, trun_s1, mFs_get c_20]; exact t_refo hV hn3 b1 b15 hs2 c_88 hT)]; rfl, rfl, _, rfl, hR0.trial (by omega) hV.1⟩)
          · skip
            refine n_iload_n hC dX0_gives_29 rfl ?_
            refine n_iconst hC (v := nI 1) dX0_gives_30 (by decide) ?_
            refine n_icmp_neN hC (tgt := 47) dX0_gives_31 (by decide) (by omega) (by omega) (fun c_31 => ?_) (fun c_31 => absurd c_31 (by decide))
            refine n_aload_n hC dX0_gives_47 rfl ?_
            refine o_getAN hC gW_X12 (xBlk_o (na := na) (h := h) (X := (C, (bset B (I 8) R2), P, I)) (i := (I (100 + j))) (c := (3, 0)) f2 ⟨by decide, by decide⟩) (host := "MaypoleGreen") 0 (by decide) dX0_gives_48 rfl (by decide) (by decide) ?_
            refine n_iload hC dX0_gives_51 rfl ?_
            refine o_aldN hC gW_X12 (xBlk_o (na := na) (h := h) (X := (C, (bset B (I 8) R2), P, I)) (i := (I (100 + j))) (c := (3, 0)) f2 ⟨by decide, by decide⟩) 0 (v := nI (mA M 29 (300 * j + k))) dX0_gives_53 rfl gI_X12_0 (by show k < 300; omega) ((congrFun (congrFun eF 0) _).trans (f5 k c_20)) ?_
            refine n_istore hC dX0_gives_54 (Nat.le_of_ble_eq_true rfl) ?_
            refine n_iload hC dX0_gives_56 rfl ?_
            refine n_iload_n hC dX0_gives_58 rfl ?_
            refine n_icmp_ne hC (tgt := 67) dX0_gives_59 (by decide) (fun c_59 => ((c_59 c_26).elim)) (fun c_59 => ?_)
            refine n_iload_n hC dX0_gives_62 rfl ?_
            refine n_iconst hC (v := nI 1) dX0_gives_63 (by decide) ?_
            refine n_icmp_neN hC (tgt := 71) dX0_gives_64 (by decide) (by omega) (by omega) (fun c_64 => ?_) (fun c_64 => absurd c_64 (by decide))
            refine n_iload_n hC dX0_gives_71 rfl ?_
            refine n_istore hC dX0_gives_72 (Nat.le_of_ble_eq_true rfl) ?_
            have hs2 : (mA M 29 (300 * j + k)) < 100 → (mA M 29 (300 * j + k)) / 10 < mN M 1 ∧ (mA M 29 (300 * j + k)) % 10 ≤ 1 := fun z => ⟨by have := hokk (fun y => absurd y.2 (by decide)); omega, by unfold stp at hs9; omega⟩
            refine n_iload hC dX0_gives_74 rfl ?_
            refine n_if_leN hC (tgt := 108) dX0_gives_76 (by decide) (by omega) (fun c_76 => absurd c_76 (by decide)) (fun c_76 => ?_)
            refine n_aload_n hC dX0_gives_79 rfl ?_
            refine x_getR hC 8 q156 dX0_gives_80 rfl (by decide) (by decide) r2 ?_
            refine n_iload hC dX0_gives_83 rfl ?_
            refine n_callV1i hC (xc_pure (i := (I 8)) (c := (2, 0)) r5 ⟨by decide, by decide⟩ (ct_X9_refuses (bB (I 8)) na _ ((bset B (I 8) R2) (I 8)) (n := mN M 1) (by rw [e8]; exact hV.1) hn3 b1 (by rw [e8]; exact hV.2.1) (by rw [e8]; exact hV.2.2.1) (by rw [e8]; exact hV.2.2.2.1) (by rw [e8]; exact hV.2.2.2.2.1) (by rw [e8]; exact hV.2.2.2.2.2) (s := (mA M 29 (300 * j + k))) (by omega) hs2)) md_X9_refuses q409 dX0_gives_85 rfl (((xBlk_o (na := na) (h := h) (X := (C, (bset B (I 8) R2), P, I)) (i := (I 8)) (c := (2, 0)) r5 ⟨by decide, by decide⟩) 9 (by decide)).trans (if_pos rfl)) rfl rfl ⟨rfl, rfl, by decide, by decide⟩ rfl (Nat.le_of_ble_eq_true rfl) (by decide) (by decide) (fun r15 na15 h15 hp15 => ?_)
            obtain ⟨rfl, rfl, rfl⟩ := hp15
            rw [e8]
            refine n_if_eq hC (tgt := 93) dX0_gives_88 (by decide) (fun c_88 => ?_) (fun c_88 => ?_)
            · skip
              refine n_aload_n hC dX0_gives_93 rfl ?_
              refine x_getR hC 8 q156 dX0_gives_94 rfl (by decide) (by decide) r2 ?_
              refine n_iload hC dX0_gives_97 rfl ?_
              refine n_callV1v hC (xc_rel (i := (I 8)) (c := (2, 0)) r5 ⟨by decide, by decide⟩ (ct_X9_does (bB (I 8)) na _ ((bset B (I 8) R2) (I 8)) (n := mN M 1) (by rw [e8]; exact hV.1) hn3 b1 (by rw [e8]; exact hV.2.1) (by rw [e8]; exact hV.2.2.2.1) (by rw [e8]; exact hV.2.2.2.2.1) (by rw [e8]; exact hV.2.2.2.2.2) (s := (mA M 29 (300 * j + k))) (by omega) hs2 (fun z => by rw [e8]; have := (rf_0 c_88).2 z; have := hV.2.2.1; omega))) md_X9_does q417 dX0_gives_99 rfl (((xBlk_o (na := na) (h := h) (X := (C, (bset B (I 8) R2), P, I)) (i := (I 8)) (c := (2, 0)) r5 ⟨by decide, by decide⟩) 9 (by decide)).trans (if_pos rfl)) rfl rfl ⟨rfl, rfl, by decide, by decide⟩ rfl (Nat.le_of_ble_eq_true rfl) (by decide) (by decide) (fun na16 h16 hp16 => ?_)
              obtain ⟨rfl, R36, rfl, hD9⟩ := hp16
              rw [e8] at hD9
              rw [bset_bset]
              have hT := t_stepo hV hn3 b1 b15 hs2 c_88 hD9 hT
              have hV := (rdV_step hV hn3 hs2 c_88 hD9).1
              have e8 : bset B (I 8) R36 (I 8) = R36 := bset_s _ _ _
              have e7 : bset B (I 8) R36 (I 7) = B (I 7) := bset_n r3
              have eF : bset B (I 8) R36 (I (100 + j)) = B (I (100 + j)) := bset_n hF8
              refine n_iinc hC dX0_gives_102 (v := nI 1) rfl rfl ?_
              refine n_goto hC (tgt := 74) dX0_gives_105 (by decide) ?_
              refine n_iload hC dX0_gives_74 rfl ?_
              refine n_if_leN hC (tgt := 108) dX0_gives_76 (by decide) (by omega) (fun c_76 => absurd c_76 (by decide)) (fun c_76 => ?_)
              refine n_aload_n hC dX0_gives_79 rfl ?_
              refine x_getR hC 8 q156 dX0_gives_80 rfl (by decide) (by decide) r2 ?_
              refine n_iload hC dX0_gives_83 rfl ?_
              refine n_callV1i hC (xc_pure (i := (I 8)) (c := (2, 0)) r5 ⟨by decide, by decide⟩ (ct_X9_refuses (bB (I 8)) na _ ((bset B (I 8) R36) (I 8)) (n := mN M 1) (by rw [e8]; exact hV.1) hn3 b1 (by rw [e8]; exact hV.2.1) (by rw [e8]; exact hV.2.2.1) (by rw [e8]; exact hV.2.2.2.1) (by rw [e8]; exact hV.2.2.2.2.1) (by rw [e8]; exact hV.2.2.2.2.2) (s := (mA M 29 (300 * j + k))) (by omega) hs2)) md_X9_refuses q409 dX0_gives_85 rfl (((xBlk_o (na := na) (h := h) (X := (C, (bset B (I 8) R36), P, I)) (i := (I 8)) (c := (2, 0)) r5 ⟨by decide, by decide⟩) 9 (by decide)).trans (if_pos rfl)) rfl rfl ⟨rfl, rfl, by decide, by decide⟩ rfl (Nat.le_of_ble_eq_true rfl) (by decide) (by decide) (fun r17 na17 h17 hp17 => ?_)
              obtain ⟨rfl, rfl, rfl⟩ := hp17
              rw [e8]
              refine n_if_eq hC (tgt := 93) dX0_gives_88 (by decide) (fun c_88 => ?_) (fun c_88 => ?_)
              · skip
                refine n_aload_n hC dX0_gives_93 rfl ?_
                refine x_getR hC 8 q156 dX0_gives_94 rfl (by decide) (by decide) r2 ?_
                refine n_iload hC dX0_gives_97 rfl ?_
                refine n_callV1v hC (xc_rel (i := (I 8)) (c := (2, 0)) r5 ⟨by decide, by decide⟩ (ct_X9_does (bB (I 8)) na _ ((bset B (I 8) R36) (I 8)) (n := mN M 1) (by rw [e8]; exact hV.1) hn3 b1 (by rw [e8]; exact hV.2.1) (by rw [e8]; exact hV.2.2.2.1) (by rw [e8]; exact hV.2.2.2.2.1) (by rw [e8]; exact hV.2.2.2.2.2) (s := (mA M 29 (300 * j + k))) (by omega) hs2 (fun z => by rw [e8]; have := (rf_0 c_88).2 z; have := hV.2.2.1; omega))) md_X9_does q417 dX0_gives_99 rfl (((xBlk_o (na := na) (h := h) (X := (C, (bset B (I 8) R36), P, I)) (i := (I 8)) (c := (2, 0)) r5 ⟨by decide, by decide⟩) 9 (by decide)).trans (if_pos rfl)) rfl rfl ⟨rfl, rfl, by decide, by decide⟩ rfl (Nat.le_of_ble_eq_true rfl) (by decide) (by decide) (fun na18 h18 hp18 => ?_)
                obtain ⟨rfl, R38, rfl, hD9⟩ := hp18
                rw [e8] at hD9
                rw [bset_bset]
                have hT := t_stepo hV hn3 b1 b15 hs2 c_88 hD9 hT
                have hV := (rdV_step hV hn3 hs2 c_88 hD9).1
                have e8 : bset B (I 8) R38 (I 8) = R38 := bset_s _ _ _
                have e7 : bset B (I 8) R38 (I 7) = B (I 7) := bset_n r3
                have eF : bset B (I 8) R38 (I (100 + j)) = B (I (100 + j)) := bset_n hF8
                refine n_iinc hC dX0_gives_102 (v := nI 0) rfl rfl ?_
                refine n_goto hC (tgt := 74) dX0_gives_105 (by decide) ?_
                refine n_iload hC dX0_gives_74 rfl ?_
                refine n_if_leN hC (tgt := 108) dX0_gives_76 (by decide) (by omega) (fun c_76 => ?_) (fun c_76 => absurd c_76 (by decide))
                refine n_iincN hC dX0_gives_108 (j := 1) (c := k + 1) rfl (by decide) rfl ?_
                refine n_goto hC (tgt := 14) dX0_gives_111 (by decide) ?_
                exact WN.forget (L' := [some (.ref (na 130)), some (.ref (na (bB (I (100 + j)) + 9))), some (.int av), some (.int (nI 2)), some (.int (nI (k + 1))), none, none]) (⟨Or.inr rfl, Or.inr rfl, Or.inr rfl, Or.inr rfl, Or.inr rfl, Or.inl rfl, Or.inl rfl, trivial⟩) (ih14 _ (by omega) (k + 1) R38 rfl (by omega) hV (by rw [mkSq_k, mkEl_2 c_26, trun_s2, mFs_get c_20]; exact hT))
              · skip
                refine n_iconst hC (v := nI 0) dX0_gives_91 (by decide) ?_
                exact n_zret hC dX0_gives_92 rfl (by decide) (by decide) (⟨by rw [mMakes_n (k := k + 1) (by rw [mFs_len]; omega) (by rw [mkSq_k, mkEl_2 c_26, trun_s2, mFs_get c_20]; exact t_refo hV hn3 b1 b15 hs2 c_88 hT)]; rfl, rfl, _, rfl, hR0.trial (by omega) hV.1⟩)
            · skip
              refine n_iconst hC (v := nI 0) dX0_gives_91 (by decide) ?_
              exact n_zret hC dX0_gives_92 rfl (by decide) (by decide) (⟨by rw [mMakes_n (k := k + 1) (by rw [mFs_len]; omega) (by rw [mkSq_k, mkEl_2 c_26, trun_s2, mFs_get c_20]; exact by rw [t_refo hV hn3 b1 b15 hs2 c_88 hT]; rfl)]; rfl, rfl, _, rfl, hR0.trial (by omega) hV.1⟩)
    exact WN.forget (L' := [some (.ref (na 130)), some (.ref (na (bB (I (100 + j)) + 9))), some (.int av), some (.int (nI 2)), some (.int (nI 0)), none, none]) (⟨Or.inr rfl, Or.inr rfl, Or.inr rfl, Or.inr rfl, Or.inr rfl, Or.inl rfl, Or.inl rfl, trivial⟩) (lp14 _ 0 R9 rfl (by omega) hV hT0)

