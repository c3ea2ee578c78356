/-! ===== THE CLASS: Math's own methods, acts, trace ===== -/
set_option maxRecDepth 100000
theorem trace_no {i : Int32} {M : nMem} (hb : mN M 55 ≤ 1000) (h : nin i (min (mN M 55) 20) = false) : o_trace i M = (-1, M) := by
  unfold o_trace
  rw [if_neg]
  rintro ⟨h1, h2⟩
  obtain ⟨j, -, h3, rfl⟩ := (nrg_nn (by decide) (by decide)).mp h1
  rw [nI_ltI (by omega) (by omega)] at h2
  rw [nin_nI (by omega)] at h
  exact absurd (of_decide_eq_false h) (by omega)
set_option maxHeartbeats 4000000 in
set_option maxRecDepth 100000 in
theorem xt_X0_trace (na : nA) (h : nH) (C : nMem) (B : Nat → nMem) (P : Nat → Nat × Nat) (I : Nat → Nat) (M : nMem) (hR : xRel (C, B, P, I) M) (hI : mInv M) (i : Int32) : nM yX0_trace cX0_trace 2 (some .int) (nRm 3 0 0) [.ref (na 130), .int i] na (xPut na h (C, B, P, I)) (nQi (xOp na h (o_trace i M))) 0 0 := by
  refine nM.ofN RX0 rfl (by decide) (by intro v hv; simp only [List.mem_cons, List.not_mem_nil, or_false] at hv; rcases hv with rfl | rfl <;> rfl) (Nat.le_of_ble_eq_true rfl) (fun K hC hnm => ?_)
  show WN K na (xPut na h (C, B, P, I)) 0 0 (nE K (nQi (xOp na h (o_trace i M))) 0 0) 0 [some (.ref (na 130)), some (.int i)] []
  let Q9 : State → Prop := nE K (nQi (xOp na h (o_trace i M))) 0 0
  show WN K na (xPut na h (C, B, P, I)) 0 0 Q9 0 [some (.ref (na 130)), some (.int i)] []
  have hR0 := hR
  obtain ⟨hw, gPe, gRi, gCl, gSt, gTh, gFi, gTx, gTr, gTp, gRd, gOr⟩ := hR
  dsimp only at hw gPe gRi gCl gSt gTh gFi gTx gTr gTp gRd gOr
  obtain ⟨⟨h0, b0⟩, ⟨h1, b1a, b1⟩, ⟨h11, b11⟩, ⟨h14, b14⟩, ⟨h15, b15, b15n⟩, ⟨h20, b20⟩, ⟨h26, b26⟩, ⟨h27, b27⟩, ⟨h55, b55⟩, iP, iH, iHi, iHd, iC, iT, iF, iG, iS, iZ⟩ := hI
  refine n_iload_n hC dX0_trace_0 rfl ?_
  refine n_iconst hC (v := nI 0) dX0_trace_1 (by decide) ?_
  refine n_aload_n hC dX0_trace_2 rfl ?_
  obtain ⟨t1, t2, t3⟩ := gTr
  refine x_getT hC q165 dX0_trace_3 rfl ?_
  refine o_getIN hC gW_X1 (xBlk_o (na := na) (h := h) (X := (C, B, P, I)) (i := 0) (c := (1, 0)) t1 ⟨by decide, by decide⟩) (host := "MaypoleGreen") 1 (v := nI (mN M 55)) (by decide) dX0_trace_6 rfl (by decide) (by decide) (t2.trans h55) ?_
  refine n_bipush hC (v := nI 20) dX0_trace_9 (by decide) ?_
  refine n_mmin hC q977 q978 q91 q979 (by omega) (by omega) dX0_trace_11 rfl (by decide) (Nat.le_of_ble_eq_true rfl) (by decide) (by decide) ?_
  refine n_iconst hC (v := nI 1) dX0_trace_14 (by decide) ?_
  refine n_isub hC dX0_trace_15 ?_
  refine n_callS3z hC (ct_X0_in na _ i (nI 0) ((nI (min (mN M 55) 20)) - (nI 1))) ms_X0_in q243 dX0_trace_16 ⟨rfl, rfl, by decide, by decide⟩ rfl (Nat.le_of_ble_eq_true rfl) (by decide) (by decide) (fun r0 na0 h0 hp0 => ?_)
  obtain ⟨rfl, rfl, rfl⟩ := hp0
  rw [show nrg i (nI 0) (nI (min (mN M 55) 20) - nI 1) = nin i (min (mN M 55) 20) from nrg_in (by omega)]
  refine n_if_eqB hC (tgt := 34) dX0_trace_19 (by decide) (fun c_19 => ?_) (fun c_19 => ?_)
  · skip
    refine n_iconst hC (v := (-1)) dX0_trace_34 (by decide) ?_
    exact n_iret hC dX0_trace_35 (by decide) (by decide) (xOp.mk (M2 := M) (trace_no (by omega) c_19) hR0)
  · skip
    obtain ⟨j, hj, ej⟩ := (nin_t (by omega)).mp c_19
    subst ej
    have hjc : (nI j).toNatClampNeg = j := nI_clamp (by omega)
    refine n_aload_n hC dX0_trace_22 rfl ?_
    refine x_getT hC q165 dX0_trace_23 rfl ?_
    refine o_getAN hC gW_X1 (xBlk_o (na := na) (h := h) (X := (C, B, P, I)) (i := 0) (c := (1, 0)) t1 ⟨by decide, by decide⟩) (host := "MaypoleGreen") 0 (by decide) dX0_trace_26 rfl (by decide) (by decide) ?_
    refine n_iload_n hC dX0_trace_29 rfl ?_
    refine o_aldN hC gW_X1 (xBlk_o (na := na) (h := h) (X := (C, B, P, I)) (i := 0) (c := (1, 0)) t1 ⟨by decide, by decide⟩) 0 (v := M 56 j) dX0_trace_30 rfl gI_X1_0 (by show j < 20; omega) (t3 j (by omega) (by omega)) ?_
    refine n_goto hC (tgt := 35) dX0_trace_31 (by decide) ?_
    exact n_iret hC dX0_trace_35 (by decide) (by decide) (xOp.mk (M2 := M) (by unfold o_trace; rw [if_pos ⟨(nrg_nn (by decide) (by decide)).mpr ⟨j, by omega, by omega, rfl⟩, (nI_ltI (by omega) (by omega)).mpr (by omega)⟩, hjc]) hR0)

theorem xRel.run0 {C : nMem} {B : Nat → nMem} {P : Nat → Nat × Nat} {I : Nat → Nat} {M : nMem} (h : xRel (C, B, P, I) M) : xRel (C, bset B 0 (mset (B 0) 1 (fun _ => nI 0)), P, I) (mset M 55 (fun _ => nI 0)) := by
  obtain ⟨hw, gPe, gRi, gCl, gSt, gTh, gFi, gTx, gTr, gTp, gRd, gOr⟩ := h
  dsimp only at hw gPe gRi gCl gSt gTh gFi gTx gTr gTp gRd gOr
  obtain ⟨t1, t2, t3⟩ := gTr
  have hFi : xgFi C B P I (mset M 55 (fun _ => nI 0)) := gFi
  have hTp : xgTp B P I (mset M 55 (fun _ => nI 0)) := gTp
  have hRd : xgRd B P I (mset M 55 (fun _ => nI 0)) := gRd
  refine ⟨hw, gPe, gRi, gCl, gSt, gTh, hFi.bs (by rw [t1]; decide), gTx, ⟨t1, ?_, fun i h1 h2 => ?_⟩, hTp.bs (by rw [t1]; decide), hRd.bs (by rw [t1]; decide), gOr.bs (by rw [t1]; decide)⟩
  · dsimp only
    rw [bset_s]
    rfl
  · rw [mN_of (M := mset M 55 (fun _ => nI 0)) (k := 55) (n := 0) rfl (by decide)] at h2
    omega
set_option maxHeartbeats 4000000 in
set_option maxRecDepth 100000 in
theorem xt_X0_act (na : nA) (h : nH) (C : nMem) (B : Nat → nMem) (P : Nat → Nat × Nat) (I : Nat → Nat) (M : nMem) (hR : xRel (C, B, P, I) M) (hI : mInv M) (i a x : Int32) : nM yX0_act cX0_act 5 (some .int) (nRm 8 0 0) [.ref (na 130), .int i, .int a, .int x] na (xPut na h (C, B, P, I)) (nQi (xOp na h (o_act i a x M))) 0 0 := by
  refine nM.ofN RX0 rfl (by decide) (by intro v hv; simp only [List.mem_cons, List.not_mem_nil, or_false] at hv; rcases hv with rfl | rfl | rfl | rfl <;> rfl) (Nat.le_of_ble_eq_true rfl) (fun K hC hnm => ?_)
  show WN K na (xPut na h (C, B, P, I)) 0 0 (nE K (nQi (xOp na h (o_act i a x M))) 0 0) 0 [some (.ref (na 130)), some (.int i), some (.int a), some (.int x), none] []
  let Q9 : State → Prop := nE K (nQi (xOp na h (o_act i a x M))) 0 0
  show WN K na (xPut na h (C, B, P, I)) 0 0 Q9 0 [some (.ref (na 130)), some (.int i), some (.int a), some (.int x), none] []
  have hR0 := hR
  obtain ⟨hw, gPe, gRi, gCl, gSt, gTh, gFi, gTx, gTr, gTp, gRd, gOr⟩ := hR
  dsimp only at hw gPe gRi gCl gSt gTh gFi gTx gTr gTp gRd gOr
  obtain ⟨⟨h0, b0⟩, ⟨h1, b1a, b1⟩, ⟨h11, b11⟩, ⟨h14, b14⟩, ⟨h15, b15, b15n⟩, ⟨h20, b20⟩, ⟨h26, b26⟩, ⟨h27, b27⟩, ⟨h55, b55⟩, iP, iH, iHi, iHd, iC, iT, iF, iG, iS, iZ⟩ := hI
  refine n_aload_n hC dX0_act_0 rfl ?_
  refine x_getT hC q165 dX0_act_1 rfl ?_
  refine n_iconst hC (v := nI 0) dX0_act_4 (by decide) ?_
  refine xb_putIN hC (i := 0) (c := (1, 0)) gW_X1 gTr.1 ⟨by decide, by decide⟩ (host := "MaypoleGreen") 1 (by decide) dX0_act_5 rfl (by decide) rfl rfl rfl rfl rfl ?_
  have hR1 := hR0.run0
  refine n_aload_n hC dX0_act_8 rfl ?_
  refine n_iload_n hC dX0_act_9 rfl ?_
  refine n_callV1z hC (ct_X0_isPerson na _ _ _ _ _ (n := mN M 0) (gPe.1.trans h0) (by omega) i) md_X0_isPerson q377 dX0_act_10 rfl xPut_o rfl rfl ⟨rfl, rfl, by decide, by decide⟩ rfl (Nat.le_of_ble_eq_true rfl) (by decide) (by decide) (fun r0 na0 h0 hp0 => ?_)
  obtain ⟨rfl, rfl, rfl⟩ := hp0
  refine n_if_eqB hC (tgt := 25) dX0_act_13 (by decide) (fun c_13 => ?_) (fun c_13 => ?_)
  · skip
    refine n_iconst hC (v := nI 0) dX0_act_25 (by decide) ?_
    exact n_iret hC dX0_act_26 (by decide) (by decide) (xOp.mk (M2 := (mset M 55 (fun _ => nI 0))) (by simp [o_act, c_13]; try rfl) hR1)
  · skip
    refine n_iload_n hC dX0_act_16 rfl ?_
    refine n_iconst hC (v := nI 0) dX0_act_17 (by decide) ?_
    refine n_iconst hC (v := nI 2) dX0_act_18 (by decide) ?_
    refine n_callS3z hC (ct_X0_in na _ a (nI 0) (nI 2)) ms_X0_in q243 dX0_act_19 ⟨rfl, rfl, by decide, by decide⟩ rfl (Nat.le_of_ble_eq_true rfl) (by decide) (by decide) (fun r1 na1 h1 hp1 => ?_)
    obtain ⟨rfl, rfl, rfl⟩ := hp1
    refine n_if_neB hC (tgt := 27) dX0_act_22 (by decide) (fun c_22 => ?_) (fun c_22 => ?_)
    · skip
      obtain ⟨p, hp9, ep⟩ := (nin_t (by omega)).mp c_13
      subst ep
      obtain ⟨z, -, hz, ez⟩ := (nrg_nn (by decide) (by decide)).mp c_22
      subst ez
      have hpc : (nI p).toNatClampNeg = p := nI_clamp (by omega)
      have hzc : (nI z).toNatClampNeg = z := nI_clamp (by omega)
      obtain ⟨q30, q31, q32, q33⟩ := gPe.2.1 p hp9
      have hk4 := (iP p hp9).1.2
      have hp : p < 15 := by omega
      have hR := hR1
      have h55 : (mset M 55 (fun _ => nI 0)) 55 0 = nI (mN (mset M 55 (fun _ => nI 0)) 55) := rfl
      have b55 : mN (mset M 55 (fun _ => nI 0)) 55 = 0 := rfl
      rcases (show z = 0 ∨ z = 1 ∨ z = 2 by omega) with e9 | e9 | e9
      · skip
        subst e9
        refine n_aload_n hC dX0_act_27 rfl ?_
        refine x_getA hC 0 q148 dX0_act_28 rfl (by decide) (by decide) ?_
        refine n_iload_n hC dX0_act_31 rfl ?_
        refine x_per hC dX0_act_32 rfl (by omega) q33 ?_
        refine n_astore hC dX0_act_33 (Nat.le_of_ble_eq_true rfl) ?_
        refine n_iload_n hC dX0_act_35 rfl ?_
        refine n_if_neN hC (tgt := 48) dX0_act_36 (by decide) (by omega) (fun c_36 => absurd c_36 (by decide)) (fun c_36 => ?_)
        refine n_aload hC dX0_act_39 rfl ?_
        refine n_iload_n hC dX0_act_41 rfl ?_
        rcases (show mA M 2 p = 0 ∨ mA M 2 p = 1 ∨ mA M 2 p = 2 ∨ mA M 2 p = 3 ∨ mA M 2 p = 4 by omega) with hk | hk | hk | hk | hk
        · skip
          rw [hk] at q30
          refine n_callU1i hC (ct_X4_greets_0 na _ C (bset B 0 (mset (B 0) 1 (fun _ => nI 0))) P I (mset M 55 (fun _ => nI 0)) hR h55 (by omega) hp q30 x) q924 q83 q912 q915 q913 q924 q914 q913 ⟨by decide, by decide, by decide +kernel⟩ dX0_act_42 rfl (xPut_p (k := 0) hp q30 (by decide)) rfl ⟨rfl, rfl, by decide, by decide⟩ rfl (Nat.le_of_ble_eq_true rfl) (by decide) (by decide) (fun r2 na2 h2 hp2 => ?_)
          obtain ⟨rfl, rfl, B2, rfl, hR⟩ := hp2
          obtain ⟨h55, e552⟩ := bds_55 (l := [10]) h55 (by show _ + 1 ≤ 1000; omega)
          have e552 : mN (bds ([10]) (mset M 55 (fun _ => nI 0))) 55 = mN (mset M 55 (fun _ => nI 0)) 55 + 1 := e552
          refine n_goto hC (tgt := 68) dX0_act_45 (by decide) ?_
          exact n_iret hC dX0_act_68 (by decide) (by decide) (xOp.mk (M2 := bds (tG 0) (mset M 55 (fun _ => nI 0))) (by simp only [o_act, c_13, c_22, hpc, hzc, Bool.true_eq_false, if_false]; rw [hk, ← q31, ← q32]; rfl) hR)
        · skip
          rw [hk] at q30
          refine n_callU1i hC (ct_X5_greets_1 na _ C (bset B 0 (mset (B 0) 1 (fun _ => nI 0))) P I (mset M 55 (fun _ => nI 0)) hR h55 (by omega) hp q30 x) q918 q84 q912 q915 q913 q924 q916 q917 ⟨by decide, by decide, by decide +kernel⟩ dX0_act_42 rfl (xPut_p (k := 1) hp q30 (by decide)) rfl ⟨rfl, rfl, by decide, by decide⟩ rfl (Nat.le_of_ble_eq_true rfl) (by decide) (by decide) (fun r3 na3 h3 hp3 => ?_)
          obtain ⟨rfl, rfl, B3, rfl, hR⟩ := hp3
          obtain ⟨h55, e553⟩ := bds_55 (l := [20, 10]) h55 (by show _ + 2 ≤ 1000; omega)
          have e553 : mN (bds ([20, 10]) (mset M 55 (fun _ => nI 0))) 55 = mN (mset M 55 (fun _ => nI 0)) 55 + 2 := e553
          refine n_goto hC (tgt := 68) dX0_act_45 (by decide) ?_
          exact n_iret hC dX0_act_68 (by decide) (by decide) (xOp.mk (M2 := bds (tG 1) (mset M 55 (fun _ => nI 0))) (by simp only [o_act, c_13, c_22, hpc, hzc, Bool.true_eq_false, if_false]; rw [hk, ← q31, ← q32]; rfl) hR)
        · skip
          rw [hk] at q30
          refine n_callU1i hC (ct_X4_greets_2 na _ C (bset B 0 (mset (B 0) 1 (fun _ => nI 0))) P I (mset M 55 (fun _ => nI 0)) hR h55 (by omega) hp q30 x) q924 q83 q912 q915 q913 q924 q933 q913 ⟨by decide, by decide, by decide +kernel⟩ dX0_act_42 rfl (xPut_p (k := 2) hp q30 (by decide)) rfl ⟨rfl, rfl, by decide, by decide⟩ rfl (Nat.le_of_ble_eq_true rfl) (by decide) (by decide) (fun r4 na4 h4 hp4 => ?_)
          obtain ⟨rfl, rfl, B4, rfl, hR⟩ := hp4
          obtain ⟨h55, e554⟩ := bds_55 (l := [10]) h55 (by show _ + 1 ≤ 1000; omega)
          have e554 : mN (bds ([10]) (mset M 55 (fun _ => nI 0))) 55 = mN (mset M 55 (fun _ => nI 0)) 55 + 1 := e554
          refine n_goto hC (tgt := 68) dX0_act_45 (by decide) ?_
          exact n_iret hC dX0_act_68 (by decide) (by decide) (xOp.mk (M2 := bds (tG 2) (mset M 55 (fun _ => nI 0))) (by simp only [o_act, c_13, c_22, hpc, hzc, Bool.true_eq_false, if_false]; rw [hk, ← q31, ← q32]; rfl) hR)
        · skip
          rw [hk] at q30
          refine n_callU1i hC (ct_X7_greets_3 na _ C (bset B 0 (mset (B 0) 1 (fun _ => nI 0))) P I (mset M 55 (fun _ => nI 0)) hR h55 (by omega) hp q30 x) q928 q86 q912 q915 q913 q924 q926 q927 ⟨by decide, by decide, by decide +kernel⟩ dX0_act_42 rfl (xPut_p (k := 3) hp q30 (by decide)) rfl ⟨rfl, rfl, by decide, by decide⟩ rfl (Nat.le_of_ble_eq_true rfl) (by decide) (by decide) (fun r5 na5 h5 hp5 => ?_)
          obtain ⟨rfl, rfl, B5, rfl, hR⟩ := hp5
          obtain ⟨h55, e555⟩ := bds_55 (l := [40, 10]) h55 (by show _ + 2 ≤ 1000; omega)
          have e555 : mN (bds ([40, 10]) (mset M 55 (fun _ => nI 0))) 55 = mN (mset M 55 (fun _ => nI 0)) 55 + 2 := e555
          refine n_goto hC (tgt := 68) dX0_act_45 (by decide) ?_
          exact n_iret hC dX0_act_68 (by decide) (by decide) (xOp.mk (M2 := bds (tG 3) (mset M 55 (fun _ => nI 0))) (by simp only [o_act, c_13, c_22, hpc, hzc, Bool.true_eq_false, if_false]; rw [hk, ← q31, ← q32]; rfl) hR)
        · skip
          rw [hk] at q30
          refine n_callU1i hC (ct_X4_greets_4 na _ C (bset B 0 (mset (B 0) 1 (fun _ => nI 0))) P I (mset M 55 (fun _ => nI 0)) hR h55 (by omega) hp q30 x) q924 q83 q912 q915 q913 q924 q934 q913 ⟨by decide, by decide, by decide +kernel⟩ dX0_act_42 rfl (xPut_p (k := 4) hp q30 (by decide)) rfl ⟨rfl, rfl, by decide, by decide⟩ rfl (Nat.le_of_ble_eq_true rfl) (by decide) (by decide) (fun r6 na6 h6 hp6 => ?_)
          obtain ⟨rfl, rfl, B6, rfl, hR⟩ := hp6
          obtain ⟨h55, e556⟩ := bds_55 (l := [10]) h55 (by show _ + 1 ≤ 1000; omega)
          have e556 : mN (bds ([10]) (mset M 55 (fun _ => nI 0))) 55 = mN (mset M 55 (fun _ => nI 0)) 55 + 1 := e556
          refine n_goto hC (tgt := 68) dX0_act_45 (by decide) ?_
          exact n_iret hC dX0_act_68 (by decide) (by decide) (xOp.mk (M2 := bds (tG 4) (mset M 55 (fun _ => nI 0))) (by simp only [o_act, c_13, c_22, hpc, hzc, Bool.true_eq_false, if_false]; rw [hk, ← q31, ← q32]; rfl) hR)
      · skip
        subst e9
        refine n_aload_n hC dX0_act_27 rfl ?_
        refine x_getA hC 0 q148 dX0_act_28 rfl (by decide) (by decide) ?_
        refine n_iload_n hC dX0_act_31 rfl ?_
        refine x_per hC dX0_act_32 rfl (by omega) q33 ?_
        refine n_astore hC dX0_act_33 (Nat.le_of_ble_eq_true rfl) ?_
        refine n_iload_n hC dX0_act_35 rfl ?_
        refine n_if_neN hC (tgt := 48) dX0_act_36 (by decide) (by omega) (fun c_36 => ?_) (fun c_36 => absurd c_36 (by decide))
        refine n_iload_n hC dX0_act_48 rfl ?_
        refine n_iconst hC (v := nI 1) dX0_act_49 (by decide) ?_
        refine n_icmp_neN hC (tgt := 62) dX0_act_50 (by decide) (by omega) (by omega) (fun c_50 => absurd c_50 (by decide)) (fun c_50 => ?_)
        refine n_aload hC dX0_act_53 rfl ?_
        refine n_iload_n hC dX0_act_55 rfl ?_
        rcases (show mA M 2 p = 0 ∨ mA M 2 p = 1 ∨ mA M 2 p = 2 ∨ mA M 2 p = 3 ∨ mA M 2 p = 4 by omega) with hk | hk | hk | hk | hk
        · skip
          rw [hk] at q30
          refine n_callU1i hC (ct_X4_leads_0 na _ C (bset B 0 (mset (B 0) 1 (fun _ => nI 0))) P I (mset M 55 (fun _ => nI 0)) hR h55 (by omega) hp q30 x) q948 q83 q935 q938 q936 q948 q937 q936 ⟨by decide, by decide, by decide +kernel⟩ dX0_act_56 rfl (xPut_p (k := 0) hp q30 (by decide)) rfl ⟨rfl, rfl, by decide, by decide⟩ rfl (Nat.le_of_ble_eq_true rfl) (by decide) (by decide) (fun r7 na7 h7 hp7 => ?_)
          obtain ⟨rfl, rfl, B7, rfl, hR⟩ := hp7
          obtain ⟨h55, e557⟩ := bds_55 (l := tPL 0) h55 (by show _ + 2 ≤ 1000; omega)
          have e557 : mN (bds (tPL 0) (mset M 55 (fun _ => nI 0))) 55 = mN (mset M 55 (fun _ => nI 0)) 55 + 2 := e557
          refine n_goto hC (tgt := 68) dX0_act_59 (by decide) ?_
          exact n_iret hC dX0_act_68 (by decide) (by decide) (xOp.mk (M2 := bds (tL 0) (mset M 55 (fun _ => nI 0))) (by simp only [o_act, c_13, c_22, hpc, hzc, Bool.true_eq_false, if_false]; rw [hk, ← q31, ← q32]; rfl) hR)
        · skip
          rw [hk] at q30
          refine n_callU1i hC (ct_X4_leads_1 na _ C (bset B 0 (mset (B 0) 1 (fun _ => nI 0))) P I (mset M 55 (fun _ => nI 0)) hR h55 (by omega) hp q30 x) q948 q83 q935 q938 q936 q948 q939 q936 ⟨by decide, by decide, by decide +kernel⟩ dX0_act_56 rfl (xPut_p (k := 1) hp q30 (by decide)) rfl ⟨rfl, rfl, by decide, by decide⟩ rfl (Nat.le_of_ble_eq_true rfl) (by decide) (by decide) (fun r8 na8 h8 hp8 => ?_)
          obtain ⟨rfl, rfl, B8, rfl, hR⟩ := hp8
          obtain ⟨h55, e558⟩ := bds_55 (l := tPL 1) h55 (by show _ + 3 ≤ 1000; omega)
          have e558 : mN (bds (tPL 1) (mset M 55 (fun _ => nI 0))) 55 = mN (mset M 55 (fun _ => nI 0)) 55 + 3 := e558
          refine n_goto hC (tgt := 68) dX0_act_59 (by decide) ?_
          exact n_iret hC dX0_act_68 (by decide) (by decide) (xOp.mk (M2 := bds (tL 1) (mset M 55 (fun _ => nI 0))) (by simp only [o_act, c_13, c_22, hpc, hzc, Bool.true_eq_false, if_false]; rw [hk, ← q31, ← q32]; rfl) hR)
        · skip
          rw [hk] at q30
          refine n_callU1i hC (ct_X6_leads_2 na _ C (bset B 0 (mset (B 0) 1 (fun _ => nI 0))) P I (mset M 55 (fun _ => nI 0)) hR h55 (by omega) hp q30 x) q945 q85 q935 q938 q936 q948 q953 q944 ⟨by decide, by decide, by decide +kernel⟩ dX0_act_56 rfl (xPut_p (k := 2) hp q30 (by decide)) rfl ⟨rfl, rfl, by decide, by decide⟩ rfl (Nat.le_of_ble_eq_true rfl) (by decide) (by decide) (fun r9 na9 h9 hp9 => ?_)
          obtain ⟨rfl, rfl, B9, rfl, hR⟩ := hp9
          obtain ⟨h55, e559⟩ := bds_55 (l := tLL 2) h55 (by show _ + 4 ≤ 1000; omega)
          have e559 : mN (bds (tLL 2) (mset M 55 (fun _ => nI 0))) 55 = mN (mset M 55 (fun _ => nI 0)) 55 + 4 := e559
          refine n_goto hC (tgt := 68) dX0_act_59 (by decide) ?_
          exact n_iret hC dX0_act_68 (by decide) (by decide) (xOp.mk (M2 := bds (tL 2) (mset M 55 (fun _ => nI 0))) (by simp only [o_act, c_13, c_22, hpc, hzc, Bool.true_eq_false, if_false]; rw [hk, ← q31, ← q32]; rfl) hR)
        · skip
          rw [hk] at q30
          refine n_callU1i hC (ct_X7_leads_3 na _ C (bset B 0 (mset (B 0) 1 (fun _ => nI 0))) P I (mset M 55 (fun _ => nI 0)) hR h55 (by omega) hp q30 x) q942 q86 q935 q938 q936 q948 q940 q941 ⟨by decide, by decide, by decide +kernel⟩ dX0_act_56 rfl (xPut_p (k := 3) hp q30 (by decide)) rfl ⟨rfl, rfl, by decide, by decide⟩ rfl (Nat.le_of_ble_eq_true rfl) (by decide) (by decide) (fun r10 na10 h10 hp10 => ?_)
          obtain ⟨rfl, rfl, B10, rfl, hR⟩ := hp10
          obtain ⟨h55, e5510⟩ := bds_55 (l := 41 :: tLL 3) h55 (by show _ + 7 ≤ 1000; omega)
          have e5510 : mN (bds (41 :: tLL 3) (mset M 55 (fun _ => nI 0))) 55 = mN (mset M 55 (fun _ => nI 0)) 55 + 7 := e5510
          refine n_goto hC (tgt := 68) dX0_act_59 (by decide) ?_
          exact n_iret hC dX0_act_68 (by decide) (by decide) (xOp.mk (M2 := bds (tL 3) (mset M 55 (fun _ => nI 0))) (by simp only [o_act, c_13, c_22, hpc, hzc, Bool.true_eq_false, if_false]; rw [hk, ← q31, ← q32]; rfl) hR)
        · skip
          rw [hk] at q30
          refine n_callU1i hC (ct_X4_leads_4 na _ C (bset B 0 (mset (B 0) 1 (fun _ => nI 0))) P I (mset M 55 (fun _ => nI 0)) hR h55 (by omega) hp q30 x) q948 q83 q935 q938 q936 q948 q954 q936 ⟨by decide, by decide, by decide +kernel⟩ dX0_act_56 rfl (xPut_p (k := 4) hp q30 (by decide)) rfl ⟨rfl, rfl, by decide, by decide⟩ rfl (Nat.le_of_ble_eq_true rfl) (by decide) (by decide) (fun r11 na11 h11 hp11 => ?_)
          obtain ⟨rfl, rfl, B11, rfl, hR⟩ := hp11
          obtain ⟨h55, e5511⟩ := bds_55 (l := tPL 4) h55 (by show _ + 2 ≤ 1000; omega)
          have e5511 : mN (bds (tPL 4) (mset M 55 (fun _ => nI 0))) 55 = mN (mset M 55 (fun _ => nI 0)) 55 + 2 := e5511
          refine n_goto hC (tgt := 68) dX0_act_59 (by decide) ?_
          exact n_iret hC dX0_act_68 (by decide) (by decide) (xOp.mk (M2 := bds (tL 4) (mset M 55 (fun _ => nI 0))) (by simp only [o_act, c_13, c_22, hpc, hzc, Bool.true_eq_false, if_false]; rw [hk, ← q31, ← q32]; rfl) hR)
      · skip
        subst e9
        refine n_aload_n hC dX0_act_27 rfl ?_
        refine x_getA hC 0 q148 dX0_act_28 rfl (by decide) (by decide) ?_
        refine n_iload_n hC dX0_act_31 rfl ?_
        refine x_per hC dX0_act_32 rfl (by omega) q33 ?_
        refine n_astore hC dX0_act_33 (Nat.le_of_ble_eq_true rfl) ?_
        refine n_iload_n hC dX0_act_35 rfl ?_
        refine n_if_neN hC (tgt := 48) dX0_act_36 (by decide) (by omega) (fun c_36 => ?_) (fun c_36 => absurd c_36 (by decide))
        refine n_iload_n hC dX0_act_48 rfl ?_
        refine n_iconst hC (v := nI 1) dX0_act_49 (by decide) ?_
        refine n_icmp_neN hC (tgt := 62) dX0_act_50 (by decide) (by omega) (by omega) (fun c_50 => ?_) (fun c_50 => absurd c_50 (by decide))
        refine n_aload hC dX0_act_62 rfl ?_
        refine n_iload_n hC dX0_act_64 rfl ?_
        rcases (show mA M 2 p = 0 ∨ mA M 2 p = 1 ∨ mA M 2 p = 2 ∨ mA M 2 p = 3 ∨ mA M 2 p = 4 by omega) with hk | hk | hk | hk | hk
        · skip
          rw [hk] at q30
          refine n_callU1i hC (ct_X4_rests_0 na _ C (bset B 0 (mset (B 0) 1 (fun _ => nI 0))) P I (mset M 55 (fun _ => nI 0)) hR h55 (by omega) hp q30 x) q971 q83 q955 q958 q956 q971 q957 q956 ⟨by decide, by decide, by decide +kernel⟩ dX0_act_65 rfl (xPut_p (k := 0) hp q30 (by decide)) rfl ⟨rfl, rfl, by decide, by decide⟩ rfl (Nat.le_of_ble_eq_true rfl) (by decide) (by decide) (fun r12 na12 h12 hp12 => ?_)
          obtain ⟨rfl, rfl, B12, rfl, hR⟩ := hp12
          obtain ⟨h55, e5512⟩ := bds_55 (l := tPR 0) h55 (by show _ + 3 ≤ 1000; omega)
          have e5512 : mN (bds (tPR 0) (mset M 55 (fun _ => nI 0))) 55 = mN (mset M 55 (fun _ => nI 0)) 55 + 3 := e5512
          exact n_iret hC dX0_act_68 (by decide) (by decide) (xOp.mk (M2 := bds (tR 0) (mset M 55 (fun _ => nI 0))) (by simp only [o_act, c_13, c_22, hpc, hzc, Bool.true_eq_false, if_false]; rw [hk, ← q31, ← q32]; rfl) hR)
        · skip
          rw [hk] at q30
          refine n_callU1i hC (ct_X4_rests_1 na _ C (bset B 0 (mset (B 0) 1 (fun _ => nI 0))) P I (mset M 55 (fun _ => nI 0)) hR h55 (by omega) hp q30 x) q971 q83 q955 q958 q956 q971 q959 q956 ⟨by decide, by decide, by decide +kernel⟩ dX0_act_65 rfl (xPut_p (k := 1) hp q30 (by decide)) rfl ⟨rfl, rfl, by decide, by decide⟩ rfl (Nat.le_of_ble_eq_true rfl) (by decide) (by decide) (fun r13 na13 h13 hp13 => ?_)
          obtain ⟨rfl, rfl, B13, rfl, hR⟩ := hp13
          obtain ⟨h55, e5513⟩ := bds_55 (l := tPR 1) h55 (by show _ + 4 ≤ 1000; omega)
          have e5513 : mN (bds (tPR 1) (mset M 55 (fun _ => nI 0))) 55 = mN (mset M 55 (fun _ => nI 0)) 55 + 4 := e5513
          exact n_iret hC dX0_act_68 (by decide) (by decide) (xOp.mk (M2 := bds (tR 1) (mset M 55 (fun _ => nI 0))) (by simp only [o_act, c_13, c_22, hpc, hzc, Bool.true_eq_false, if_false]; rw [hk, ← q31, ← q32]; rfl) hR)
        · skip
          rw [hk] at q30
          refine n_callU1i hC (ct_X4_rests_2 na _ C (bset B 0 (mset (B 0) 1 (fun _ => nI 0))) P I (mset M 55 (fun _ => nI 0)) hR h55 (by omega) hp q30 x) q971 q83 q955 q958 q956 q971 q961 q956 ⟨by decide, by decide, by decide +kernel⟩ dX0_act_65 rfl (xPut_p (k := 2) hp q30 (by decide)) rfl ⟨rfl, rfl, by decide, by decide⟩ rfl (Nat.le_of_ble_eq_true rfl) (by decide) (by decide) (fun r14 na14 h14 hp14 => ?_)
          obtain ⟨rfl, rfl, B14, rfl, hR⟩ := hp14
          obtain ⟨h55, e5514⟩ := bds_55 (l := tPR 2) h55 (by show _ + 5 ≤ 1000; omega)
          have e5514 : mN (bds (tPR 2) (mset M 55 (fun _ => nI 0))) 55 = mN (mset M 55 (fun _ => nI 0)) 55 + 5 := e5514
          exact n_iret hC dX0_act_68 (by decide) (by decide) (xOp.mk (M2 := bds (tR 2) (mset M 55 (fun _ => nI 0))) (by simp only [o_act, c_13, c_22, hpc, hzc, Bool.true_eq_false, if_false]; rw [hk, ← q31, ← q32]; rfl) hR)
        · skip
          rw [hk] at q30
          refine n_callU1i hC (ct_X4_rests_3 na _ C (bset B 0 (mset (B 0) 1 (fun _ => nI 0))) P I (mset M 55 (fun _ => nI 0)) hR h55 (by omega) hp q30 x) q971 q83 q955 q958 q956 q971 q960 q956 ⟨by decide, by decide, by decide +kernel⟩ dX0_act_65 rfl (xPut_p (k := 3) hp q30 (by decide)) rfl ⟨rfl, rfl, by decide, by decide⟩ rfl (Nat.le_of_ble_eq_true rfl) (by decide) (by decide) (fun r15 na15 h15 hp15 => ?_)
          obtain ⟨rfl, rfl, B15, rfl, hR⟩ := hp15
          obtain ⟨h55, e5515⟩ := bds_55 (l := tPR 3) h55 (by show _ + 8 ≤ 1000; omega)
          have e5515 : mN (bds (tPR 3) (mset M 55 (fun _ => nI 0))) 55 = mN (mset M 55 (fun _ => nI 0)) 55 + 8 := e5515
          exact n_iret hC dX0_act_68 (by decide) (by decide) (xOp.mk (M2 := bds (tR 3) (mset M 55 (fun _ => nI 0))) (by simp only [o_act, c_13, c_22, hpc, hzc, Bool.true_eq_false, if_false]; rw [hk, ← q31, ← q32]; rfl) hR)
        · skip
          rw [hk] at q30
          refine n_callU1i hC (ct_X8_rests_4 na _ C (bset B 0 (mset (B 0) 1 (fun _ => nI 0))) P I (mset M 55 (fun _ => nI 0)) hR h55 (by omega) hp q30 x) q964 q87 q955 q958 q956 q971 q962 q963 ⟨by decide, by decide, by decide +kernel⟩ dX0_act_65 rfl (xPut_p (k := 4) hp q30 (by decide)) rfl ⟨rfl, rfl, by decide, by decide⟩ rfl (Nat.le_of_ble_eq_true rfl) (by decide) (by decide) (fun r16 na16 h16 hp16 => ?_)
          obtain ⟨rfl, rfl, B16, rfl, hR⟩ := hp16
          obtain ⟨h55, e5516⟩ := bds_55 (l := 50 :: (tL 4 ++ tPR 4)) h55 (by show _ + 6 ≤ 1000; omega)
          have e5516 : mN (bds (50 :: (tL 4 ++ tPR 4)) (mset M 55 (fun _ => nI 0))) 55 = mN (mset M 55 (fun _ => nI 0)) 55 + 6 := e5516
          exact n_iret hC dX0_act_68 (by decide) (by decide) (xOp.mk (M2 := bds (tR 4) (mset M 55 (fun _ => nI 0))) (by simp only [o_act, c_13, c_22, hpc, hzc, Bool.true_eq_false, if_false]; rw [hk, ← q31, ← q32]; rfl) hR)
    · skip
      refine n_iconst hC (v := nI 0) dX0_act_25 (by decide) ?_
      exact n_iret hC dX0_act_26 (by decide) (by decide) (xOp.mk (M2 := (mset M 55 (fun _ => nI 0))) (by simp [o_act, c_13, c_22]; try rfl) hR1)

