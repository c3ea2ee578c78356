/-! ===== THE CLASS: its public methods, first those that make nothing ===== -/
set_option maxRecDepth 100000
set_option maxHeartbeats 4000000 in
set_option maxRecDepth 100000 in
theorem ct_X0_isPerson (na : nA) (h : nH) (C : nMem) (B : Nat → nMem) (P : Nat → Nat × Nat) (I : Nat → Nat) {n : Nat} (hn : C 1 0 = nI n) (hn9 : n < 2 ^ 31) (p : Int32) : nM yX0_isPerson cX0_isPerson 2 (some .boolean) (nRm 1 0 0) [.ref (na 130), .int p] na (xPut na h (C, B, P, I)) (nQi (hPure na (xPut na h (C, B, P, I)) (nbo (nin p n)))) 0 0 := by
  refine nM.ofN RX0 rfl (by decide) (by intro v hv; simp only [List.mem_cons, List.not_mem_nil, or_false] at hv; rcases hv with rfl | rfl <;> rfl) (Nat.le_of_ble_eq_true rfl) (fun K hC hnm => ?_)
  show WN K na (xPut na h (C, B, P, I)) 0 0 (nE K (nQi (hPure na (xPut na h (C, B, P, I)) (nbo (nin p n)))) 0 0) 0 [some (.ref (na 130)), some (.int p)] []
  let Q9 : State → Prop := nE K (nQi (hPure na (xPut na h (C, B, P, I)) (nbo (nin p n)))) 0 0
  show WN K na (xPut na h (C, B, P, I)) 0 0 Q9 0 [some (.ref (na 130)), some (.int p)] []
  refine n_iload_n hC dX0_isPerson_0 rfl ?_
  refine n_iconst hC (v := nI 0) dX0_isPerson_1 (by decide) ?_
  refine n_aload_n hC dX0_isPerson_2 rfl ?_
  refine x_getI hC 1 (v := nI n) q149 dX0_isPerson_3 rfl (by decide) (by decide) hn ?_
  refine n_iconst hC (v := nI 1) dX0_isPerson_6 (by decide) ?_
  refine n_isub hC dX0_isPerson_7 ?_
  refine n_callS3z hC (ct_X0_in na _ p (nI 0) ((nI n) - (nI 1))) ms_X0_in q243 dX0_isPerson_8 ⟨rfl, rfl, by decide, by decide⟩ rfl (Nat.le_of_ble_eq_true rfl) (by decide) (by decide) (fun r0 na0 h0 hp0 => ?_)
  obtain ⟨rfl, rfl, rfl⟩ := hp0
  exact n_zret hC dX0_isPerson_11 (nbo_nar _) (by decide) (by decide) (⟨by rw [nrg_in hn9], rfl, rfl⟩)

set_option maxHeartbeats 4000000 in
set_option maxRecDepth 100000 in
theorem ct_X0_isPlace (na : nA) (h : nH) (C : nMem) (B : Nat → nMem) (P : Nat → Nat × Nat) (I : Nat → Nat) {n : Nat} (hn : C 2 0 = nI n) (hn9 : n < 2 ^ 31) (p : Int32) : nM yX0_isPlace cX0_isPlace 2 (some .boolean) (nRm 1 0 0) [.ref (na 130), .int p] na (xPut na h (C, B, P, I)) (nQi (hPure na (xPut na h (C, B, P, I)) (nbo (nin p n)))) 0 0 := by
  refine nM.ofN RX0 rfl (by decide) (by intro v hv; simp only [List.mem_cons, List.not_mem_nil, or_false] at hv; rcases hv with rfl | rfl <;> rfl) (Nat.le_of_ble_eq_true rfl) (fun K hC hnm => ?_)
  show WN K na (xPut na h (C, B, P, I)) 0 0 (nE K (nQi (hPure na (xPut na h (C, B, P, I)) (nbo (nin p n)))) 0 0) 0 [some (.ref (na 130)), some (.int p)] []
  let Q9 : State → Prop := nE K (nQi (hPure na (xPut na h (C, B, P, I)) (nbo (nin p n)))) 0 0
  show WN K na (xPut na h (C, B, P, I)) 0 0 Q9 0 [some (.ref (na 130)), some (.int p)] []
  refine n_iload_n hC dX0_isPlace_0 rfl ?_
  refine n_iconst hC (v := nI 0) dX0_isPlace_1 (by decide) ?_
  refine n_aload_n hC dX0_isPlace_2 rfl ?_
  refine x_getI hC 2 (v := nI n) q150 dX0_isPlace_3 rfl (by decide) (by decide) hn ?_
  refine n_iconst hC (v := nI 1) dX0_isPlace_6 (by decide) ?_
  refine n_isub hC dX0_isPlace_7 ?_
  refine n_callS3z hC (ct_X0_in na _ p (nI 0) ((nI n) - (nI 1))) ms_X0_in q243 dX0_isPlace_8 ⟨rfl, rfl, by decide, by decide⟩ rfl (Nat.le_of_ble_eq_true rfl) (by decide) (by decide) (fun r0 na0 h0 hp0 => ?_)
  obtain ⟨rfl, rfl, rfl⟩ := hp0
  exact n_zret hC dX0_isPlace_11 (nbo_nar _) (by decide) (by decide) (⟨by rw [nrg_in hn9], rfl, rfl⟩)

set_option maxHeartbeats 4000000 in
set_option maxRecDepth 100000 in
theorem ct_X0_isFigure (na : nA) (h : nH) (C : nMem) (B : Nat → nMem) (P : Nat → Nat × Nat) (I : Nat → Nat) {n : Nat} (hn : C 14 0 = nI n) (hn9 : n < 2 ^ 31) (p : Int32) : nM yX0_isFigure cX0_isFigure 2 (some .boolean) (nRm 1 0 0) [.ref (na 130), .int p] na (xPut na h (C, B, P, I)) (nQi (hPure na (xPut na h (C, B, P, I)) (nbo (nin p n)))) 0 0 := by
  refine nM.ofN RX0 rfl (by decide) (by intro v hv; simp only [List.mem_cons, List.not_mem_nil, or_false] at hv; rcases hv with rfl | rfl <;> rfl) (Nat.le_of_ble_eq_true rfl) (fun K hC hnm => ?_)
  show WN K na (xPut na h (C, B, P, I)) 0 0 (nE K (nQi (hPure na (xPut na h (C, B, P, I)) (nbo (nin p n)))) 0 0) 0 [some (.ref (na 130)), some (.int p)] []
  let Q9 : State → Prop := nE K (nQi (hPure na (xPut na h (C, B, P, I)) (nbo (nin p n)))) 0 0
  show WN K na (xPut na h (C, B, P, I)) 0 0 Q9 0 [some (.ref (na 130)), some (.int p)] []
  refine n_iload_n hC dX0_isFigure_0 rfl ?_
  refine n_iconst hC (v := nI 0) dX0_isFigure_1 (by decide) ?_
  refine n_aload_n hC dX0_isFigure_2 rfl ?_
  refine x_getI hC 14 (v := nI n) q162 dX0_isFigure_3 rfl (by decide) (by decide) hn ?_
  refine n_iconst hC (v := nI 1) dX0_isFigure_6 (by decide) ?_
  refine n_isub hC dX0_isFigure_7 ?_
  refine n_callS3z hC (ct_X0_in na _ p (nI 0) ((nI n) - (nI 1))) ms_X0_in q243 dX0_isFigure_8 ⟨rfl, rfl, by decide, by decide⟩ rfl (Nat.le_of_ble_eq_true rfl) (by decide) (by decide) (fun r0 na0 h0 hp0 => ?_)
  obtain ⟨rfl, rfl, rfl⟩ := hp0
  exact n_zret hC dX0_isFigure_11 (nbo_nar _) (by decide) (by decide) (⟨by rw [nrg_in hn9], rfl, rfl⟩)

set_option maxHeartbeats 4000000 in
set_option maxRecDepth 100000 in
theorem ct_X0_isTape (na : nA) (h : nH) (t : Int32) : nM yX0_isTape cX0_isTape 1 (some .boolean) (nRm 1 0 0) [.int t] na h (nQi (hPure na h (nbo (nrg t (nI 0) (nI 5))))) 0 0 := by
  refine nM.ofN RX0 rfl (by decide) (by intro v hv; simp only [List.mem_cons, List.not_mem_nil, or_false] at hv; subst hv; rfl) (Nat.le_of_ble_eq_true rfl) (fun K hC hnm => ?_)
  show WN K na h 0 0 (nE K (nQi (hPure na h (nbo (nrg t (nI 0) (nI 5))))) 0 0) 0 [some (.int t)] []
  let Q9 : State → Prop := nE K (nQi (hPure na h (nbo (nrg t (nI 0) (nI 5))))) 0 0
  show WN K na h 0 0 Q9 0 [some (.int t)] []
  refine n_iload_n hC dX0_isTape_0 rfl ?_
  refine n_iconst hC (v := nI 0) dX0_isTape_1 (by decide) ?_
  refine n_iconst hC (v := nI 5) dX0_isTape_2 (by decide) ?_
  refine n_callS3z hC (ct_X0_in na _ t (nI 0) (nI 5)) ms_X0_in q243 dX0_isTape_3 ⟨rfl, rfl, by decide, by decide⟩ rfl (Nat.le_of_ble_eq_true rfl) (by decide) (by decide) (fun r0 na0 h0 hp0 => ?_)
  obtain ⟨rfl, rfl, rfl⟩ := hp0
  exact n_zret hC dX0_isTape_6 (nbo_nar _) (by decide) (by decide) (⟨rfl, rfl, rfl⟩)

set_option maxHeartbeats 4000000 in
set_option maxRecDepth 100000 in
theorem xt_X0_ribbon (na : nA) (h : nH) (C : nMem) (B : Nat → nMem) (P : Nat → Nat × Nat) (I : Nat → Nat) (M : nMem) (hR : xRel (C, B, P, I) M) (hI : mInv M) (p c l : Int32) : nM yX0_ribbon cX0_ribbon 4 (some .int) (nRm 3 0 0) [.ref (na 130), .int p, .int c, .int l] na (xPut na h (C, B, P, I)) (nQi (xOp na h (o_ribbon p c l M))) 0 0 := by
  refine nM.ofN RX0 rfl (by decide) (by intro v hv; simp only [List.mem_cons, List.not_mem_nil, or_false] at hv; rcases hv with rfl | rfl | rfl | rfl <;> rfl) (Nat.le_of_ble_eq_true rfl) (fun K hC hnm => ?_)
  show WN K na (xPut na h (C, B, P, I)) 0 0 (nE K (nQi (xOp na h (o_ribbon p c l M))) 0 0) 0 [some (.ref (na 130)), some (.int p), some (.int c), some (.int l)] []
  let Q9 : State → Prop := nE K (nQi (xOp na h (o_ribbon p c l M))) 0 0
  show WN K na (xPut na h (C, B, P, I)) 0 0 Q9 0 [some (.ref (na 130)), some (.int p), some (.int c), some (.int l)] []
  have hR0 := hR
  obtain ⟨hw, gPe, gRi, gCl, gSt, gTh, gFi, gTx, gTr, gTp, gRd, gOr⟩ := hR
  dsimp only at hw gPe gRi gCl gSt gTh gFi gTx gTr gTp gRd gOr
  obtain ⟨⟨h0, b0⟩, ⟨h1, b1a, b1⟩, ⟨h11, b11⟩, ⟨h14, b14⟩, ⟨h15, b15, b15n⟩, ⟨h20, b20⟩, ⟨h26, b26⟩, ⟨h27, b27⟩, ⟨h55, b55⟩, iP, iH, iHi, iHd, iC, iT, iF, iG, iS, iZ⟩ := hI
  refine n_aload_n hC dX0_ribbon_0 rfl ?_
  refine n_iload_n hC dX0_ribbon_1 rfl ?_
  refine n_callV1z hC (ct_X0_isPlace na _ _ _ _ _ (n := mN M 1) (gRi.1.trans h1) (by omega) p) md_X0_isPlace q373 dX0_ribbon_2 rfl xPut_o rfl rfl ⟨rfl, rfl, by decide, by decide⟩ rfl (Nat.le_of_ble_eq_true rfl) (by decide) (by decide) (fun r0 na0 h0 hp0 => ?_)
  obtain ⟨rfl, rfl, rfl⟩ := hp0
  refine n_if_neB hC (tgt := 10) dX0_ribbon_5 (by decide) (fun c_5 => ?_) (fun c_5 => ?_)
  · skip
    refine n_iload_n hC dX0_ribbon_10 rfl ?_
    refine n_iconst hC (v := nI 0) dX0_ribbon_11 (by decide) ?_
    refine n_bipush hC (v := nI 7) dX0_ribbon_12 (by decide) ?_
    refine n_callS3z hC (ct_X0_in na _ c (nI 0) (nI 7)) ms_X0_in q243 dX0_ribbon_14 ⟨rfl, rfl, by decide, by decide⟩ rfl (Nat.le_of_ble_eq_true rfl) (by decide) (by decide) (fun r1 na1 h1 hp1 => ?_)
    obtain ⟨rfl, rfl, rfl⟩ := hp1
    refine n_if_eqB hC (tgt := 30) dX0_ribbon_17 (by decide) (fun c_17 => ?_) (fun c_17 => ?_)
    · skip
      refine n_bipush hC (v := (-2)) dX0_ribbon_30 (by decide) ?_
      exact n_iret hC dX0_ribbon_32 (by decide) (by decide) (xOp.mk (M2 := M) (by simp [o_ribbon, c_5, c_17]) hR0)
    · skip
      refine n_iload_n hC dX0_ribbon_20 rfl ?_
      refine n_iconst hC (v := nI 0) dX0_ribbon_21 (by decide) ?_
      refine n_ldc hC q385 dX0_ribbon_22 ?_
      refine n_callS3z hC (ct_X0_in na _ l (nI 0) 99999) ms_X0_in q243 dX0_ribbon_24 ⟨rfl, rfl, by decide, by decide⟩ rfl (Nat.le_of_ble_eq_true rfl) (by decide) (by decide) (fun r2 na2 h2 hp2 => ?_)
      obtain ⟨rfl, rfl, rfl⟩ := hp2
      refine n_if_neB hC (tgt := 33) dX0_ribbon_27 (by decide) (fun c_27 => ?_) (fun c_27 => ?_)
      · skip
        refine n_aload_n hC dX0_ribbon_33 rfl ?_
        refine x_getI hC 6 (v := nbo (mB M 11)) q154 dX0_ribbon_34 rfl (by decide) (by decide) (gRi.2.2.1.trans h11) ?_
        refine n_if_eqB hC (tgt := 43) dX0_ribbon_37 (by decide) (fun c_37 => ?_) (fun c_37 => ?_)
        · skip
          obtain ⟨j, hj, ej⟩ := (nin_t (by omega)).mp c_5
          subst ej
          have hjc : (nI j).toNatClampNeg = j := nI_clamp (by omega)
          refine n_aload_n hC dX0_ribbon_43 rfl ?_
          refine x_getA hC 4 q152 dX0_ribbon_44 rfl (by decide) (by decide) ?_
          refine n_iload_n hC dX0_ribbon_47 rfl ?_
          refine n_iload_n hC dX0_ribbon_48 rfl ?_
          refine x_astN hC 4 (C2 := mset C 4 (upd (C 4) j c)) dX0_ribbon_49 rfl rfl (by have h9 : xLen 4 = 9 := rfl; omega) rfl ?_
          refine n_aload_n hC dX0_ribbon_50 rfl ?_
          refine x_getA hC 5 q153 dX0_ribbon_51 rfl (by decide) (by decide) ?_
          refine n_iload_n hC dX0_ribbon_54 rfl ?_
          refine n_iload_n hC dX0_ribbon_55 rfl ?_
          refine x_astN hC 5 (C2 := mset (mset C 4 (upd (C 4) j c)) 5 (upd (C 5) j l)) dX0_ribbon_56 rfl rfl (by have h9 : xLen 5 = 9 := rfl; omega) rfl ?_
          refine n_iconst hC (v := nI 1) dX0_ribbon_57 (by decide) ?_
          exact n_iret hC dX0_ribbon_58 (by decide) (by decide) (xOp.mk (M2 := mset (mset M 7 (upd (M 7) j c)) 8 (upd (M 8) j l)) (by simp [o_ribbon, c_5, c_17, c_27, c_37, hjc]) (by
      refine ⟨hw, gPe, ⟨gRi.1, gRi.2.1, gRi.2.2.1, fun hd p hp => ?_⟩, ⟨gCl.1, fun hd => absurd (c_37.symm.trans hd) (by decide)⟩, gSt, gTh, gFi, gTx, gTr, gTp, gRd.idle c_37 rfl rfl rfl rfl, gOr⟩
      exact ⟨upd_cg (fun x hx => ((gRi.2.2.2 c_37) x hx).1) rfl p hp, upd_cg (fun x hx => ((gRi.2.2.2 c_37) x hx).2) rfl p hp⟩))
        · skip
          refine n_bipush hC (v := (-3)) dX0_ribbon_40 (by decide) ?_
          exact n_iret hC dX0_ribbon_42 (by decide) (by decide) (xOp.mk (M2 := M) (by simp [o_ribbon, c_5, c_17, c_27, c_37]) hR0)
      · skip
        refine n_bipush hC (v := (-2)) dX0_ribbon_30 (by decide) ?_
        exact n_iret hC dX0_ribbon_32 (by decide) (by decide) (xOp.mk (M2 := M) (by simp [o_ribbon, c_5, c_17, c_27]) hR0)
  · skip
    refine n_iconst hC (v := (-1)) dX0_ribbon_8 (by decide) ?_
    exact n_iret hC dX0_ribbon_9 (by decide) (by decide) (xOp.mk (M2 := M) (by simp [o_ribbon, c_5]) hR0)

set_option maxHeartbeats 4000000 in
set_option maxRecDepth 100000 in
theorem xt_X0_at (na : nA) (h : nH) (C : nMem) (B : Nat → nMem) (P : Nat → Nat × Nat) (I : Nat → Nat) (M : nMem) (hR : xRel (C, B, P, I) M) (hI : mInv M) (p w : Int32) : nM yX0_at cX0_at 4 (some .int) (nRm 3 0 0) [.ref (na 130), .int p, .int w] na (xPut na h (C, B, P, I)) (nQi (xOp na h (o_at p w M))) 0 0 := by
  refine nM.ofN RX0 rfl (by decide) (by intro v hv; simp only [List.mem_cons, List.not_mem_nil, or_false] at hv; rcases hv with rfl | rfl | rfl <;> rfl) (Nat.le_of_ble_eq_true rfl) (fun K hC hnm => ?_)
  show WN K na (xPut na h (C, B, P, I)) 0 0 (nE K (nQi (xOp na h (o_at p w M))) 0 0) 0 [some (.ref (na 130)), some (.int p), some (.int w), none] []
  let Q9 : State → Prop := nE K (nQi (xOp na h (o_at p w M))) 0 0
  show WN K na (xPut na h (C, B, P, I)) 0 0 Q9 0 [some (.ref (na 130)), some (.int p), some (.int w), none] []
  have hR0 := hR
  obtain ⟨hw, gPe, gRi, gCl, gSt, gTh, gFi, gTx, gTr, gTp, gRd, gOr⟩ := hR
  dsimp only at hw gPe gRi gCl gSt gTh gFi gTx gTr gTp gRd gOr
  obtain ⟨⟨h0, b0⟩, ⟨h1, b1a, b1⟩, ⟨h11, b11⟩, ⟨h14, b14⟩, ⟨h15, b15, b15n⟩, ⟨h20, b20⟩, ⟨h26, b26⟩, ⟨h27, b27⟩, ⟨h55, b55⟩, iP, iH, iHi, iHd, iC, iT, iF, iG, iS, iZ⟩ := hI
  refine n_aload_n hC dX0_at_0 rfl ?_
  refine n_iload_n hC dX0_at_1 rfl ?_
  refine n_callV1z hC (ct_X0_isPlace na _ _ _ _ _ (n := mN M 1) (gRi.1.trans h1) (by omega) p) md_X0_isPlace q373 dX0_at_2 rfl xPut_o rfl rfl ⟨rfl, rfl, by decide, by decide⟩ rfl (Nat.le_of_ble_eq_true rfl) (by decide) (by decide) (fun r0 na0 h0 hp0 => ?_)
  obtain ⟨rfl, rfl, rfl⟩ := hp0
  refine n_if_neB hC (tgt := 11) dX0_at_5 (by decide) (fun c_5 => ?_) (fun c_5 => ?_)
  · skip
    obtain ⟨j, hj, ej⟩ := (nin_t (by omega)).mp c_5
    subst ej
    have hjc : (nI j).toNatClampNeg = j := nI_clamp (by omega)
    obtain ⟨r1, r2, r3, r4, r5, r6, r7⟩ := gRd.2 (show mN M 1 ≠ 0 by omega)
    have ij := iH j hj
    refine n_aload_n hC dX0_at_11 rfl ?_
    refine x_getI hC 6 (v := nbo (mB M 11)) q154 dX0_at_12 rfl (by decide) (by decide) (gRi.2.2.1.trans h11) ?_
    refine n_if_eqB hC (tgt := 30) dX0_at_15 (by decide) (fun c_15 => ?_) (fun c_15 => ?_)
    · skip
      have e6 := iHd c_15 j hj
      refine n_iload_n hC dX0_at_30 rfl ?_
      refine n_istore_n hC dX0_at_31 (Nat.le_of_ble_eq_true rfl) ?_
      refine n_iload_n hC dX0_at_32 rfl ?_
      by_cases s_33 : (w).toInt < 0 ∨ (3 : Int) < (w).toInt
      · refine n_tableOut hC (tgt := 122) dX0_at_33 s_33 (by decide) ?_
        refine n_bipush hC (v := (-6)) dX0_at_122 (by decide) ?_
        exact n_iret hC dX0_at_124 (by decide) (by decide) (xOp.mk (M2 := M) (by simp [o_at, c_5, nrg_out s_33]) hR0)
      · obtain ⟨j_33, hj_33, ej_33⟩ := sw_c (n := 3) s_33
        rcases (show j_33 = 0 ∨ j_33 = 1 ∨ j_33 = 2 ∨ j_33 = 3 by omega) with rfl | rfl | rfl | rfl
        · subst ej_33
          refine n_tableIn hC (off := 31) (tgt := 64) dX0_at_33 (by decide) (by decide) (by decide) (by decide) ?_
          refine n_aload_n hC dX0_at_64 rfl ?_
          refine x_getA hC 3 q151 dX0_at_65 rfl (by decide) (by decide) ?_
          refine n_iload_n hC dX0_at_68 rfl ?_
          refine x_aldN hC 3 (v := M 5 j) dX0_at_69 rfl rfl (by have h9 : xLen 3 = 9 := rfl; omega) (gRi.2.1 j hj) ?_
          exact n_iret hC dX0_at_70 (by decide) (by decide) (xOp.mk (M2 := M) (by simp [o_at, c_5, show nrg (nI 0) (nI 0) (nI 3) = true from by decide, show (nI 0).toNatClampNeg = 0 from by decide, hjc]) hR0)
        · subst ej_33
          refine n_tableIn hC (off := 38) (tgt := 71) dX0_at_33 (by decide) (by decide) (by decide) (by decide) ?_
          refine n_aload_n hC dX0_at_71 rfl ?_
          refine x_getI hC 6 (v := nbo (mB M 11)) q154 dX0_at_72 rfl (by decide) (by decide) (gRi.2.2.1.trans h11) ?_
          refine n_if_eqB hC (tgt := 87) dX0_at_75 (by decide) (fun c_75 => ?_) (fun c_75 => absurd c_75 (by rw [c_15]; decide))
          refine n_aload_n hC dX0_at_87 rfl ?_
          refine x_getA hC 4 q152 dX0_at_88 rfl (by decide) (by decide) ?_
          refine n_iload_n hC dX0_at_91 rfl ?_
          refine x_aldN hC 4 (v := M 7 (mA M 6 j)) dX0_at_92 rfl rfl (by have h9 : xLen 4 = 9 := rfl; omega) (by rw [e6]; exact (gRi.2.2.2 c_15 j hj).1) ?_
          exact n_iret hC dX0_at_93 (by decide) (by decide) (xOp.mk (M2 := M) (by simp [o_at, c_5, show nrg (nI 1) (nI 0) (nI 3) = true from by decide, show (nI 1).toNatClampNeg = 1 from by decide, hjc]) hR0)
        · subst ej_33
          refine n_tableIn hC (off := 61) (tgt := 94) dX0_at_33 (by decide) (by decide) (by decide) (by decide) ?_
          refine n_aload_n hC dX0_at_94 rfl ?_
          refine x_getI hC 6 (v := nbo (mB M 11)) q154 dX0_at_95 rfl (by decide) (by decide) (gRi.2.2.1.trans h11) ?_
          refine n_if_eqB hC (tgt := 113) dX0_at_98 (by decide) (fun c_98 => ?_) (fun c_98 => absurd c_98 (by rw [c_15]; decide))
          refine n_aload_n hC dX0_at_113 rfl ?_
          refine x_getA hC 5 q153 dX0_at_114 rfl (by decide) (by decide) ?_
          refine n_iload_n hC dX0_at_117 rfl ?_
          refine x_aldN hC 5 (v := M 8 (mA M 6 j)) dX0_at_118 rfl rfl (by have h9 : xLen 5 = 9 := rfl; omega) (by rw [e6]; exact (gRi.2.2.2 c_15 j hj).2) ?_
          exact n_iret hC dX0_at_119 (by decide) (by decide) (xOp.mk (M2 := M) (by simp [o_at, c_5, show nrg (nI 2) (nI 0) (nI 3) = true from by decide, show (nI 2).toNatClampNeg = 2 from by decide, hjc]) hR0)
        · subst ej_33
          refine n_tableIn hC (off := 87) (tgt := 120) dX0_at_33 (by decide) (by decide) (by decide) (by decide) ?_
          refine n_iload_n hC dX0_at_120 rfl ?_
          exact n_iret hC dX0_at_121 (by decide) (by decide) (xOp.mk (M2 := M) (by simp [o_at, c_5, show nrg (nI 3) (nI 0) (nI 3) = true from by decide, show (nI 3).toNatClampNeg = 3 from by decide, hjc, e6]) hR0)
    · skip
      refine n_aload_n hC dX0_at_18 rfl ?_
      refine x_getR hC 7 q155 dX0_at_19 rfl (by decide) (by decide) r1 ?_
      refine o_getAN hC gW_X9 (xBlk_o (na := na) (h := h) (X := (C, B, P, I)) (i := (I 7)) (c := (2, 0)) r4 ⟨by decide, by decide⟩) (host := "MaypoleGreen") 1 (by decide) dX0_at_22 rfl (by decide) (by decide) ?_
      refine n_iload_n hC dX0_at_25 rfl ?_
      refine o_aldN hC gW_X9 (xBlk_o (na := na) (h := h) (X := (C, B, P, I)) (i := (I 7)) (c := (2, 0)) r4 ⟨by decide, by decide⟩) 1 (v := nI (mA M 6 j)) dX0_at_26 rfl gI_X9_1 (by show j < 9; omega) (((r6.2.2.2 c_15).2 j hj).1.trans ij.1) ?_
      refine n_goto hC (tgt := 31) dX0_at_27 (by decide) ?_
      refine n_istore_n hC dX0_at_31 (Nat.le_of_ble_eq_true rfl) ?_
      refine n_iload_n hC dX0_at_32 rfl ?_
      by_cases s_33 : (w).toInt < 0 ∨ (3 : Int) < (w).toInt
      · refine n_tableOut hC (tgt := 122) dX0_at_33 s_33 (by decide) ?_
        refine n_bipush hC (v := (-6)) dX0_at_122 (by decide) ?_
        exact n_iret hC dX0_at_124 (by decide) (by decide) (xOp.mk (M2 := M) (by simp [o_at, c_5, nrg_out s_33]) hR0)
      · obtain ⟨j_33, hj_33, ej_33⟩ := sw_c (n := 3) s_33
        rcases (show j_33 = 0 ∨ j_33 = 1 ∨ j_33 = 2 ∨ j_33 = 3 by omega) with rfl | rfl | rfl | rfl
        · subst ej_33
          refine n_tableIn hC (off := 31) (tgt := 64) dX0_at_33 (by decide) (by decide) (by decide) (by decide) ?_
          refine n_aload_n hC dX0_at_64 rfl ?_
          refine x_getA hC 3 q151 dX0_at_65 rfl (by decide) (by decide) ?_
          refine n_iload_n hC dX0_at_68 rfl ?_
          refine x_aldN hC 3 (v := M 5 j) dX0_at_69 rfl rfl (by have h9 : xLen 3 = 9 := rfl; omega) (gRi.2.1 j hj) ?_
          exact n_iret hC dX0_at_70 (by decide) (by decide) (xOp.mk (M2 := M) (by simp [o_at, c_5, show nrg (nI 0) (nI 0) (nI 3) = true from by decide, show (nI 0).toNatClampNeg = 0 from by decide, hjc]) hR0)
        · subst ej_33
          refine n_tableIn hC (off := 38) (tgt := 71) dX0_at_33 (by decide) (by decide) (by decide) (by decide) ?_
          refine n_aload_n hC dX0_at_71 rfl ?_
          refine x_getI hC 6 (v := nbo (mB M 11)) q154 dX0_at_72 rfl (by decide) (by decide) (gRi.2.2.1.trans h11) ?_
          refine n_if_eqB hC (tgt := 87) dX0_at_75 (by decide) (fun c_75 => absurd c_75 (by rw [c_15]; decide)) (fun c_75 => ?_)
          refine n_aload_n hC dX0_at_78 rfl ?_
          refine x_getA hC 9 q157 dX0_at_79 rfl (by decide) (by decide) ?_
          refine n_iload_n hC dX0_at_82 rfl ?_
          refine x_aldN hC 9 (v := M 7 (mA M 6 j)) dX0_at_83 rfl rfl (by have h9 : xLen 9 = 9 := rfl; omega) ((gCl.1 (Or.inl c_15) _ ij.2).trans (gCl.2 c_15 _ ij.2).2.symm) ?_
          refine n_goto hC (tgt := 93) dX0_at_84 (by decide) ?_
          exact n_iret hC dX0_at_93 (by decide) (by decide) (xOp.mk (M2 := M) (by simp [o_at, c_5, show nrg (nI 1) (nI 0) (nI 3) = true from by decide, show (nI 1).toNatClampNeg = 1 from by decide, hjc]) hR0)
        · subst ej_33
          refine n_tableIn hC (off := 61) (tgt := 94) dX0_at_33 (by decide) (by decide) (by decide) (by decide) ?_
          refine n_aload_n hC dX0_at_94 rfl ?_
          refine x_getI hC 6 (v := nbo (mB M 11)) q154 dX0_at_95 rfl (by decide) (by decide) (gRi.2.2.1.trans h11) ?_
          refine n_if_eqB hC (tgt := 113) dX0_at_98 (by decide) (fun c_98 => absurd c_98 (by rw [c_15]; decide)) (fun c_98 => ?_)
          refine n_aload_n hC dX0_at_101 rfl ?_
          refine x_getR hC 7 q155 dX0_at_102 rfl (by decide) (by decide) r1 ?_
          refine o_getAN hC gW_X9 (xBlk_o (na := na) (h := h) (X := (C, B, P, I)) (i := (I 7)) (c := (2, 0)) r4 ⟨by decide, by decide⟩) (host := "MaypoleGreen") 2 (by decide) dX0_at_105 rfl (by decide) (by decide) ?_
          refine n_iload_n hC dX0_at_108 rfl ?_
          refine o_aldN hC gW_X9 (xBlk_o (na := na) (h := h) (X := (C, B, P, I)) (i := (I 7)) (c := (2, 0)) r4 ⟨by decide, by decide⟩) 2 (v := M 8 (mA M 6 j)) dX0_at_109 rfl gI_X9_2 (by show mA M 6 j < 9; omega) (((r6.2.2.2 c_15).2 _ ij.2).2.1) ?_
          refine n_goto hC (tgt := 119) dX0_at_110 (by decide) ?_
          exact n_iret hC dX0_at_119 (by decide) (by decide) (xOp.mk (M2 := M) (by simp [o_at, c_5, show nrg (nI 2) (nI 0) (nI 3) = true from by decide, show (nI 2).toNatClampNeg = 2 from by decide, hjc]) hR0)
        · subst ej_33
          refine n_tableIn hC (off := 87) (tgt := 120) dX0_at_33 (by decide) (by decide) (by decide) (by decide) ?_
          refine n_iload_n hC dX0_at_120 rfl ?_
          exact n_iret hC dX0_at_121 (by decide) (by decide) (xOp.mk (M2 := M) (by simp [o_at, c_5, show nrg (nI 3) (nI 0) (nI 3) = true from by decide, show (nI 3).toNatClampNeg = 3 from by decide, hjc]) hR0)
  · skip
    refine n_bipush hC (v := (-6)) dX0_at_8 (by decide) ?_
    exact n_iret hC dX0_at_10 (by decide) (by decide) (xOp.mk (M2 := M) (by simp [o_at, c_5]) hR0)

set_option maxHeartbeats 4000000 in
set_option maxRecDepth 100000 in
theorem xt_X0_girth (na : nA) (h : nH) (C : nMem) (B : Nat → nMem) (P : Nat → Nat × Nat) (I : Nat → Nat) (M : nMem) (hR : xRel (C, B, P, I) M) (hI : mInv M) : nM yX0_girth cX0_girth 1 (some .int) (nRm 3 0 0) [.ref (na 130)] na (xPut na h (C, B, P, I)) (nQi (xOp na h (o_girth M))) 0 0 := by
  refine nM.ofN RX0 rfl (by decide) (by intro v hv; simp only [List.mem_cons, List.not_mem_nil, or_false] at hv; subst hv; rfl) (Nat.le_of_ble_eq_true rfl) (fun K hC hnm => ?_)
  show WN K na (xPut na h (C, B, P, I)) 0 0 (nE K (nQi (xOp na h (o_girth M))) 0 0) 0 [some (.ref (na 130))] []
  let Q9 : State → Prop := nE K (nQi (xOp na h (o_girth M))) 0 0
  show WN K na (xPut na h (C, B, P, I)) 0 0 Q9 0 [some (.ref (na 130))] []
  have hR0 := hR
  obtain ⟨hw, gPe, gRi, gCl, gSt, gTh, gFi, gTx, gTr, gTp, gRd, gOr⟩ := hR
  dsimp only at hw gPe gRi gCl gSt gTh gFi gTx gTr gTp gRd gOr
  obtain ⟨⟨h0, b0⟩, ⟨h1, b1a, b1⟩, ⟨h11, b11⟩, ⟨h14, b14⟩, ⟨h15, b15, b15n⟩, ⟨h20, b20⟩, ⟨h26, b26⟩, ⟨h27, b27⟩, ⟨h55, b55⟩, iP, iH, iHi, iHd, iC, iT, iF, iG, iS, iZ⟩ := hI
  rcases Nat.eq_zero_or_pos (mN M 1) with hn | hn
  · skip
    obtain ⟨r1, r2⟩ := gRd.1 hn
    have e15 : mN M 15 = 0 := Nat.eq_zero_of_not_pos fun z => by have := b15n (by omega); omega
    refine n_aload_n hC dX0_girth_0 rfl ?_
    refine x_getZ hC 7 q155 dX0_girth_1 rfl (by decide) (by decide) r1 ?_
    refine n_ifnonnullN hC dX0_girth_4 ?_
    refine n_bipush hC (v := nI 10) dX0_girth_7 (by decide) ?_
    refine n_goto hC (tgt := 19) dX0_girth_9 (by decide) ?_
    exact n_iret hC dX0_girth_19 (by decide) (by decide) (xOp.mk (M2 := M) (by simp [o_girth, e15]) hR0)
  · skip
    obtain ⟨r1, r2, r3, r4, r5, r6, r7⟩ := gRd.2 (show mN M 1 ≠ 0 by omega)
    refine n_aload_n hC dX0_girth_0 rfl ?_
    refine x_getR hC 7 q155 dX0_girth_1 rfl (by decide) (by decide) r1 ?_
    refine n_ifnonnull hC (tgt := 12) dX0_girth_4 (by decide) ?_
    refine n_aload_n hC dX0_girth_12 rfl ?_
    refine x_getR hC 7 q155 dX0_girth_13 rfl (by decide) (by decide) r1 ?_
    refine n_callV0i hC (xc_pure (i := (I 7)) (c := (2, 0)) r4 ⟨by decide, by decide⟩ (ct_X9_girth (bB (I 7)) na _ (B (I 7)) (r := mN M 15) r6.2.1 (by omega))) md_X9_girth q442 dX0_girth_16 rfl (((xBlk_o (na := na) (h := h) (X := (C, B, P, I)) (i := (I 7)) (c := (2, 0)) r4 ⟨by decide, by decide⟩) 9 (by decide)).trans (if_pos rfl)) rfl rfl ⟨rfl, rfl, by decide, by decide⟩ rfl (Nat.le_of_ble_eq_true rfl) (by decide) (by decide) (fun r0 na0 h0 hp0 => ?_)
    obtain ⟨rfl, rfl, rfl⟩ := hp0
    exact n_iret hC dX0_girth_19 (by decide) (by decide) (xOp.mk (M2 := M) (by simp [o_girth]) hR0)

set_option maxHeartbeats 4000000 in
set_option maxRecDepth 100000 in
theorem ct_X0_rows (na : nA) (h : nH) (C : nMem) (B : Nat → nMem) (P : Nat → Nat × Nat) (I : Nat → Nat) {r : Nat} (hr : (I 7 = 0 ∧ r = 0) ∨ (I 7 ≠ 0 ∧ P (I 7) = (2, 0) ∧ B (I 7) 6 0 = nI r)) : nM yX0_rows cX0_rows 1 (some .int) (nRm 1 0 0) [.ref (na 130)] na (xPut na h (C, B, P, I)) (nQi (hPure na (xPut na h (C, B, P, I)) (nI r))) 0 0 := by
  refine nM.ofN RX0 rfl (by decide) (by intro v hv; simp only [List.mem_cons, List.not_mem_nil, or_false] at hv; subst hv; rfl) (Nat.le_of_ble_eq_true rfl) (fun K hC hnm => ?_)
  show WN K na (xPut na h (C, B, P, I)) 0 0 (nE K (nQi (hPure na (xPut na h (C, B, P, I)) (nI r))) 0 0) 0 [some (.ref (na 130))] []
  let Q9 : State → Prop := nE K (nQi (hPure na (xPut na h (C, B, P, I)) (nI r))) 0 0
  show WN K na (xPut na h (C, B, P, I)) 0 0 Q9 0 [some (.ref (na 130))] []
  rcases hr with ⟨hz, hr⟩ | ⟨hz, hP, h6⟩
  · skip
    subst hr
    refine n_aload_n hC dX0_rows_0 rfl ?_
    refine x_getZ hC 7 q155 dX0_rows_1 rfl (by decide) (by decide) hz ?_
    refine n_ifnonnullN hC dX0_rows_4 ?_
    refine n_iconst hC (v := nI 0) dX0_rows_7 (by decide) ?_
    refine n_goto hC (tgt := 18) dX0_rows_8 (by decide) ?_
    exact n_iret hC dX0_rows_18 (by decide) (by decide) (⟨rfl, rfl, rfl⟩)
  · skip
    skip
    refine n_aload_n hC dX0_rows_0 rfl ?_
    refine x_getR hC 7 q155 dX0_rows_1 rfl (by decide) (by decide) hz ?_
    refine n_ifnonnull hC (tgt := 11) dX0_rows_4 (by decide) ?_
    refine n_aload_n hC dX0_rows_11 rfl ?_
    refine x_getR hC 7 q155 dX0_rows_12 rfl (by decide) (by decide) hz ?_
    refine o_getIN hC gW_X9 (xBlk_o (na := na) (h := h) (X := (C, B, P, I)) (i := (I 7)) (c := (2, 0)) hP ⟨by decide, by decide⟩) (host := "MaypoleGreen") 6 (v := nI r) (by decide) dX0_rows_15 rfl (by decide) (by decide) h6 ?_
    exact n_iret hC dX0_rows_18 (by decide) (by decide) (⟨rfl, rfl, rfl⟩)

theorem xr_rows {C : nMem} {B : Nat → nMem} {P : Nat → Nat × Nat} {I : Nat → Nat} {M : nMem} (gRd : xgRd B P I M) (b15n : mN M 15 ≠ 0 → 3 ≤ mN M 1) : (I 7 = 0 ∧ mN M 15 = 0) ∨ (I 7 ≠ 0 ∧ P (I 7) = (2, 0) ∧ B (I 7) 6 0 = nI (mN M 15)) := by
  rcases Nat.eq_zero_or_pos (mN M 1) with hn | hn
  · exact Or.inl ⟨(gRd.1 hn).1, Nat.eq_zero_of_not_pos fun z => by have := b15n (by omega); omega⟩
  · obtain ⟨r1, r2, r3, r4, r5, r6, r7⟩ := gRd.2 (show mN M 1 ≠ 0 by omega)
    exact Or.inr ⟨r1, r4, r6.2.1⟩
set_option maxHeartbeats 4000000 in
set_option maxRecDepth 100000 in
theorem xt_X0_rows (na : nA) (h : nH) (C : nMem) (B : Nat → nMem) (P : Nat → Nat × Nat) (I : Nat → Nat) (M : nMem) (hR : xRel (C, B, P, I) M) (hI : mInv M) : nM yX0_rows cX0_rows 1 (some .int) (nRm 3 0 0) [.ref (na 130)] na (xPut na h (C, B, P, I)) (nQi (xOp na h (o_rows M))) 0 0 := by
  refine nM.ofN RX0 rfl (by decide) (by intro v hv; simp only [List.mem_cons, List.not_mem_nil, or_false] at hv; subst hv; rfl) (Nat.le_of_ble_eq_true rfl) (fun K hC hnm => ?_)
  show WN K na (xPut na h (C, B, P, I)) 0 0 (nE K (nQi (xOp na h (o_rows M))) 0 0) 0 [some (.ref (na 130))] []
  let Q9 : State → Prop := nE K (nQi (xOp na h (o_rows M))) 0 0
  show WN K na (xPut na h (C, B, P, I)) 0 0 Q9 0 [some (.ref (na 130))] []
  have hR0 := hR
  obtain ⟨hw, gPe, gRi, gCl, gSt, gTh, gFi, gTx, gTr, gTp, gRd, gOr⟩ := hR
  dsimp only at hw gPe gRi gCl gSt gTh gFi gTx gTr gTp gRd gOr
  obtain ⟨⟨h0, b0⟩, ⟨h1, b1a, b1⟩, ⟨h11, b11⟩, ⟨h14, b14⟩, ⟨h15, b15, b15n⟩, ⟨h20, b20⟩, ⟨h26, b26⟩, ⟨h27, b27⟩, ⟨h55, b55⟩, iP, iH, iHi, iHd, iC, iT, iF, iG, iS, iZ⟩ := hI
  rcases Nat.eq_zero_or_pos (mN M 1) with hn | hn
  · skip
    obtain ⟨r1, r2⟩ := gRd.1 hn
    have e15 : mN M 15 = 0 := Nat.eq_zero_of_not_pos fun z => by have := b15n (by omega); omega
    refine n_aload_n hC dX0_rows_0 rfl ?_
    refine x_getZ hC 7 q155 dX0_rows_1 rfl (by decide) (by decide) r1 ?_
    refine n_ifnonnullN hC dX0_rows_4 ?_
    refine n_iconst hC (v := nI 0) dX0_rows_7 (by decide) ?_
    refine n_goto hC (tgt := 18) dX0_rows_8 (by decide) ?_
    exact n_iret hC dX0_rows_18 (by decide) (by decide) (xOp.mk (M2 := M) (by simp [o_rows, e15]) hR0)
  · skip
    obtain ⟨r1, r2, r3, r4, r5, r6, r7⟩ := gRd.2 (show mN M 1 ≠ 0 by omega)
    refine n_aload_n hC dX0_rows_0 rfl ?_
    refine x_getR hC 7 q155 dX0_rows_1 rfl (by decide) (by decide) r1 ?_
    refine n_ifnonnull hC (tgt := 11) dX0_rows_4 (by decide) ?_
    refine n_aload_n hC dX0_rows_11 rfl ?_
    refine x_getR hC 7 q155 dX0_rows_12 rfl (by decide) (by decide) r1 ?_
    refine o_getIN hC gW_X9 (xBlk_o (na := na) (h := h) (X := (C, B, P, I)) (i := (I 7)) (c := (2, 0)) r4 ⟨by decide, by decide⟩) (host := "MaypoleGreen") 6 (v := nI (mN M 15)) (by decide) dX0_rows_15 rfl (by decide) (by decide) r6.2.1 ?_
    exact n_iret hC dX0_rows_18 (by decide) (by decide) (xOp.mk (M2 := M) (by simp [o_rows]) hR0)

set_option maxHeartbeats 4000000 in
set_option maxRecDepth 100000 in
theorem xt_X0_step (na : nA) (h : nH) (C : nMem) (B : Nat → nMem) (P : Nat → Nat × Nat) (I : Nat → Nat) (M : nMem) (hR : xRel (C, B, P, I) M) (hI : mInv M) (i : Int32) : nM yX0_step cX0_step 2 (some .int) (nRm 3 0 0) [.ref (na 130), .int i] na (xPut na h (C, B, P, I)) (nQi (xOp na h (o_step i M))) 0 0 := by
  refine nM.ofN RX0 rfl (by decide) (by intro v hv; simp only [List.mem_cons, List.not_mem_nil, or_false] at hv; rcases hv with rfl | rfl <;> rfl) (Nat.le_of_ble_eq_true rfl) (fun K hC hnm => ?_)
  show WN K na (xPut na h (C, B, P, I)) 0 0 (nE K (nQi (xOp na h (o_step i M))) 0 0) 0 [some (.ref (na 130)), some (.int i)] []
  let Q9 : State → Prop := nE K (nQi (xOp na h (o_step i M))) 0 0
  show WN K na (xPut na h (C, B, P, I)) 0 0 Q9 0 [some (.ref (na 130)), some (.int i)] []
  have hR0 := hR
  obtain ⟨hw, gPe, gRi, gCl, gSt, gTh, gFi, gTx, gTr, gTp, gRd, gOr⟩ := hR
  dsimp only at hw gPe gRi gCl gSt gTh gFi gTx gTr gTp gRd gOr
  obtain ⟨⟨h0, b0⟩, ⟨h1, b1a, b1⟩, ⟨h11, b11⟩, ⟨h14, b14⟩, ⟨h15, b15, b15n⟩, ⟨h20, b20⟩, ⟨h26, b26⟩, ⟨h27, b27⟩, ⟨h55, b55⟩, iP, iH, iHi, iHd, iC, iT, iF, iG, iS, iZ⟩ := hI
  refine n_iload_n hC dX0_step_0 rfl ?_
  refine n_iconst hC (v := nI 0) dX0_step_1 (by decide) ?_
  refine n_aload_n hC dX0_step_2 rfl ?_
  refine x_getI hC 12 (v := nI (mN M 14)) q160 dX0_step_3 rfl (by decide) (by decide) (gSt.1.trans h14) ?_
  refine n_iconst hC (v := nI 1) dX0_step_6 (by decide) ?_
  refine n_isub hC dX0_step_7 ?_
  refine n_callS3z hC (ct_X0_in na _ i (nI 0) ((nI (mN M 14)) - (nI 1))) ms_X0_in q243 dX0_step_8 ⟨rfl, rfl, by decide, by decide⟩ rfl (Nat.le_of_ble_eq_true rfl) (by decide) (by decide) (fun r0 na0 h0 hp0 => ?_)
  obtain ⟨rfl, rfl, rfl⟩ := hp0
  rw [show nrg i (nI 0) (nI (mN M 14) - nI 1) = nin i (mN M 14) from nrg_in (by omega)]
  refine n_if_eqB hC (tgt := 23) dX0_step_11 (by decide) (fun c_11 => ?_) (fun c_11 => ?_)
  · skip
    refine n_iconst hC (v := (-1)) dX0_step_23 (by decide) ?_
    exact n_iret hC dX0_step_24 (by decide) (by decide) (xOp.mk (M2 := M) (by simp [o_step, c_11]) hR0)
  · skip
    obtain ⟨j, hj, ej⟩ := (nin_t (by omega)).mp c_11
    subst ej
    refine n_aload_n hC dX0_step_14 rfl ?_
    refine x_getA hC 11 q159 dX0_step_15 rfl (by decide) (by decide) ?_
    refine n_iload_n hC dX0_step_18 rfl ?_
    refine x_aldN hC 11 (v := M 16 j) dX0_step_19 rfl rfl (by have h9 : xLen 11 = 300 := rfl; omega) (gSt.2 j hj) ?_
    refine n_goto hC (tgt := 24) dX0_step_20 (by decide) ?_
    exact n_iret hC dX0_step_24 (by decide) (by decide) (xOp.mk (M2 := M) (by simp [o_step, c_11, nI_clamp (show j < 2 ^ 31 by omega)]) hR0)

theorem rdTop_m {R M : nMem} {r p : Nat} (h : rdRel R M) (hr : r < mN M 15) (hp : p < mN M 1) (iC : ∀ r p, r < mN M 15 → p < mN M 1 → M 18 (9 * r + p) = nI (mA M 18 (9 * r + p)) ∧ mA M 18 (9 * r + p) < mN M 1) : rdTop R (mN M 1) r p = nI (mTop M (mN M 1) r p) ∧ mTop M (mN M 1) r p < mN M 1 := by
  have hq : (p + 1) % mN M 1 < mN M 1 := Nat.mod_lt _ (by omega)
  have hq2 : (p + (mN M 1 - 1)) % mN M 1 < mN M 1 := Nat.mod_lt _ (by omega)
  unfold rdTop mTop
  rw [(h.2.2.1 r p hr hp).2, (h.2.2.1 r _ hr hq2).2, (h.2.2.1 r _ hr hq).1, (h.2.2.1 r p hr hp).1]
  split
  · exact iC r _ hr hq
  · exact iC r _ hr hp
set_option maxHeartbeats 4000000 in
set_option maxRecDepth 100000 in
theorem xt_X0_cloth (na : nA) (h : nH) (C : nMem) (B : Nat → nMem) (P : Nat → Nat × Nat) (I : Nat → Nat) (M : nMem) (hR : xRel (C, B, P, I) M) (hI : mInv M) (r p w : Int32) : nM yX0_cloth cX0_cloth 4 (some .int) (nRm 3 0 0) [.ref (na 130), .int r, .int p, .int w] na (xPut na h (C, B, P, I)) (nQi (xOp na h (o_cloth r p w M))) 0 0 := by
  refine nM.ofN RX0 rfl (by decide) (by intro v hv; simp only [List.mem_cons, List.not_mem_nil, or_false] at hv; rcases hv with rfl | rfl | rfl | rfl <;> rfl) (Nat.le_of_ble_eq_true rfl) (fun K hC hnm => ?_)
  show WN K na (xPut na h (C, B, P, I)) 0 0 (nE K (nQi (xOp na h (o_cloth r p w M))) 0 0) 0 [some (.ref (na 130)), some (.int r), some (.int p), some (.int w)] []
  let Q9 : State → Prop := nE K (nQi (xOp na h (o_cloth r p w M))) 0 0
  show WN K na (xPut na h (C, B, P, I)) 0 0 Q9 0 [some (.ref (na 130)), some (.int r), some (.int p), some (.int w)] []
  have hR0 := hR
  obtain ⟨hw, gPe, gRi, gCl, gSt, gTh, gFi, gTx, gTr, gTp, gRd, gOr⟩ := hR
  dsimp only at hw gPe gRi gCl gSt gTh gFi gTx gTr gTp gRd gOr
  obtain ⟨⟨h0, b0⟩, ⟨h1, b1a, b1⟩, ⟨h11, b11⟩, ⟨h14, b14⟩, ⟨h15, b15, b15n⟩, ⟨h20, b20⟩, ⟨h26, b26⟩, ⟨h27, b27⟩, ⟨h55, b55⟩, iP, iH, iHi, iHd, iC, iT, iF, iG, iS, iZ⟩ := hI
  refine n_iload_n hC dX0_cloth_0 rfl ?_
  refine n_iconst hC (v := nI 0) dX0_cloth_1 (by decide) ?_
  refine n_aload_n hC dX0_cloth_2 rfl ?_
  refine n_callV0i hC (ct_X0_rows na _ _ _ _ _ (r := mN M 15) (xr_rows (C := C) gRd b15n)) md_X0_rows q455 dX0_cloth_3 rfl xPut_o rfl rfl ⟨rfl, rfl, by decide, by decide⟩ rfl (Nat.le_of_ble_eq_true rfl) (by decide) (by decide) (fun r0 na0 h0 hp0 => ?_)
  obtain ⟨rfl, rfl, rfl⟩ := hp0
  refine n_iconst hC (v := nI 1) dX0_cloth_6 (by decide) ?_
  refine n_isub hC dX0_cloth_7 ?_
  refine n_callS3z hC (ct_X0_in na _ r (nI 0) ((nI (mN M 15)) - (nI 1))) ms_X0_in q243 dX0_cloth_8 ⟨rfl, rfl, by decide, by decide⟩ rfl (Nat.le_of_ble_eq_true rfl) (by decide) (by decide) (fun r1 na1 h1 hp1 => ?_)
  obtain ⟨rfl, rfl, rfl⟩ := hp1
  rw [show nrg r (nI 0) (nI (mN M 15) - nI 1) = nin r (mN M 15) from nrg_in (by omega)]
  refine n_if_eqB hC (tgt := 22) dX0_cloth_11 (by decide) (fun c_11 => ?_) (fun c_11 => ?_)
  · skip
    refine n_iconst hC (v := (-1)) dX0_cloth_22 (by decide) ?_
    exact n_iret hC dX0_cloth_23 (by decide) (by decide) (xOp.mk (M2 := M) (by simp [o_cloth, c_11]) hR0)
  · skip
    refine n_aload_n hC dX0_cloth_14 rfl ?_
    refine n_iload_n hC dX0_cloth_15 rfl ?_
    refine n_callV1z hC (ct_X0_isPlace na _ _ _ _ _ (n := mN M 1) (gRi.1.trans h1) (by omega) p) md_X0_isPlace q373 dX0_cloth_16 rfl xPut_o rfl rfl ⟨rfl, rfl, by decide, by decide⟩ rfl (Nat.le_of_ble_eq_true rfl) (by decide) (by decide) (fun r2 na2 h2 hp2 => ?_)
    obtain ⟨rfl, rfl, rfl⟩ := hp2
    refine n_if_neB hC (tgt := 24) dX0_cloth_19 (by decide) (fun c_19 => ?_) (fun c_19 => ?_)
    · skip
      obtain ⟨i, hi, ei⟩ := (nin_t (by omega)).mp c_11
      obtain ⟨j, hj, ej⟩ := (nin_t (by omega)).mp c_19
      subst ei
      subst ej
      have hic : (nI i).toNatClampNeg = i := nI_clamp (by omega)
      have hjc : (nI j).toNatClampNeg = j := nI_clamp (by omega)
      obtain ⟨r1, r2, r3, r4, r5, r6, r7⟩ := gRd.2 (show mN M 1 ≠ 0 by omega)
      refine n_iload_n hC dX0_cloth_24 rfl ?_
      by_cases s_25 : (w).toInt < 0 ∨ (2 : Int) < (w).toInt
      · refine n_tableOut hC (tgt := 91) dX0_cloth_25 s_25 (by decide) ?_
        refine n_iconst hC (v := (-1)) dX0_cloth_91 (by decide) ?_
        exact n_iret hC dX0_cloth_92 (by decide) (by decide) (xOp.mk (M2 := M) (by simp [o_cloth, c_11, c_19, nrg_out s_25]) hR0)
      · obtain ⟨j_25, hj_25, ej_25⟩ := sw_c (n := 2) s_25
        rcases (show j_25 = 0 ∨ j_25 = 1 ∨ j_25 = 2 by omega) with rfl | rfl | rfl
        · subst ej_25
          refine n_tableIn hC (off := 27) (tgt := 52) dX0_cloth_25 (by decide) (by decide) (by decide) (by decide) ?_
          refine n_aload_n hC dX0_cloth_52 rfl ?_
          refine x_getR hC 7 q155 dX0_cloth_53 rfl (by decide) (by decide) r1 ?_
          refine o_getAN hC gW_X9 (xBlk_o (na := na) (h := h) (X := (C, B, P, I)) (i := (I 7)) (c := (2, 0)) r4 ⟨by decide, by decide⟩) (host := "MaypoleGreen") 4 (by decide) dX0_cloth_56 rfl (by decide) (by decide) ?_
          refine n_iload_n hC dX0_cloth_59 rfl ?_
          refine o_rowN hC (xBlk_o (na := na) (h := h) (X := (C, B, P, I)) (i := (I 7)) (c := (2, 0)) r4 ⟨by decide, by decide⟩) 4 20 dX0_cloth_60 rfl (by decide) (Or.inl ⟨rfl, rfl⟩) (by omega) ?_
          refine n_iload_n hC dX0_cloth_61 rfl ?_
          refine o_aldN hC gW_X9 (xBlk_o (na := na) (h := h) (X := (C, B, P, I)) (i := (I 7)) (c := (2, 0)) r4 ⟨by decide, by decide⟩) (20 + i) (v := M 18 (9 * i + j)) dX0_cloth_62 rfl (gI_X9_r (by omega)) (by rw [gL_X9_r (by omega)]; omega) ((r6.2.2.1 i j hi hj).1) ?_
          exact n_iret hC dX0_cloth_63 (by decide) (by decide) (xOp.mk (M2 := M) (by simp [o_cloth, c_11, c_19, hic, hjc, show nrg (nI 0) (nI 0) (nI 2) = true from by decide, show (nI 0).toNatClampNeg = 0 from by decide]) hR0)
        · subst ej_25
          refine n_tableIn hC (off := 39) (tgt := 64) dX0_cloth_25 (by decide) (by decide) (by decide) (by decide) ?_
          refine n_aload_n hC dX0_cloth_64 rfl ?_
          refine x_getR hC 7 q155 dX0_cloth_65 rfl (by decide) (by decide) r1 ?_
          refine o_getAN hC gW_X9 (xBlk_o (na := na) (h := h) (X := (C, B, P, I)) (i := (I 7)) (c := (2, 0)) r4 ⟨by decide, by decide⟩) (host := "MaypoleGreen") 5 (by decide) dX0_cloth_68 rfl (by decide) (by decide) ?_
          refine n_iload_n hC dX0_cloth_71 rfl ?_
          refine o_rowN hC (xBlk_o (na := na) (h := h) (X := (C, B, P, I)) (i := (I 7)) (c := (2, 0)) r4 ⟨by decide, by decide⟩) 5 120 dX0_cloth_72 rfl (by decide) (Or.inr ⟨rfl, rfl⟩) (by omega) ?_
          refine n_iload_n hC dX0_cloth_73 rfl ?_
          refine o_aldN hC gW_X9 (xBlk_o (na := na) (h := h) (X := (C, B, P, I)) (i := (I 7)) (c := (2, 0)) r4 ⟨by decide, by decide⟩) (120 + i) (v := M 19 (9 * i + j)) dX0_cloth_74 rfl (gI_X9_r (by omega)) (by rw [gL_X9_r (by omega)]; omega) ((r6.2.2.1 i j hi hj).2) ?_
          exact n_iret hC dX0_cloth_75 (by decide) (by decide) (xOp.mk (M2 := M) (by simp [o_cloth, c_11, c_19, hic, hjc, show nrg (nI 1) (nI 0) (nI 2) = true from by decide, show (nI 1).toNatClampNeg = 1 from by decide]) hR0)
        · subst ej_25
          refine n_tableIn hC (off := 51) (tgt := 76) dX0_cloth_25 (by decide) (by decide) (by decide) (by decide) ?_
          refine n_aload_n hC dX0_cloth_76 rfl ?_
          refine x_getA hC 9 q157 dX0_cloth_77 rfl (by decide) (by decide) ?_
          refine n_aload_n hC dX0_cloth_80 rfl ?_
          refine x_getR hC 7 q155 dX0_cloth_81 rfl (by decide) (by decide) r1 ?_
          refine n_iload_n hC dX0_cloth_84 rfl ?_
          refine n_iload_n hC dX0_cloth_85 rfl ?_
          refine n_callV2i hC (xc_pure (i := (I 7)) (c := (2, 0)) r4 ⟨by decide, by decide⟩ (ct_X9_top (bB (I 7)) na _ (B (I 7)) (n := mN M 1) r6.1 (by omega) (by omega) (i := i) (p := j) (by omega) (by omega))) md_X9_top q456 dX0_cloth_86 rfl (((xBlk_o (na := na) (h := h) (X := (C, B, P, I)) (i := (I 7)) (c := (2, 0)) r4 ⟨by decide, by decide⟩) 9 (by decide)).trans (if_pos rfl)) rfl rfl ⟨rfl, rfl, by decide, by decide⟩ rfl (Nat.le_of_ble_eq_true rfl) (by decide) (by decide) (fun r3 na3 h3 hp3 => ?_)
          obtain ⟨rfl, rfl, rfl⟩ := hp3
          rw [(rdTop_m r6 (show i < mN M 15 by omega) (show j < mN M 1 by omega) iC).1]
          have tl := (rdTop_m r6 (show i < mN M 15 by omega) (show j < mN M 1 by omega) iC).2
          refine x_aldN hC 9 (v := M 10 (mTop M (mN M 1) i j)) dX0_cloth_89 rfl rfl (by have h9 : xLen 9 = 9 := rfl; omega) (gCl.1 (Or.inr (by omega)) _ tl) ?_
          exact n_iret hC dX0_cloth_90 (by decide) (by decide) (xOp.mk (M2 := M) (by simp [o_cloth, c_11, c_19, hic, hjc, show nrg (nI 2) (nI 0) (nI 2) = true from by decide, show (nI 2).toNatClampNeg = 2 from by decide]) hR0)
    · skip
      refine n_iconst hC (v := (-1)) dX0_cloth_22 (by decide) ?_
      exact n_iret hC dX0_cloth_23 (by decide) (by decide) (xOp.mk (M2 := M) (by simp [o_cloth, c_11, c_19]) hR0)

set_option maxHeartbeats 4000000 in
set_option maxRecDepth 100000 in
theorem ct_X0_areLike (na : nA) (h : nH) (C : nMem) (B : Nat → nMem) (P : Nat → Nat × Nat) (I : Nat → Nat) (M : nMem) (r1 : I 7 ≠ 0) (r4 : P (I 7) = (2, 0)) (r6 : rdRel (B (I 7)) M) (hn : C 2 0 = nI (mN M 1)) (b1a : 3 ≤ mN M 1) (b1 : mN M 1 ≤ 9) (b15 : mN M 15 ≤ 100) (h9 : ∀ p, p < mN M 1 → C 9 p = M 10 p) (iC : ∀ r p, r < mN M 15 → p < mN M 1 → M 18 (9 * r + p) = nI (mA M 18 (9 * r + p)) ∧ mA M 18 (9 * r + p) < mN M 1) {r t : Nat} (hr : r < mN M 15) (ht : t < mN M 15) : nM yX0_areLike cX0_areLike 5 (some .boolean) (nRm 1 0 0) [.ref (na 130), .int (nI r), .int (nI t)] na (xPut na h (C, B, P, I)) (nQi (hPure na (xPut na h (C, B, P, I)) (nbo (mLike M (mN M 1) r t)))) 0 0 := by
  refine nM.ofN RX0 rfl (by decide) (by intro v hv; simp only [List.mem_cons, List.not_mem_nil, or_false] at hv; rcases hv with rfl | rfl | rfl <;> rfl) (Nat.le_of_ble_eq_true rfl) (fun K hC hnm => ?_)
  show WN K na (xPut na h (C, B, P, I)) 0 0 (nE K (nQi (hPure na (xPut na h (C, B, P, I)) (nbo (mLike M (mN M 1) r t)))) 0 0) 0 [some (.ref (na 130)), some (.int (nI r)), some (.int (nI t)), none, none] []
  let Q9 : State → Prop := nE K (nQi (hPure na (xPut na h (C, B, P, I)) (nbo (mLike M (mN M 1) r t)))) 0 0
  show WN K na (xPut na h (C, B, P, I)) 0 0 Q9 0 [some (.ref (na 130)), some (.int (nI r)), some (.int (nI t)), none, none] []
  refine n_iconst hC (v := nbo true) dX0_areLike_0 (by decide) ?_
  refine n_istore_n hC dX0_areLike_1 (Nat.le_of_ble_eq_true rfl) ?_
  refine n_iconst hC (v := nI 0) dX0_areLike_2 (by decide) ?_
  refine n_istore hC dX0_areLike_3 (Nat.le_of_ble_eq_true rfl) ?_
  have lp5 : ∀ d9 : Nat, ∀ (p : Nat) (g : Bool), mN M 1 - p = d9 → (p ≤ mN M 1) → (allb p (fun p => decide (M 10 (mTop M (mN M 1) r p) = M 10 (mTop M (mN M 1) t p))) = g) → WN K na (xPut na h (C, B, P, I)) 0 0 Q9 5 [some (.ref (na 130)), some (.int (nI r)), some (.int (nI t)), some (.int (nbo g)), some (.int (nI p))] [] := by
    intro d9
    induction d9 using Nat.strongRecOn with
    | _ d9 ih5 =>
      intro p g hd5 hp hg
      refine n_iload hC dX0_areLike_5 rfl ?_
      refine n_aload_n hC dX0_areLike_7 rfl ?_
      refine x_getI hC 2 (v := nI (mN M 1)) q150 dX0_areLike_8 rfl (by decide) (by decide) hn ?_
      refine n_icmp_geN hC (tgt := 63) dX0_areLike_11 (by decide) (by omega) (by omega) (fun c_11 => ?_) (fun c_11 => ?_)
      · skip
        have hgN : mLike M (mN M 1) r t = g := by rw [← hg]; unfold mLike; rw [show p = mN M 1 by omega]
        refine n_iload_n hC dX0_areLike_63 rfl ?_
        exact n_zret hC dX0_areLike_64 (nbo_nar _) (by decide) (by decide) (⟨by rw [hgN], rfl, rfl⟩)
      · skip
        refine n_iload_n hC dX0_areLike_14 rfl ?_
        refine n_if_eqB hC (tgt := 63) dX0_areLike_15 (by decide) (fun c_15 => ?_) (fun c_15 => ?_)
        · skip
          have hgN : mLike M (mN M 1) r t = g := by
            rw [c_15] at hg ⊢
            unfold mLike
            cases z : allb (mN M 1) (fun p => decide (M 10 (mTop M (mN M 1) r p) = M 10 (mTop M (mN M 1) t p))) with
            | false => rfl
            | true => rw [allb_mono (show p ≤ mN M 1 by omega) z] at hg; cases hg
          refine n_iload_n hC dX0_areLike_63 rfl ?_
          exact n_zret hC dX0_areLike_64 (nbo_nar _) (by decide) (by decide) (⟨by rw [hgN], rfl, rfl⟩)
        · skip
          refine n_aload_n hC dX0_areLike_18 rfl ?_
          refine x_getA hC 9 q157 dX0_areLike_19 rfl (by decide) (by decide) ?_
          refine n_aload_n hC dX0_areLike_22 rfl ?_
          refine x_getR hC 7 q155 dX0_areLike_23 rfl (by decide) (by decide) r1 ?_
          refine n_iload_n hC dX0_areLike_26 rfl ?_
          refine n_iload hC dX0_areLike_27 rfl ?_
          refine n_callV2i hC (xc_pure (i := (I 7)) (c := (2, 0)) r4 ⟨by decide, by decide⟩ (ct_X9_top (bB (I 7)) na _ (B (I 7)) (n := mN M 1) r6.1 (by omega) (by omega) (i := r) (p := p) (by omega) (by omega))) md_X9_top q456 dX0_areLike_29 rfl (((xBlk_o (na := na) (h := h) (X := (C, B, P, I)) (i := (I 7)) (c := (2, 0)) r4 ⟨by decide, by decide⟩) 9 (by decide)).trans (if_pos rfl)) rfl rfl ⟨rfl, rfl, by decide, by decide⟩ rfl (Nat.le_of_ble_eq_true rfl) (by decide) (by decide) (fun r0 na0 h0 hp0 => ?_)
          obtain ⟨rfl, rfl, rfl⟩ := hp0
          rw [(rdTop_m r6 (show r < mN M 15 by omega) (show p < mN M 1 by omega) iC).1]
          have tl1 := (rdTop_m r6 (show r < mN M 15 by omega) (show p < mN M 1 by omega) iC).2
          refine x_aldN hC 9 (v := M 10 (mTop M (mN M 1) r p)) dX0_areLike_32 rfl rfl (by have h9 : xLen 9 = 9 := rfl; omega) (h9 _ tl1) ?_
          refine n_aload_n hC dX0_areLike_33 rfl ?_
          refine x_getA hC 9 q157 dX0_areLike_34 rfl (by decide) (by decide) ?_
          refine n_aload_n hC dX0_areLike_37 rfl ?_
          refine x_getR hC 7 q155 dX0_areLike_38 rfl (by decide) (by decide) r1 ?_
          refine n_iload_n hC dX0_areLike_41 rfl ?_
          refine n_iload hC dX0_areLike_42 rfl ?_
          refine n_callV2i hC (xc_pure (i := (I 7)) (c := (2, 0)) r4 ⟨by decide, by decide⟩ (ct_X9_top (bB (I 7)) na _ (B (I 7)) (n := mN M 1) r6.1 (by omega) (by omega) (i := t) (p := p) (by omega) (by omega))) md_X9_top q456 dX0_areLike_44 rfl (((xBlk_o (na := na) (h := h) (X := (C, B, P, I)) (i := (I 7)) (c := (2, 0)) r4 ⟨by decide, by decide⟩) 9 (by decide)).trans (if_pos rfl)) rfl rfl ⟨rfl, rfl, by decide, by decide⟩ rfl (Nat.le_of_ble_eq_true rfl) (by decide) (by decide) (fun r1 na1 h1 hp1 => ?_)
          obtain ⟨rfl, rfl, rfl⟩ := hp1
          rw [(rdTop_m r6 (show t < mN M 15 by omega) (show p < mN M 1 by omega) iC).1]
          have tl2 := (rdTop_m r6 (show t < mN M 15 by omega) (show p < mN M 1 by omega) iC).2
          refine x_aldN hC 9 (v := M 10 (mTop M (mN M 1) t p)) dX0_areLike_47 rfl rfl (by have h9 : xLen 9 = 9 := rfl; omega) (h9 _ tl2) ?_
          refine n_icmp_ne hC (tgt := 55) dX0_areLike_48 (by decide) (fun c_48 => ?_) (fun c_48 => ?_)
          · skip
            refine n_iconst hC (v := nbo false) dX0_areLike_55 (by decide) ?_
            refine n_istore_n hC dX0_areLike_56 (Nat.le_of_ble_eq_true rfl) ?_
            refine n_iincN hC dX0_areLike_57 (j := 1) (c := p + 1) rfl (by decide) rfl ?_
            refine n_goto hC (tgt := 5) dX0_areLike_60 (by decide) ?_
            exact WN.forget (L' := [some (.ref (na 130)), some (.int (nI r)), some (.int (nI t)), some (.int (nbo false)), some (.int (nI (p + 1)))]) (⟨Or.inr rfl, Or.inr rfl, Or.inr rfl, Or.inr rfl, Or.inr rfl, trivial⟩) (ih5 _ (by omega) (p + 1) false rfl (by omega) (by show (allb p _ && decide _) = false; rw [hg, c_15, decide_eq_false c_48]; rfl))
          · skip
            refine n_iconst hC (v := nbo true) dX0_areLike_51 (by decide) ?_
            refine n_goto hC (tgt := 56) dX0_areLike_52 (by decide) ?_
            refine n_istore_n hC dX0_areLike_56 (Nat.le_of_ble_eq_true rfl) ?_
            refine n_iincN hC dX0_areLike_57 (j := 1) (c := p + 1) rfl (by decide) rfl ?_
            refine n_goto hC (tgt := 5) dX0_areLike_60 (by decide) ?_
            exact WN.forget (L' := [some (.ref (na 130)), some (.int (nI r)), some (.int (nI t)), some (.int (nbo true)), some (.int (nI (p + 1)))]) (⟨Or.inr rfl, Or.inr rfl, Or.inr rfl, Or.inr rfl, Or.inr rfl, trivial⟩) (ih5 _ (by omega) (p + 1) true rfl (by omega) (by show (allb p _ && decide _) = true; rw [hg, c_15, decide_eq_true c_48]; rfl))
  exact WN.forget (L' := [some (.ref (na 130)), some (.int (nI r)), some (.int (nI t)), some (.int (nbo true)), some (.int (nI 0))]) (⟨Or.inr rfl, Or.inr rfl, Or.inr rfl, Or.inr rfl, Or.inr rfl, trivial⟩) (lp5 _ 0 true rfl (by omega) rfl)

set_option maxHeartbeats 4000000 in
set_option maxRecDepth 100000 in
theorem xt_X0_beat (na : nA) (h : nH) (C : nMem) (B : Nat → nMem) (P : Nat → Nat × Nat) (I : Nat → Nat) (M : nMem) (hR : xRel (C, B, P, I) M) (hI : mInv M) : nM yX0_beat cX0_beat 5 (some .int) (nRm 3 0 0) [.ref (na 130)] na (xPut na h (C, B, P, I)) (nQi (xOp na h (o_beat M))) 0 0 := by
  refine nM.ofN RX0 rfl (by decide) (by intro v hv; simp only [List.mem_cons, List.not_mem_nil, or_false] at hv; subst hv; rfl) (Nat.le_of_ble_eq_true rfl) (fun K hC hnm => ?_)
  show WN K na (xPut na h (C, B, P, I)) 0 0 (nE K (nQi (xOp na h (o_beat M))) 0 0) 0 [some (.ref (na 130)), none, none, none, none] []
  let Q9 : State → Prop := nE K (nQi (xOp na h (o_beat M))) 0 0
  show WN K na (xPut na h (C, B, P, I)) 0 0 Q9 0 [some (.ref (na 130)), none, none, none, none] []
  have hR0 := hR
  obtain ⟨hw, gPe, gRi, gCl, gSt, gTh, gFi, gTx, gTr, gTp, gRd, gOr⟩ := hR
  dsimp only at hw gPe gRi gCl gSt gTh gFi gTx gTr gTp gRd gOr
  obtain ⟨⟨h0, b0⟩, ⟨h1, b1a, b1⟩, ⟨h11, b11⟩, ⟨h14, b14⟩, ⟨h15, b15, b15n⟩, ⟨h20, b20⟩, ⟨h26, b26⟩, ⟨h27, b27⟩, ⟨h55, b55⟩, iP, iH, iHi, iHd, iC, iT, iF, iG, iS, iZ⟩ := hI
  refine n_aload_n hC dX0_beat_0 rfl ?_
  refine n_callV0i hC (ct_X0_rows na _ _ _ _ _ (r := mN M 15) (xr_rows (C := C) gRd b15n)) md_X0_rows q455 dX0_beat_1 rfl xPut_o rfl rfl ⟨rfl, rfl, by decide, by decide⟩ rfl (Nat.le_of_ble_eq_true rfl) (by decide) (by decide) (fun r0 na0 h0 hp0 => ?_)
  obtain ⟨rfl, rfl, rfl⟩ := hp0
  refine n_istore_n hC dX0_beat_4 (Nat.le_of_ble_eq_true rfl) ?_
  refine n_iload_n hC dX0_beat_5 rfl ?_
  refine n_if_neN hC (tgt := 12) dX0_beat_6 (by decide) (by omega) (fun c_6 => ?_) (fun c_6 => ?_)
  · skip
    have hn3 := b15n c_6
    obtain ⟨r1, r2, r3, r4, r5, r6, r7⟩ := gRd.2 (show mN M 1 ≠ 0 by omega)
    refine n_iconst hC (v := nI 1) dX0_beat_12 (by decide) ?_
    refine n_istore_n hC dX0_beat_13 (Nat.le_of_ble_eq_true rfl) ?_
    have lp14 : ∀ d9 : Nat, ∀ (b : Nat), mN M 15 - b = d9 → (1 ≤ b ∧ b ≤ mN M 15) → (fstb (mBt M) (mN M 15 - b) b = fstb (mBt M) (mN M 15 - 1) 1) → WN K na (xPut na h (C, B, P, I)) 0 0 Q9 14 [some (.ref (na 130)), some (.int (nI (mN M 15))), some (.int (nI b)), none, none] [] := by
      intro d9
      induction d9 using Nat.strongRecOn with
      | _ d9 ih14 =>
        intro b hd14 hb1 hb2
        refine n_iload_n hC dX0_beat_14 rfl ?_
        refine n_iload_n hC dX0_beat_15 rfl ?_
        refine n_icmp_geN hC (tgt := 63) dX0_beat_16 (by decide) (by omega) (by omega) (fun c_16 => ?_) (fun c_16 => ?_)
        · skip
          refine n_iload_n hC dX0_beat_63 rfl ?_
          exact n_iret hC dX0_beat_64 (by decide) (by decide) (xOp.mk (M2 := M) (by simp only [o_beat, c_6, if_false]; rw [← hb2, show mN M 15 - b = 0 by omega]; show (nI b, M) = _; rw [show b = mN M 15 by omega]) hR0)
        · skip
          refine n_iconst hC (v := nbo true) dX0_beat_19 (by decide) ?_
          refine n_istore_n hC dX0_beat_20 (Nat.le_of_ble_eq_true rfl) ?_
          refine n_iload_n hC dX0_beat_21 rfl ?_
          refine n_istore hC dX0_beat_22 (Nat.le_of_ble_eq_true rfl) ?_
          have lp24 : ∀ d9 : Nat, ∀ (r : Nat) (g : Bool), mN M 15 - r = d9 → (b ≤ r ∧ r ≤ mN M 15) → (allb (r - b) (fun i => mLike M (mN M 1) (b + i) i) = g) → WN K na (xPut na h (C, B, P, I)) 0 0 Q9 24 [some (.ref (na 130)), some (.int (nI (mN M 15))), some (.int (nI b)), some (.int (nbo g)), some (.int (nI r))] [] := by
            intro d9
            induction d9 using Nat.strongRecOn with
            | _ d9 ih24 =>
              intro r g hd24 hr hg
              refine n_iload hC dX0_beat_24 rfl ?_
              refine n_iload_n hC dX0_beat_26 rfl ?_
              refine n_icmp_geN hC (tgt := 51) dX0_beat_27 (by decide) (by omega) (by omega) (fun c_27 => ?_) (fun c_27 => ?_)
              · skip
                have hB : mBt M b = g := by rw [← hg]; unfold mBt; rw [show r = mN M 15 by omega]
                refine n_iload_n hC dX0_beat_51 rfl ?_
                refine n_if_eqB hC (tgt := 57) dX0_beat_52 (by decide) (fun c_52 => ?_) (fun c_52 => ?_)
                · skip
                  refine n_iincN hC dX0_beat_57 (j := 1) (c := b + 1) rfl (by decide) rfl ?_
                  refine n_goto hC (tgt := 14) dX0_beat_60 (by decide) ?_
                  exact WN.forget (L' := [some (.ref (na 130)), some (.int (nI (mN M 15))), some (.int (nI (b + 1))), none, none]) (⟨Or.inr rfl, Or.inr rfl, Or.inr rfl, Or.inl rfl, Or.inl rfl, trivial⟩) (ih14 _ (by omega) (b + 1) rfl (by omega) (by rw [← hb2, show mN M 15 - b = (mN M 15 - (b + 1)) + 1 by omega, fstb_f (hB.trans c_52)]))
                · skip
                  refine n_iload_n hC dX0_beat_55 rfl ?_
                  exact n_iret hC dX0_beat_56 (by decide) (by decide) (xOp.mk (M2 := M) (by simp only [o_beat, c_6, if_false]; rw [← hb2, show mN M 15 - b = (mN M 15 - b - 1) + 1 by omega, fstb_t (hB.trans c_52)]) hR0)
              · skip
                refine n_iload_n hC dX0_beat_30 rfl ?_
                refine n_if_eqB hC (tgt := 51) dX0_beat_31 (by decide) (fun c_31 => ?_) (fun c_31 => ?_)
                · skip
                  have hB : mBt M b = g := by
                    rw [c_31] at hg ⊢
                    unfold mBt
                    cases z : allb (mN M 15 - b) (fun i => mLike M (mN M 1) (b + i) i) with
                    | false => rfl
                    | true => rw [allb_mono (show r - b ≤ mN M 15 - b by omega) z] at hg; cases hg
                  refine n_iload_n hC dX0_beat_51 rfl ?_
                  refine n_if_eqB hC (tgt := 57) dX0_beat_52 (by decide) (fun c_52 => ?_) (fun c_52 => ?_)
                  · skip
                    refine n_iincN hC dX0_beat_57 (j := 1) (c := b + 1) rfl (by decide) rfl ?_
                    refine n_goto hC (tgt := 14) dX0_beat_60 (by decide) ?_
                    exact WN.forget (L' := [some (.ref (na 130)), some (.int (nI (mN M 15))), some (.int (nI (b + 1))), none, none]) (⟨Or.inr rfl, Or.inr rfl, Or.inr rfl, Or.inl rfl, Or.inl rfl, trivial⟩) (ih14 _ (by omega) (b + 1) rfl (by omega) (by rw [← hb2, show mN M 15 - b = (mN M 15 - (b + 1)) + 1 by omega, fstb_f (hB.trans c_52)]))
                  · skip
                    refine n_iload_n hC dX0_beat_55 rfl ?_
                    exact n_iret hC dX0_beat_56 (by decide) (by decide) (xOp.mk (M2 := M) (by simp only [o_beat, c_6, if_false]; rw [← hb2, show mN M 15 - b = (mN M 15 - b - 1) + 1 by omega, fstb_t (hB.trans c_52)]) hR0)
                · skip
                  refine n_aload_n hC dX0_beat_34 rfl ?_
                  refine n_iload hC dX0_beat_35 rfl ?_
                  refine n_iload hC dX0_beat_37 rfl ?_
                  refine n_iload_n hC dX0_beat_39 rfl ?_
                  refine n_isubN hC dX0_beat_40 (by omega) rfl ?_
                  refine n_callV2z hC (ct_X0_areLike na _ _ _ _ _ M r1 r4 r6 (gRi.1.trans h1) hn3 (by omega) (by omega) (fun p hp => gCl.1 (Or.inr (by omega)) p hp) iC (r := r) (t := r - b) (by omega) (by omega)) md_X0_areLike q464 dX0_beat_41 rfl xPut_o rfl rfl ⟨rfl, rfl, by decide, by decide⟩ rfl (Nat.le_of_ble_eq_true rfl) (by decide) (by decide) (fun r1 na1 h1 hp1 => ?_)
                  obtain ⟨rfl, rfl, rfl⟩ := hp1
                  refine n_istore_n hC dX0_beat_44 (Nat.le_of_ble_eq_true rfl) ?_
                  refine n_iincN hC dX0_beat_45 (j := 1) (c := r + 1) rfl (by decide) rfl ?_
                  refine n_goto hC (tgt := 24) dX0_beat_48 (by decide) ?_
                  exact WN.forget (L' := [some (.ref (na 130)), some (.int (nI (mN M 15))), some (.int (nI b)), some (.int (nbo (mLike M (mN M 1) r (r - b)))), some (.int (nI (r + 1)))]) (⟨Or.inr rfl, Or.inr rfl, Or.inr rfl, Or.inr rfl, Or.inr rfl, trivial⟩) (ih24 _ (by omega) (r + 1) (mLike M (mN M 1) r (r - b)) rfl (by omega) (by rw [show r + 1 - b = (r - b) + 1 by omega]; show (allb (r - b) _ && mLike _ _ (b + (r - b)) (r - b)) = _; rw [show b + (r - b) = r by omega, hg, c_31, Bool.true_and]))
          exact WN.forget (L' := [some (.ref (na 130)), some (.int (nI (mN M 15))), some (.int (nI b)), some (.int (nbo true)), some (.int (nI b))]) (⟨Or.inr rfl, Or.inr rfl, Or.inr rfl, Or.inr rfl, Or.inr rfl, trivial⟩) (lp24 _ b true rfl (by omega) (by rw [Nat.sub_self]; rfl))
    exact WN.forget (L' := [some (.ref (na 130)), some (.int (nI (mN M 15))), some (.int (nI 1)), none, none]) (⟨Or.inr rfl, Or.inr rfl, Or.inr rfl, Or.inl rfl, Or.inl rfl, trivial⟩) (lp14 _ 1 rfl (by omega) rfl)
  · skip
    refine n_bipush hC (v := (-3)) dX0_beat_9 (by decide) ?_
    exact n_iret hC dX0_beat_11 (by decide) (by decide) (xOp.mk (M2 := M) (by simp [o_beat, c_6]) hR0)

set_option maxHeartbeats 4000000 in
set_option maxRecDepth 100000 in
theorem xt_X0_picture (na : nA) (h : nH) (C : nMem) (B : Nat → nMem) (P : Nat → Nat × Nat) (I : Nat → Nat) (M : nMem) (hR : xRel (C, B, P, I) M) (hI : mInv M) (r p c : Int32) : nM yX0_picture cX0_picture 4 (some .int) (nRm 3 0 0) [.ref (na 130), .int r, .int p, .int c] na (xPut na h (C, B, P, I)) (nQi (xOp na h (o_picture r p c M))) 0 0 := by
  refine nM.ofN RX0 rfl (by decide) (by intro v hv; simp only [List.mem_cons, List.not_mem_nil, or_false] at hv; rcases hv with rfl | rfl | rfl | rfl <;> rfl) (Nat.le_of_ble_eq_true rfl) (fun K hC hnm => ?_)
  show WN K na (xPut na h (C, B, P, I)) 0 0 (nE K (nQi (xOp na h (o_picture r p c M))) 0 0) 0 [some (.ref (na 130)), some (.int r), some (.int p), some (.int c)] []
  let Q9 : State → Prop := nE K (nQi (xOp na h (o_picture r p c M))) 0 0
  show WN K na (xPut na h (C, B, P, I)) 0 0 Q9 0 [some (.ref (na 130)), some (.int r), some (.int p), some (.int c)] []
  have hR0 := hR
  obtain ⟨hw, gPe, gRi, gCl, gSt, gTh, gFi, gTx, gTr, gTp, gRd, gOr⟩ := hR
  dsimp only at hw gPe gRi gCl gSt gTh gFi gTx gTr gTp gRd gOr
  obtain ⟨⟨h0, b0⟩, ⟨h1, b1a, b1⟩, ⟨h11, b11⟩, ⟨h14, b14⟩, ⟨h15, b15, b15n⟩, ⟨h20, b20⟩, ⟨h26, b26⟩, ⟨h27, b27⟩, ⟨h55, b55⟩, iP, iH, iHi, iHd, iC, iT, iF, iG, iS, iZ⟩ := hI
  refine n_iload_n hC dX0_picture_0 rfl ?_
  refine n_iconst hC (v := nI 0) dX0_picture_1 (by decide) ?_
  refine n_bipush hC (v := nI 99) dX0_picture_2 (by decide) ?_
  refine n_callS3z hC (ct_X0_in na _ r (nI 0) (nI 99)) ms_X0_in q243 dX0_picture_4 ⟨rfl, rfl, by decide, by decide⟩ rfl (Nat.le_of_ble_eq_true rfl) (by decide) (by decide) (fun r0 na0 h0 hp0 => ?_)
  obtain ⟨rfl, rfl, rfl⟩ := hp0
  refine n_if_eqB hC (tgt := 20) dX0_picture_7 (by decide) (fun c_7 => ?_) (fun c_7 => ?_)
  · skip
    refine n_iconst hC (v := (-1)) dX0_picture_20 (by decide) ?_
    exact n_iret hC dX0_picture_21 (by decide) (by decide) (xOp.mk (M2 := M) (by simp [o_picture, c_7]) hR0)
  · skip
    refine n_iload_n hC dX0_picture_10 rfl ?_
    refine n_iconst hC (v := nI 0) dX0_picture_11 (by decide) ?_
    refine n_bipush hC (v := nI 8) dX0_picture_12 (by decide) ?_
    refine n_callS3z hC (ct_X0_in na _ p (nI 0) (nI 8)) ms_X0_in q243 dX0_picture_14 ⟨rfl, rfl, by decide, by decide⟩ rfl (Nat.le_of_ble_eq_true rfl) (by decide) (by decide) (fun r1 na1 h1 hp1 => ?_)
    obtain ⟨rfl, rfl, rfl⟩ := hp1
    refine n_if_neB hC (tgt := 22) dX0_picture_17 (by decide) (fun c_17 => ?_) (fun c_17 => ?_)
    · skip
      refine n_iload_n hC dX0_picture_22 rfl ?_
      refine n_iconst hC (v := nI 0) dX0_picture_23 (by decide) ?_
      refine n_bipush hC (v := nI 7) dX0_picture_24 (by decide) ?_
      refine n_callS3z hC (ct_X0_in na _ c (nI 0) (nI 7)) ms_X0_in q243 dX0_picture_26 ⟨rfl, rfl, by decide, by decide⟩ rfl (Nat.le_of_ble_eq_true rfl) (by decide) (by decide) (fun r2 na2 h2 hp2 => ?_)
      obtain ⟨rfl, rfl, rfl⟩ := hp2
      refine n_if_neB hC (tgt := 35) dX0_picture_29 (by decide) (fun c_29 => ?_) (fun c_29 => ?_)
      · skip
        refine n_aload_n hC dX0_picture_35 rfl ?_
        refine x_getI hC 23 (v := nI (mN M 20)) q171 dX0_picture_36 rfl (by decide) (by decide) (gTh.1.trans h20) ?_
        refine n_bipush hC (v := nI 40) dX0_picture_39 (by decide) ?_
        refine n_icmp_neN hC (tgt := 47) dX0_picture_41 (by decide) (by omega) (by omega) (fun c_41 => ?_) (fun c_41 => ?_)
        · skip
          refine n_aload_n hC dX0_picture_47 rfl ?_
          refine x_getA hC 20 q168 dX0_picture_48 rfl (by decide) (by decide) ?_
          refine n_aload_n hC dX0_picture_51 rfl ?_
          refine x_getI hC 23 (v := nI (mN M 20)) q171 dX0_picture_52 rfl (by decide) (by decide) (gTh.1.trans h20) ?_
          refine n_iload_n hC dX0_picture_55 rfl ?_
          refine x_astN hC 20 (C2 := mset C 20 (upd (C 20) (mN M 20) r)) dX0_picture_56 rfl rfl (by have h9 : xLen 20 = 40 := rfl; omega) rfl ?_
          refine n_aload_n hC dX0_picture_57 rfl ?_
          refine x_getA hC 21 q169 dX0_picture_58 rfl (by decide) (by decide) ?_
          refine n_aload_n hC dX0_picture_61 rfl ?_
          refine x_getI hC 23 (v := nI (mN M 20)) q171 dX0_picture_62 rfl (by decide) (by decide) (gTh.1.trans h20) ?_
          refine n_iload_n hC dX0_picture_65 rfl ?_
          refine x_astN hC 21 (C2 := mset (mset C 20 (upd (C 20) (mN M 20) r)) 21 (upd (C 21) (mN M 20) p)) dX0_picture_66 rfl rfl (by have h9 : xLen 21 = 40 := rfl; omega) rfl ?_
          refine n_aload_n hC dX0_picture_67 rfl ?_
          refine x_getA hC 22 q170 dX0_picture_68 rfl (by decide) (by decide) ?_
          refine n_aload_n hC dX0_picture_71 rfl ?_
          refine x_getI hC 23 (v := nI (mN M 20)) q171 dX0_picture_72 rfl (by decide) (by decide) (gTh.1.trans h20) ?_
          refine n_iload_n hC dX0_picture_75 rfl ?_
          refine x_astN hC 22 (C2 := mset (mset (mset C 20 (upd (C 20) (mN M 20) r)) 21 (upd (C 21) (mN M 20) p)) 22 (upd (C 22) (mN M 20) c)) dX0_picture_76 rfl rfl (by have h9 : xLen 22 = 40 := rfl; omega) rfl ?_
          refine n_aload_n hC dX0_picture_77 rfl ?_
          refine n_dup hC dX0_picture_78 rfl ?_
          refine x_getI hC 23 (v := nI (mN M 20)) q171 dX0_picture_79 rfl (by decide) (by decide) (gTh.1.trans h20) ?_
          refine n_iconst hC (v := nI 1) dX0_picture_82 (by decide) ?_
          refine n_iaddN hC dX0_picture_83 rfl ?_
          refine n_dup_x1 hC dX0_picture_84 rfl rfl ?_
          refine x_putI hC 23 (C2 := mset (mset (mset (mset C 20 (upd (C 20) (mN M 20) r)) 21 (upd (C 21) (mN M 20) p)) 22 (upd (C 22) (mN M 20) c)) 23 (fun _ => nI (mN M 20 + 1))) q171 dX0_picture_85 rfl (by decide) (by decide) rfl rfl rfl rfl rfl ?_
          exact n_iret hC dX0_picture_88 (by decide) (by decide) (xOp.mk (M2 := mset (mset (mset (mset M 21 (upd (M 21) (mN M 20) r)) 22 (upd (M 22) (mN M 20) p)) 23 (upd (M 23) (mN M 20) c)) 20 (fun _ => nI (mN M 20 + 1))) (by simp [o_picture, c_7, c_17, c_29, c_41]) (by
      refine ⟨hw, gPe, gRi, gCl, gSt, ⟨rfl, fun k hk => ?_⟩, gFi, gTx, gTr, gTp, gRd, gOr⟩
      rw [mN_of (n := mN M 20 + 1) rfl (by omega)] at hk
      exact ⟨upd_in (fun x hx => (gTh.2 x hx).1) hk, upd_in (fun x hx => (gTh.2 x hx).2.1) hk, upd_in (fun x hx => (gTh.2 x hx).2.2) hk⟩))
        · skip
          refine n_bipush hC (v := (-4)) dX0_picture_44 (by decide) ?_
          exact n_iret hC dX0_picture_46 (by decide) (by decide) (xOp.mk (M2 := M) (by simp [o_picture, c_7, c_17, c_29, c_41]) hR0)
      · skip
        refine n_bipush hC (v := (-2)) dX0_picture_32 (by decide) ?_
        exact n_iret hC dX0_picture_34 (by decide) (by decide) (xOp.mk (M2 := M) (by simp [o_picture, c_7, c_17, c_29]) hR0)
    · skip
      refine n_iconst hC (v := (-1)) dX0_picture_20 (by decide) ?_
      exact n_iret hC dX0_picture_21 (by decide) (by decide) (xOp.mk (M2 := M) (by simp [o_picture, c_7, c_17]) hR0)

set_option maxHeartbeats 4000000 in
set_option maxRecDepth 100000 in
theorem xt_X0_pictureless (na : nA) (h : nH) (C : nMem) (B : Nat → nMem) (P : Nat → Nat × Nat) (I : Nat → Nat) (M : nMem) (hR : xRel (C, B, P, I) M) (hI : mInv M) : nM yX0_pictureless cX0_pictureless 2 (some .int) (nRm 3 0 0) [.ref (na 130)] na (xPut na h (C, B, P, I)) (nQi (xOp na h (o_pictureless M))) 0 0 := by
  refine nM.ofN RX0 rfl (by decide) (by intro v hv; simp only [List.mem_cons, List.not_mem_nil, or_false] at hv; subst hv; rfl) (Nat.le_of_ble_eq_true rfl) (fun K hC hnm => ?_)
  show WN K na (xPut na h (C, B, P, I)) 0 0 (nE K (nQi (xOp na h (o_pictureless M))) 0 0) 0 [some (.ref (na 130)), none] []
  let Q9 : State → Prop := nE K (nQi (xOp na h (o_pictureless M))) 0 0
  show WN K na (xPut na h (C, B, P, I)) 0 0 Q9 0 [some (.ref (na 130)), none] []
  have hR0 := hR
  obtain ⟨hw, gPe, gRi, gCl, gSt, gTh, gFi, gTx, gTr, gTp, gRd, gOr⟩ := hR
  dsimp only at hw gPe gRi gCl gSt gTh gFi gTx gTr gTp gRd gOr
  obtain ⟨⟨h0, b0⟩, ⟨h1, b1a, b1⟩, ⟨h11, b11⟩, ⟨h14, b14⟩, ⟨h15, b15, b15n⟩, ⟨h20, b20⟩, ⟨h26, b26⟩, ⟨h27, b27⟩, ⟨h55, b55⟩, iP, iH, iHi, iHd, iC, iT, iF, iG, iS, iZ⟩ := hI
  refine n_aload_n hC dX0_pictureless_0 rfl ?_
  refine x_getI hC 23 (v := nI (mN M 20)) q171 dX0_pictureless_1 rfl (by decide) (by decide) (gTh.1.trans h20) ?_
  refine n_istore_n hC dX0_pictureless_4 (Nat.le_of_ble_eq_true rfl) ?_
  refine n_aload_n hC dX0_pictureless_5 rfl ?_
  refine n_iconst hC (v := nI 0) dX0_pictureless_6 (by decide) ?_
  refine x_putI hC 23 (C2 := mset C 23 (fun _ => nI 0)) q171 dX0_pictureless_7 rfl (by decide) (by decide) rfl rfl rfl rfl rfl ?_
  refine n_iload_n hC dX0_pictureless_10 rfl ?_
  exact n_iret hC dX0_pictureless_11 (by decide) (by decide) (xOp.mk (M2 := mset M 20 (fun _ => nI 0)) rfl (by
      refine ⟨hw, gPe, gRi, gCl, gSt, ⟨rfl, fun k hk => ?_⟩, gFi, gTx, gTr, gTp, gRd, gOr⟩
      rw [mN_of (n := 0) rfl (by decide)] at hk
      omega))

set_option maxHeartbeats 4000000 in
set_option maxRecDepth 100000 in
theorem ct_X0_wrongs_9 (na : nA) (h : nH) (C : nMem) (B : Nat → nMem) (P : Nat → Nat × Nat) (I : Nat → Nat) (M : nMem) (gRd : xgRd B P I M) (gTh : xgTh C M) (hn : C 2 0 = nI (mN M 1)) (b1 : mN M 1 ≤ 9) (b15 : mN M 15 ≤ 100) (b15n : mN M 15 ≠ 0 → 3 ≤ mN M 1) (h20 : M 20 0 = nI (mN M 20)) (b20 : mN M 20 ≤ 40) (iC : ∀ r p, r < mN M 15 → p < mN M 1 → M 18 (9 * r + p) = nI (mA M 18 (9 * r + p)) ∧ mA M 18 (9 * r + p) < mN M 1) (iT : ∀ k, k < mN M 20 → (M 21 k = nI (mA M 21 k) ∧ mA M 21 k < 100) ∧ (M 22 k = nI (mA M 22 k) ∧ mA M 22 k < 9)) (f : Nat → Int32) (hf : mN M 15 ≠ 0 → ∀ p, p < mN M 1 → C 9 p = f p) : nM yX0_wrongs cX0_wrongs 5 (some .int) (nRm 2 0 0) [.ref (na 130), .ref (na 109)] na (xPut na h (C, B, P, I)) (nQi (hPure na (xPut na h (C, B, P, I)) (nI (mWrong M f)))) 0 0 := by
  refine nM.ofN RX0 rfl (by decide) (by intro v hv; simp only [List.mem_cons, List.not_mem_nil, or_false] at hv; rcases hv with rfl | rfl <;> rfl) (Nat.le_of_ble_eq_true rfl) (fun K hC hnm => ?_)
  show WN K na (xPut na h (C, B, P, I)) 0 0 (nE K (nQi (hPure na (xPut na h (C, B, P, I)) (nI (mWrong M f)))) 0 0) 0 [some (.ref (na 130)), some (.ref (na 109)), none, none, none] []
  let Q9 : State → Prop := nE K (nQi (hPure na (xPut na h (C, B, P, I)) (nI (mWrong M f)))) 0 0
  show WN K na (xPut na h (C, B, P, I)) 0 0 Q9 0 [some (.ref (na 130)), some (.ref (na 109)), none, none, none] []
  refine n_iconst hC (v := nI 0) dX0_wrongs_0 (by decide) ?_
  refine n_istore_n hC dX0_wrongs_1 (Nat.le_of_ble_eq_true rfl) ?_
  refine n_iconst hC (v := nI 0) dX0_wrongs_2 (by decide) ?_
  refine n_istore_n hC dX0_wrongs_3 (Nat.le_of_ble_eq_true rfl) ?_
  have lp4 : ∀ d9 : Nat, ∀ (i : Nat) (w : Nat), mN M 20 - i = d9 → (i ≤ mN M 20) → (cntb i (mBad M f) = w) → WN K na (xPut na h (C, B, P, I)) 0 0 Q9 4 [some (.ref (na 130)), some (.ref (na 109)), some (.int (nI w)), some (.int (nI i)), none] [] := by
    intro d9
    induction d9 using Nat.strongRecOn with
    | _ d9 ih4 =>
      intro i w hd4 hi hw
      refine n_iload_n hC dX0_wrongs_4 rfl ?_
      refine n_aload_n hC dX0_wrongs_5 rfl ?_
      refine x_getI hC 23 (v := nI (mN M 20)) q171 dX0_wrongs_6 rfl (by decide) (by decide) (gTh.1.trans h20) ?_
      refine n_icmp_geN hC (tgt := 89) dX0_wrongs_9 (by decide) (by omega) (by omega) (fun c_9 => ?_) (fun c_9 => ?_)
      · skip
        have hi9 : i = mN M 20 := by omega
        refine n_iload_n hC dX0_wrongs_89 rfl ?_
        exact n_iret hC dX0_wrongs_90 (by decide) (by decide) (⟨by rw [← hw, hi9]; rfl, rfl, rfl⟩)
      · skip
        have tT := iT i (by omega)
        have t1 := tT.1.2
        have t2 := tT.2.2
        have gi := gTh.2 i (by omega)
        refine n_aload_n hC dX0_wrongs_12 rfl ?_
        refine x_getA hC 20 q168 dX0_wrongs_13 rfl (by decide) (by decide) ?_
        refine n_iload_n hC dX0_wrongs_16 rfl ?_
        refine x_aldN hC 20 (v := nI (mA M 21 i)) dX0_wrongs_17 rfl rfl (by have h9 : xLen 20 = 40 := rfl; omega) (gi.1.trans tT.1.1) ?_
        refine n_aload_n hC dX0_wrongs_18 rfl ?_
        refine n_callV0i hC (ct_X0_rows na _ _ _ _ _ (r := mN M 15) (xr_rows (C := C) gRd b15n)) md_X0_rows q455 dX0_wrongs_19 rfl xPut_o rfl rfl ⟨rfl, rfl, by decide, by decide⟩ rfl (Nat.le_of_ble_eq_true rfl) (by decide) (by decide) (fun r0 na0 h0 hp0 => ?_)
        obtain ⟨rfl, rfl, rfl⟩ := hp0
        refine n_icmp_geN hC (tgt := 42) dX0_wrongs_22 (by decide) (by omega) (by omega) (fun c_22 => ?_) (fun c_22 => ?_)
        · skip
          refine n_iconst hC (v := nbo false) dX0_wrongs_42 (by decide) ?_
          refine n_istore hC dX0_wrongs_43 (Nat.le_of_ble_eq_true rfl) ?_
          refine n_iload hC dX0_wrongs_45 rfl ?_
          refine n_if_eqB hC (tgt := 80) dX0_wrongs_47 (by decide) (fun c_47 => ?_) (fun c_47 => absurd c_47 (by decide))
          refine n_iincN hC dX0_wrongs_80 (j := 1) (c := w + 1) rfl (by decide) rfl ?_
          refine n_iincN hC dX0_wrongs_83 (j := 1) (c := i + 1) rfl (by decide) rfl ?_
          refine n_goto hC (tgt := 4) dX0_wrongs_86 (by decide) ?_
          exact WN.forget (L' := [some (.ref (na 130)), some (.ref (na 109)), some (.int (nI (w + 1))), some (.int (nI (i + 1))), none]) (⟨Or.inr rfl, Or.inr rfl, Or.inr rfl, Or.inr rfl, Or.inl rfl, trivial⟩) (ih4 _ (by omega) (i + 1) (w + 1) rfl (by omega) (by show cntb i _ + (if mBad M f i = true then 1 else 0) = w + 1; rw [hw, if_pos (by simp [mBad, c_22])]))
        · skip
          refine n_aload_n hC dX0_wrongs_25 rfl ?_
          refine x_getA hC 21 q169 dX0_wrongs_26 rfl (by decide) (by decide) ?_
          refine n_iload_n hC dX0_wrongs_29 rfl ?_
          refine x_aldN hC 21 (v := nI (mA M 22 i)) dX0_wrongs_30 rfl rfl (by have h9 : xLen 21 = 40 := rfl; omega) (gi.2.1.trans tT.2.1) ?_
          refine n_aload_n hC dX0_wrongs_31 rfl ?_
          refine x_getI hC 2 (v := nI (mN M 1)) q150 dX0_wrongs_32 rfl (by decide) (by decide) hn ?_
          refine n_icmp_geN hC (tgt := 42) dX0_wrongs_35 (by decide) (by omega) (by omega) (fun c_35 => ?_) (fun c_35 => ?_)
          · skip
            refine n_iconst hC (v := nbo false) dX0_wrongs_42 (by decide) ?_
            refine n_istore hC dX0_wrongs_43 (Nat.le_of_ble_eq_true rfl) ?_
            refine n_iload hC dX0_wrongs_45 rfl ?_
            refine n_if_eqB hC (tgt := 80) dX0_wrongs_47 (by decide) (fun c_47 => ?_) (fun c_47 => absurd c_47 (by decide))
            refine n_iincN hC dX0_wrongs_80 (j := 1) (c := w + 1) rfl (by decide) rfl ?_
            refine n_iincN hC dX0_wrongs_83 (j := 1) (c := i + 1) rfl (by decide) rfl ?_
            refine n_goto hC (tgt := 4) dX0_wrongs_86 (by decide) ?_
            exact WN.forget (L' := [some (.ref (na 130)), some (.ref (na 109)), some (.int (nI (w + 1))), some (.int (nI (i + 1))), none]) (⟨Or.inr rfl, Or.inr rfl, Or.inr rfl, Or.inr rfl, Or.inl rfl, trivial⟩) (ih4 _ (by omega) (i + 1) (w + 1) rfl (by omega) (by show cntb i _ + (if mBad M f i = true then 1 else 0) = w + 1; rw [hw, if_pos (by simp [mBad, c_35])]))
          · skip
            obtain ⟨r1, r2, r3, r4, r5, r6, r7⟩ := gRd.2 (show mN M 1 ≠ 0 by omega)
            have hn3 : 3 ≤ mN M 1 := b15n (by omega)
            refine n_iconst hC (v := nbo true) dX0_wrongs_38 (by decide) ?_
            refine n_goto hC (tgt := 43) dX0_wrongs_39 (by decide) ?_
            refine n_istore hC dX0_wrongs_43 (Nat.le_of_ble_eq_true rfl) ?_
            refine n_iload hC dX0_wrongs_45 rfl ?_
            refine n_if_eqB hC (tgt := 80) dX0_wrongs_47 (by decide) (fun c_47 => absurd c_47 (by decide)) (fun c_47 => ?_)
            refine n_aload_n hC dX0_wrongs_50 rfl ?_
            refine n_aload_n hC dX0_wrongs_51 rfl ?_
            refine x_getR hC 7 q155 dX0_wrongs_52 rfl (by decide) (by decide) r1 ?_
            refine n_aload_n hC dX0_wrongs_55 rfl ?_
            refine x_getA hC 20 q168 dX0_wrongs_56 rfl (by decide) (by decide) ?_
            refine n_iload_n hC dX0_wrongs_59 rfl ?_
            refine x_aldN hC 20 (v := nI (mA M 21 i)) dX0_wrongs_60 rfl rfl (by have h9 : xLen 20 = 40 := rfl; omega) (gi.1.trans tT.1.1) ?_
            refine n_aload_n hC dX0_wrongs_61 rfl ?_
            refine x_getA hC 21 q169 dX0_wrongs_62 rfl (by decide) (by decide) ?_
            refine n_iload_n hC dX0_wrongs_65 rfl ?_
            refine x_aldN hC 21 (v := nI (mA M 22 i)) dX0_wrongs_66 rfl rfl (by have h9 : xLen 21 = 40 := rfl; omega) (gi.2.1.trans tT.2.1) ?_
            refine n_callV2i hC (xc_pure (i := (I 7)) (c := (2, 0)) r4 ⟨by decide, by decide⟩ (ct_X9_top (bB (I 7)) na _ (B (I 7)) (n := mN M 1) r6.1 (by omega) (by omega) (i := mA M 21 i) (p := mA M 22 i) (by omega) (by omega))) md_X9_top q456 dX0_wrongs_67 rfl (((xBlk_o (na := na) (h := h) (X := (C, B, P, I)) (i := (I 7)) (c := (2, 0)) r4 ⟨by decide, by decide⟩) 9 (by decide)).trans (if_pos rfl)) rfl rfl ⟨rfl, rfl, by decide, by decide⟩ rfl (Nat.le_of_ble_eq_true rfl) (by decide) (by decide) (fun r1 na1 h1 hp1 => ?_)
            obtain ⟨rfl, rfl, rfl⟩ := hp1
            rw [(rdTop_m r6 (show mA M 21 i < mN M 15 by omega) (show mA M 22 i < mN M 1 by omega) iC).1]
            have tl := (rdTop_m r6 (show mA M 21 i < mN M 15 by omega) (show mA M 22 i < mN M 1 by omega) iC).2
            refine x_aldN hC 9 (v := f (mTop M (mN M 1) (mA M 21 i) (mA M 22 i))) dX0_wrongs_70 rfl rfl (by have h9 : xLen 9 = 9 := rfl; omega) (hf (by omega) _ tl) ?_
            refine n_aload_n hC dX0_wrongs_71 rfl ?_
            refine x_getA hC 22 q170 dX0_wrongs_72 rfl (by decide) (by decide) ?_
            refine n_iload_n hC dX0_wrongs_75 rfl ?_
            refine x_aldN hC 22 (v := M 23 i) dX0_wrongs_76 rfl rfl (by have h9 : xLen 22 = 40 := rfl; omega) gi.2.2 ?_
            refine n_icmp_eq hC (tgt := 83) dX0_wrongs_77 (by decide) (fun c_77 => ?_) (fun c_77 => ?_)
            · skip
              refine n_iincN hC dX0_wrongs_83 (j := 1) (c := i + 1) rfl (by decide) rfl ?_
              refine n_goto hC (tgt := 4) dX0_wrongs_86 (by decide) ?_
              exact WN.forget (L' := [some (.ref (na 130)), some (.ref (na 109)), some (.int (nI w)), some (.int (nI (i + 1))), none]) (⟨Or.inr rfl, Or.inr rfl, Or.inr rfl, Or.inr rfl, Or.inl rfl, trivial⟩) (ih4 _ (by omega) (i + 1) w rfl (by omega) (by show cntb i _ + (if mBad M f i = true then 1 else 0) = w + 0; rw [hw, if_neg (by simp [mBad, Nat.not_le.mpr c_22, Nat.not_le.mpr c_35, c_77])]))
            · skip
              refine n_iincN hC dX0_wrongs_80 (j := 1) (c := w + 1) rfl (by decide) rfl ?_
              refine n_iincN hC dX0_wrongs_83 (j := 1) (c := i + 1) rfl (by decide) rfl ?_
              refine n_goto hC (tgt := 4) dX0_wrongs_86 (by decide) ?_
              exact WN.forget (L' := [some (.ref (na 130)), some (.ref (na 109)), some (.int (nI (w + 1))), some (.int (nI (i + 1))), none]) (⟨Or.inr rfl, Or.inr rfl, Or.inr rfl, Or.inr rfl, Or.inl rfl, trivial⟩) (ih4 _ (by omega) (i + 1) (w + 1) rfl (by omega) (by show cntb i _ + (if mBad M f i = true then 1 else 0) = w + 1; rw [hw, if_pos (by simp [mBad, c_77])]))
  exact WN.forget (L' := [some (.ref (na 130)), some (.ref (na 109)), some (.int (nI 0)), some (.int (nI 0)), none]) (⟨Or.inr rfl, Or.inr rfl, Or.inr rfl, Or.inr rfl, Or.inl rfl, trivial⟩) (lp4 _ 0 0 rfl (by omega) rfl)

set_option maxHeartbeats 4000000 in
set_option maxRecDepth 100000 in
theorem ct_X0_wrongs_24 (na : nA) (h : nH) (C : nMem) (B : Nat → nMem) (P : Nat → Nat × Nat) (I : Nat → Nat) (M : nMem) (gRd : xgRd B P I M) (gTh : xgTh C M) (hn : C 2 0 = nI (mN M 1)) (b1 : mN M 1 ≤ 9) (b15 : mN M 15 ≤ 100) (b15n : mN M 15 ≠ 0 → 3 ≤ mN M 1) (h20 : M 20 0 = nI (mN M 20)) (b20 : mN M 20 ≤ 40) (iC : ∀ r p, r < mN M 15 → p < mN M 1 → M 18 (9 * r + p) = nI (mA M 18 (9 * r + p)) ∧ mA M 18 (9 * r + p) < mN M 1) (iT : ∀ k, k < mN M 20 → (M 21 k = nI (mA M 21 k) ∧ mA M 21 k < 100) ∧ (M 22 k = nI (mA M 22 k) ∧ mA M 22 k < 9)) (f : Nat → Int32) (hf : mN M 15 ≠ 0 → ∀ p, p < mN M 1 → C 24 p = f p) : nM yX0_wrongs cX0_wrongs 5 (some .int) (nRm 2 0 0) [.ref (na 130), .ref (na 124)] na (xPut na h (C, B, P, I)) (nQi (hPure na (xPut na h (C, B, P, I)) (nI (mWrong M f)))) 0 0 := by
  refine nM.ofN RX0 rfl (by decide) (by intro v hv; simp only [List.mem_cons, List.not_mem_nil, or_false] at hv; rcases hv with rfl | rfl <;> rfl) (Nat.le_of_ble_eq_true rfl) (fun K hC hnm => ?_)
  show WN K na (xPut na h (C, B, P, I)) 0 0 (nE K (nQi (hPure na (xPut na h (C, B, P, I)) (nI (mWrong M f)))) 0 0) 0 [some (.ref (na 130)), some (.ref (na 124)), none, none, none] []
  let Q9 : State → Prop := nE K (nQi (hPure na (xPut na h (C, B, P, I)) (nI (mWrong M f)))) 0 0
  show WN K na (xPut na h (C, B, P, I)) 0 0 Q9 0 [some (.ref (na 130)), some (.ref (na 124)), none, none, none] []
  refine n_iconst hC (v := nI 0) dX0_wrongs_0 (by decide) ?_
  refine n_istore_n hC dX0_wrongs_1 (Nat.le_of_ble_eq_true rfl) ?_
  refine n_iconst hC (v := nI 0) dX0_wrongs_2 (by decide) ?_
  refine n_istore_n hC dX0_wrongs_3 (Nat.le_of_ble_eq_true rfl) ?_
  have lp4 : ∀ d9 : Nat, ∀ (i : Nat) (w : Nat), mN M 20 - i = d9 → (i ≤ mN M 20) → (cntb i (mBad M f) = w) → WN K na (xPut na h (C, B, P, I)) 0 0 Q9 4 [some (.ref (na 130)), some (.ref (na 124)), some (.int (nI w)), some (.int (nI i)), none] [] := by
    intro d9
    induction d9 using Nat.strongRecOn with
    | _ d9 ih4 =>
      intro i w hd4 hi hw
      refine n_iload_n hC dX0_wrongs_4 rfl ?_
      refine n_aload_n hC dX0_wrongs_5 rfl ?_
      refine x_getI hC 23 (v := nI (mN M 20)) q171 dX0_wrongs_6 rfl (by decide) (by decide) (gTh.1.trans h20) ?_
      refine n_icmp_geN hC (tgt := 89) dX0_wrongs_9 (by decide) (by omega) (by omega) (fun c_9 => ?_) (fun c_9 => ?_)
      · skip
        have hi9 : i = mN M 20 := by omega
        refine n_iload_n hC dX0_wrongs_89 rfl ?_
        exact n_iret hC dX0_wrongs_90 (by decide) (by decide) (⟨by rw [← hw, hi9]; rfl, rfl, rfl⟩)
      · skip
        have tT := iT i (by omega)
        have t1 := tT.1.2
        have t2 := tT.2.2
        have gi := gTh.2 i (by omega)
        refine n_aload_n hC dX0_wrongs_12 rfl ?_
        refine x_getA hC 20 q168 dX0_wrongs_13 rfl (by decide) (by decide) ?_
        refine n_iload_n hC dX0_wrongs_16 rfl ?_
        refine x_aldN hC 20 (v := nI (mA M 21 i)) dX0_wrongs_17 rfl rfl (by have h9 : xLen 20 = 40 := rfl; omega) (gi.1.trans tT.1.1) ?_
        refine n_aload_n hC dX0_wrongs_18 rfl ?_
        refine n_callV0i hC (ct_X0_rows na _ _ _ _ _ (r := mN M 15) (xr_rows (C := C) gRd b15n)) md_X0_rows q455 dX0_wrongs_19 rfl xPut_o rfl rfl ⟨rfl, rfl, by decide, by decide⟩ rfl (Nat.le_of_ble_eq_true rfl) (by decide) (by decide) (fun r0 na0 h0 hp0 => ?_)
        obtain ⟨rfl, rfl, rfl⟩ := hp0
        refine n_icmp_geN hC (tgt := 42) dX0_wrongs_22 (by decide) (by omega) (by omega) (fun c_22 => ?_) (fun c_22 => ?_)
        · skip
          refine n_iconst hC (v := nbo false) dX0_wrongs_42 (by decide) ?_
          refine n_istore hC dX0_wrongs_43 (Nat.le_of_ble_eq_true rfl) ?_
          refine n_iload hC dX0_wrongs_45 rfl ?_
          refine n_if_eqB hC (tgt := 80) dX0_wrongs_47 (by decide) (fun c_47 => ?_) (fun c_47 => absurd c_47 (by decide))
          refine n_iincN hC dX0_wrongs_80 (j := 1) (c := w + 1) rfl (by decide) rfl ?_
          refine n_iincN hC dX0_wrongs_83 (j := 1) (c := i + 1) rfl (by decide) rfl ?_
          refine n_goto hC (tgt := 4) dX0_wrongs_86 (by decide) ?_
          exact WN.forget (L' := [some (.ref (na 130)), some (.ref (na 124)), some (.int (nI (w + 1))), some (.int (nI (i + 1))), none]) (⟨Or.inr rfl, Or.inr rfl, Or.inr rfl, Or.inr rfl, Or.inl rfl, trivial⟩) (ih4 _ (by omega) (i + 1) (w + 1) rfl (by omega) (by show cntb i _ + (if mBad M f i = true then 1 else 0) = w + 1; rw [hw, if_pos (by simp [mBad, c_22])]))
        · skip
          refine n_aload_n hC dX0_wrongs_25 rfl ?_
          refine x_getA hC 21 q169 dX0_wrongs_26 rfl (by decide) (by decide) ?_
          refine n_iload_n hC dX0_wrongs_29 rfl ?_
          refine x_aldN hC 21 (v := nI (mA M 22 i)) dX0_wrongs_30 rfl rfl (by have h9 : xLen 21 = 40 := rfl; omega) (gi.2.1.trans tT.2.1) ?_
          refine n_aload_n hC dX0_wrongs_31 rfl ?_
          refine x_getI hC 2 (v := nI (mN M 1)) q150 dX0_wrongs_32 rfl (by decide) (by decide) hn ?_
          refine n_icmp_geN hC (tgt := 42) dX0_wrongs_35 (by decide) (by omega) (by omega) (fun c_35 => ?_) (fun c_35 => ?_)
          · skip
            refine n_iconst hC (v := nbo false) dX0_wrongs_42 (by decide) ?_
            refine n_istore hC dX0_wrongs_43 (Nat.le_of_ble_eq_true rfl) ?_
            refine n_iload hC dX0_wrongs_45 rfl ?_
            refine n_if_eqB hC (tgt := 80) dX0_wrongs_47 (by decide) (fun c_47 => ?_) (fun c_47 => absurd c_47 (by decide))
            refine n_iincN hC dX0_wrongs_80 (j := 1) (c := w + 1) rfl (by decide) rfl ?_
            refine n_iincN hC dX0_wrongs_83 (j := 1) (c := i + 1) rfl (by decide) rfl ?_
            refine n_goto hC (tgt := 4) dX0_wrongs_86 (by decide) ?_
            exact WN.forget (L' := [some (.ref (na 130)), some (.ref (na 124)), some (.int (nI (w + 1))), some (.int (nI (i + 1))), none]) (⟨Or.inr rfl, Or.inr rfl, Or.inr rfl, Or.inr rfl, Or.inl rfl, trivial⟩) (ih4 _ (by omega) (i + 1) (w + 1) rfl (by omega) (by show cntb i _ + (if mBad M f i = true then 1 else 0) = w + 1; rw [hw, if_pos (by simp [mBad, c_35])]))
          · skip
            obtain ⟨r1, r2, r3, r4, r5, r6, r7⟩ := gRd.2 (show mN M 1 ≠ 0 by omega)
            have hn3 : 3 ≤ mN M 1 := b15n (by omega)
            refine n_iconst hC (v := nbo true) dX0_wrongs_38 (by decide) ?_
            refine n_goto hC (tgt := 43) dX0_wrongs_39 (by decide) ?_
            refine n_istore hC dX0_wrongs_43 (Nat.le_of_ble_eq_true rfl) ?_
            refine n_iload hC dX0_wrongs_45 rfl ?_
            refine n_if_eqB hC (tgt := 80) dX0_wrongs_47 (by decide) (fun c_47 => absurd c_47 (by decide)) (fun c_47 => ?_)
            refine n_aload_n hC dX0_wrongs_50 rfl ?_
            refine n_aload_n hC dX0_wrongs_51 rfl ?_
            refine x_getR hC 7 q155 dX0_wrongs_52 rfl (by decide) (by decide) r1 ?_
            refine n_aload_n hC dX0_wrongs_55 rfl ?_
            refine x_getA hC 20 q168 dX0_wrongs_56 rfl (by decide) (by decide) ?_
            refine n_iload_n hC dX0_wrongs_59 rfl ?_
            refine x_aldN hC 20 (v := nI (mA M 21 i)) dX0_wrongs_60 rfl rfl (by have h9 : xLen 20 = 40 := rfl; omega) (gi.1.trans tT.1.1) ?_
            refine n_aload_n hC dX0_wrongs_61 rfl ?_
            refine x_getA hC 21 q169 dX0_wrongs_62 rfl (by decide) (by decide) ?_
            refine n_iload_n hC dX0_wrongs_65 rfl ?_
            refine x_aldN hC 21 (v := nI (mA M 22 i)) dX0_wrongs_66 rfl rfl (by have h9 : xLen 21 = 40 := rfl; omega) (gi.2.1.trans tT.2.1) ?_
            refine n_callV2i hC (xc_pure (i := (I 7)) (c := (2, 0)) r4 ⟨by decide, by decide⟩ (ct_X9_top (bB (I 7)) na _ (B (I 7)) (n := mN M 1) r6.1 (by omega) (by omega) (i := mA M 21 i) (p := mA M 22 i) (by omega) (by omega))) md_X9_top q456 dX0_wrongs_67 rfl (((xBlk_o (na := na) (h := h) (X := (C, B, P, I)) (i := (I 7)) (c := (2, 0)) r4 ⟨by decide, by decide⟩) 9 (by decide)).trans (if_pos rfl)) rfl rfl ⟨rfl, rfl, by decide, by decide⟩ rfl (Nat.le_of_ble_eq_true rfl) (by decide) (by decide) (fun r1 na1 h1 hp1 => ?_)
            obtain ⟨rfl, rfl, rfl⟩ := hp1
            rw [(rdTop_m r6 (show mA M 21 i < mN M 15 by omega) (show mA M 22 i < mN M 1 by omega) iC).1]
            have tl := (rdTop_m r6 (show mA M 21 i < mN M 15 by omega) (show mA M 22 i < mN M 1 by omega) iC).2
            refine x_aldN hC 24 (v := f (mTop M (mN M 1) (mA M 21 i) (mA M 22 i))) dX0_wrongs_70 rfl rfl (by have h9 : xLen 24 = 9 := rfl; omega) (hf (by omega) _ tl) ?_
            refine n_aload_n hC dX0_wrongs_71 rfl ?_
            refine x_getA hC 22 q170 dX0_wrongs_72 rfl (by decide) (by decide) ?_
            refine n_iload_n hC dX0_wrongs_75 rfl ?_
            refine x_aldN hC 22 (v := M 23 i) dX0_wrongs_76 rfl rfl (by have h9 : xLen 22 = 40 := rfl; omega) gi.2.2 ?_
            refine n_icmp_eq hC (tgt := 83) dX0_wrongs_77 (by decide) (fun c_77 => ?_) (fun c_77 => ?_)
            · skip
              refine n_iincN hC dX0_wrongs_83 (j := 1) (c := i + 1) rfl (by decide) rfl ?_
              refine n_goto hC (tgt := 4) dX0_wrongs_86 (by decide) ?_
              exact WN.forget (L' := [some (.ref (na 130)), some (.ref (na 124)), some (.int (nI w)), some (.int (nI (i + 1))), none]) (⟨Or.inr rfl, Or.inr rfl, Or.inr rfl, Or.inr rfl, Or.inl rfl, trivial⟩) (ih4 _ (by omega) (i + 1) w rfl (by omega) (by show cntb i _ + (if mBad M f i = true then 1 else 0) = w + 0; rw [hw, if_neg (by simp [mBad, Nat.not_le.mpr c_22, Nat.not_le.mpr c_35, c_77])]))
            · skip
              refine n_iincN hC dX0_wrongs_80 (j := 1) (c := w + 1) rfl (by decide) rfl ?_
              refine n_iincN hC dX0_wrongs_83 (j := 1) (c := i + 1) rfl (by decide) rfl ?_
              refine n_goto hC (tgt := 4) dX0_wrongs_86 (by decide) ?_
              exact WN.forget (L' := [some (.ref (na 130)), some (.ref (na 124)), some (.int (nI (w + 1))), some (.int (nI (i + 1))), none]) (⟨Or.inr rfl, Or.inr rfl, Or.inr rfl, Or.inr rfl, Or.inl rfl, trivial⟩) (ih4 _ (by omega) (i + 1) (w + 1) rfl (by omega) (by show cntb i _ + (if mBad M f i = true then 1 else 0) = w + 1; rw [hw, if_pos (by simp [mBad, c_77])]))
  exact WN.forget (L' := [some (.ref (na 130)), some (.ref (na 124)), some (.int (nI 0)), some (.int (nI 0)), none]) (⟨Or.inr rfl, Or.inr rfl, Or.inr rfl, Or.inr rfl, Or.inl rfl, trivial⟩) (lp4 _ 0 0 rfl (by omega) rfl)

set_option maxHeartbeats 4000000 in
set_option maxRecDepth 100000 in
theorem xt_X0_wrong (na : nA) (h : nH) (C : nMem) (B : Nat → nMem) (P : Nat → Nat × Nat) (I : Nat → Nat) (M : nMem) (hR : xRel (C, B, P, I) M) (hI : mInv M) : nM yX0_wrong cX0_wrong 1 (some .int) (nRm 3 0 0) [.ref (na 130)] na (xPut na h (C, B, P, I)) (nQi (xOp na h (o_wrong M))) 0 0 := by
  refine nM.ofN RX0 rfl (by decide) (by intro v hv; simp only [List.mem_cons, List.not_mem_nil, or_false] at hv; subst hv; rfl) (Nat.le_of_ble_eq_true rfl) (fun K hC hnm => ?_)
  show WN K na (xPut na h (C, B, P, I)) 0 0 (nE K (nQi (xOp na h (o_wrong M))) 0 0) 0 [some (.ref (na 130))] []
  let Q9 : State → Prop := nE K (nQi (xOp na h (o_wrong M))) 0 0
  show WN K na (xPut na h (C, B, P, I)) 0 0 Q9 0 [some (.ref (na 130))] []
  have hR0 := hR
  obtain ⟨hw, gPe, gRi, gCl, gSt, gTh, gFi, gTx, gTr, gTp, gRd, gOr⟩ := hR
  dsimp only at hw gPe gRi gCl gSt gTh gFi gTx gTr gTp gRd gOr
  obtain ⟨⟨h0, b0⟩, ⟨h1, b1a, b1⟩, ⟨h11, b11⟩, ⟨h14, b14⟩, ⟨h15, b15, b15n⟩, ⟨h20, b20⟩, ⟨h26, b26⟩, ⟨h27, b27⟩, ⟨h55, b55⟩, iP, iH, iHi, iHd, iC, iT, iF, iG, iS, iZ⟩ := hI
  refine n_aload_n hC dX0_wrong_0 rfl ?_
  refine n_aload_n hC dX0_wrong_1 rfl ?_
  refine x_getA hC 9 q157 dX0_wrong_2 rfl (by decide) (by decide) ?_
  refine n_callV1i hC (ct_X0_wrongs_9 na _ _ _ _ _ M gRd gTh (gRi.1.trans h1) b1 b15 b15n h20 b20 iC iT (M 10) (fun h p hp => gCl.1 (Or.inr h) p hp)) md_X0_wrongs q480 dX0_wrong_5 rfl xPut_o rfl rfl ⟨rfl, rfl, by decide, by decide⟩ rfl (Nat.le_of_ble_eq_true rfl) (by decide) (by decide) (fun r0 na0 h0 hp0 => ?_)
  obtain ⟨rfl, rfl, rfl⟩ := hp0
  exact n_iret hC dX0_wrong_8 (by decide) (by decide) (xOp.mk (M2 := M) rfl hR0)

