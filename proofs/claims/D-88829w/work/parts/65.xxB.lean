/-! ===== THE CLASS: stand, ring ===== -/
set_option maxRecDepth 100000
section NINS
variable {K : nK} {na : nA} {h : nH} {C : nMem} {B : Nat → nMem} {P : Nat → Nat × Nat} {I : Nat → Nat} {cells slots : Nat} {Q : State → Prop} {cc : ByteArray} {nL pc a : Nat} {own : String} {ret : Option FieldType} {rm : Room} {L : List (Option Value)} {st : List Value}
theorem x_instP (hC : nC K cc nL own ret rm) {p k index : Nat} (hq : Cond.classLink own index RX8 ∈ lw_all) (hdg : decode cc pc = .ok (.instanceof index, 3)) (hk : na (131 + p) = a) (hp : p < 15) (c30 : C 30 p = nI (4 + k)) (hk4 : k ≤ 4) (kt : WN K na (xPut na h (C, B, P, I)) cells slots Q (pc + 3) L (.int (nbo (decide (k = 4))) :: st)) : WN K na (xPut na h (C, B, P, I)) cells slots Q pc L (.ref a :: st) := by
  rcases (show k = 0 ∨ k = 1 ∨ k = 2 ∨ k = 3 ∨ k = 4 by omega) with rfl | rfl | rfl | rfl | rfl
  · exact n_instNo hC hq hdg hk (xPut_p hp c30 hk4) (rC := (RX4, TX4, 4)) rfl (by decide +kernel) kt
  · exact n_instNo hC hq hdg hk (xPut_p hp c30 hk4) (rC := (RX5, TX5, 4)) rfl (by decide +kernel) kt
  · exact n_instNo hC hq hdg hk (xPut_p hp c30 hk4) (rC := (RX6, TX6, 4)) rfl (by decide +kernel) kt
  · exact n_instNo hC hq hdg hk (xPut_p hp c30 hk4) (rC := (RX7, TX7, 4)) rfl (by decide +kernel) kt
  · exact n_instY hC hq hdg hk (xPut_p hp c30 hk4) (rC := (RX8, TX8, 4)) rfl (Or.inl rfl) kt
end NINS
set_option maxHeartbeats 4000000 in
set_option maxRecDepth 100000 in
theorem xt_X0_stand (na : nA) (h : nH) (C : nMem) (B : Nat → nMem) (P : Nat → Nat × Nat) (I : Nat → Nat) (M : nMem) (hR : xRel (C, B, P, I) M) (hI : mInv M) (p x : Int32) : nM yX0_stand cX0_stand 4 (some .int) (nRm 3 0 0) [.ref (na 130), .int p, .int x] na (xPut na h (C, B, P, I)) (nQi (xOp na h (o_stand p x M))) 0 0 := by
  refine nM.ofN RX0 rfl (by decide) (by intro v hv; simp only [List.mem_cons, List.not_mem_nil, or_false] at hv; rcases hv with rfl | rfl | rfl <;> rfl) (Nat.le_of_ble_eq_true rfl) (fun K hC hnm => ?_)
  show WN K na (xPut na h (C, B, P, I)) 0 0 (nE K (nQi (xOp na h (o_stand p x M))) 0 0) 0 [some (.ref (na 130)), some (.int p), some (.int x), none] []
  let Q9 : State → Prop := nE K (nQi (xOp na h (o_stand p x M))) 0 0
  show WN K na (xPut na h (C, B, P, I)) 0 0 Q9 0 [some (.ref (na 130)), some (.int p), some (.int x), none] []
  have hR0 := hR
  obtain ⟨hw, gPe, gRi, gCl, gSt, gTh, gFi, gTx, gTr, gTp, gRd, gOr⟩ := hR
  dsimp only at hw gPe gRi gCl gSt gTh gFi gTx gTr gTp gRd gOr
  obtain ⟨⟨h0, b0⟩, ⟨h1, b1a, b1⟩, ⟨h11, b11⟩, ⟨h14, b14⟩, ⟨h15, b15, b15n⟩, ⟨h20, b20⟩, ⟨h26, b26⟩, ⟨h27, b27⟩, ⟨h55, b55⟩, iP, iH, iHi, iHd, iC, iT, iF, iG, iS, iZ⟩ := hI
  refine n_aload_n hC dX0_stand_0 rfl ?_
  refine n_iload_n hC dX0_stand_1 rfl ?_
  refine n_callV1z hC (ct_X0_isPlace na _ _ _ _ _ (n := mN M 1) (gRi.1.trans h1) (by omega) p) md_X0_isPlace q373 dX0_stand_2 rfl xPut_o rfl rfl ⟨rfl, rfl, by decide, by decide⟩ rfl (Nat.le_of_ble_eq_true rfl) (by decide) (by decide) (fun r0 na0 h0 hp0 => ?_)
  obtain ⟨rfl, rfl, rfl⟩ := hp0
  refine n_if_eqB hC (tgt := 16) dX0_stand_5 (by decide) (fun c_5 => ?_) (fun c_5 => ?_)
  · skip
    refine n_iconst hC (v := (-1)) dX0_stand_16 (by decide) ?_
    exact n_iret hC dX0_stand_17 (by decide) (by decide) (xOp.mk (M2 := M) (by simp [o_stand, c_5]) hR0)
  · skip
    refine n_aload_n hC dX0_stand_8 rfl ?_
    refine n_iload_n hC dX0_stand_9 rfl ?_
    refine n_callV1z hC (ct_X0_isPerson na _ _ _ _ _ (n := mN M 0) (gPe.1.trans h0) (by omega) x) md_X0_isPerson q377 dX0_stand_10 rfl xPut_o rfl rfl ⟨rfl, rfl, by decide, by decide⟩ rfl (Nat.le_of_ble_eq_true rfl) (by decide) (by decide) (fun r1 na1 h1 hp1 => ?_)
    obtain ⟨rfl, rfl, rfl⟩ := hp1
    refine n_if_neB hC (tgt := 18) dX0_stand_13 (by decide) (fun c_13 => ?_) (fun c_13 => ?_)
    · skip
      refine n_aload_n hC dX0_stand_18 rfl ?_
      refine x_getI hC 6 (v := nbo (mB M 11)) q154 dX0_stand_19 rfl (by decide) (by decide) (gRi.2.2.1.trans h11) ?_
      refine n_if_eqB hC (tgt := 28) dX0_stand_22 (by decide) (fun c_22 => ?_) (fun c_22 => ?_)
      · skip
        obtain ⟨j, hj, ej⟩ := (nin_t (by omega)).mp c_5
        obtain ⟨z, hz, ez⟩ := (nin_t (by omega)).mp c_13
        subst ej
        subst ez
        have hjc : (nI j).toNatClampNeg = j := nI_clamp (by omega)
        have hzc : (nI z).toNatClampNeg = z := nI_clamp (by omega)
        obtain ⟨q30, q31, q32, q33⟩ := gPe.2.1 z hz
        obtain ⟨i2, i24⟩ := (iP z hz).1
        refine n_iconst hC (v := nI 0) dX0_stand_28 (by decide) ?_
        refine n_istore_n hC dX0_stand_29 (Nat.le_of_ble_eq_true rfl) ?_
        have lp30 : ∀ d9 : Nat, ∀ (i : Nat), mN M 1 - i = d9 → (i ≤ mN M 1) → (∀ q, q < i → ¬ M 5 q = nI z) → WN K na (xPut na h (C, B, P, I)) 0 0 Q9 30 [some (.ref (na 130)), some (.int (nI j)), some (.int (nI z)), some (.int (nI i))] [] := by
          intro d9
          induction d9 using Nat.strongRecOn with
          | _ d9 ih30 =>
            intro i hd30 hi hN
            refine n_iload_n hC dX0_stand_30 rfl ?_
            refine n_aload_n hC dX0_stand_31 rfl ?_
            refine x_getI hC 2 (v := nI (mN M 1)) q150 dX0_stand_32 rfl (by decide) (by decide) (gRi.1.trans h1) ?_
            refine n_icmp_geN hC (tgt := 57) dX0_stand_35 (by decide) (by omega) (by omega) (fun c_35 => ?_) (fun c_35 => ?_)
            · skip
              have hh : ¬ mHas (M 5) (nI z) (mN M 1) := fun ⟨q, hq, eq⟩ => hN q (by omega) eq
              refine n_aload_n hC dX0_stand_57 rfl ?_
              refine x_getA hC 0 q148 dX0_stand_58 rfl (by decide) (by decide) ?_
              refine n_iload_n hC dX0_stand_61 rfl ?_
              refine x_per hC dX0_stand_62 rfl (by omega) q33 ?_
              refine x_instP hC q311 dX0_stand_63 rfl (by omega) q30 (by omega) ?_
              refine n_if_eqD hC (tgt := 72) dX0_stand_66 (by decide) (fun c_66 => ?_) (fun c_66 => ?_)
              · skip
                refine n_aload_n hC dX0_stand_72 rfl ?_
                refine x_getA hC 3 q151 dX0_stand_73 rfl (by decide) (by decide) ?_
                refine n_iload_n hC dX0_stand_76 rfl ?_
                refine x_aldN hC 3 (v := M 5 j) dX0_stand_77 rfl rfl (by have h9 : xLen 3 = 9 := rfl; omega) (gRi.2.1 j hj) ?_
                refine n_istore_n hC dX0_stand_78 (Nat.le_of_ble_eq_true rfl) ?_
                refine n_aload_n hC dX0_stand_79 rfl ?_
                refine x_getA hC 3 q151 dX0_stand_80 rfl (by decide) (by decide) ?_
                refine n_iload_n hC dX0_stand_83 rfl ?_
                refine n_iload_n hC dX0_stand_84 rfl ?_
                refine x_astN hC 3 (C2 := mset C 3 (upd (C 3) j (nI z))) dX0_stand_85 rfl rfl (by have h9 : xLen 3 = 9 := rfl; omega) rfl ?_
                refine n_iload_n hC dX0_stand_86 rfl ?_
                exact n_iret hC dX0_stand_87 (by decide) (by decide) (xOp.mk (M2 := mset M 5 (upd (M 5) j (nI z))) (by
      have h24 : ¬ M 2 z = nI 4 := fun w => c_66 (nI_inj (by omega) (by decide) (i2.symm.trans w))
      simp [o_stand, c_5, c_13, c_22, hh, hzc, hjc, h24]) (by
      refine ⟨hw, gPe, ⟨gRi.1, fun p hp => upd_cg gRi.2.1 rfl p hp, gRi.2.2.1, gRi.2.2.2⟩, gCl, gSt, gTh, gFi, gTx, gTr, gTp, gRd, gOr⟩))
              · skip
                refine n_bipush hC (v := (-12)) dX0_stand_69 (by decide) ?_
                exact n_iret hC dX0_stand_71 (by decide) (by decide) (xOp.mk (M2 := M) (by have h24 : M 2 z = nI 4 := i2.trans (congrArg nI c_66); simp [o_stand, c_5, c_13, c_22, hh, hzc, h24]) hR0)
            · skip
              refine n_aload_n hC dX0_stand_38 rfl ?_
              refine x_getA hC 3 q151 dX0_stand_39 rfl (by decide) (by decide) ?_
              refine n_iload_n hC dX0_stand_42 rfl ?_
              refine x_aldN hC 3 (v := M 5 i) dX0_stand_43 rfl rfl (by have h9 : xLen 3 = 9 := rfl; omega) (gRi.2.1 i (by omega)) ?_
              refine n_iload_n hC dX0_stand_44 rfl ?_
              refine n_icmp_ne hC (tgt := 51) dX0_stand_45 (by decide) (fun c_45 => ?_) (fun c_45 => ?_)
              · skip
                refine n_iincN hC dX0_stand_51 (j := 1) (c := i + 1) rfl (by decide) rfl ?_
                refine n_goto hC (tgt := 30) dX0_stand_54 (by decide) ?_
                exact WN.forget (L' := [some (.ref (na 130)), some (.int (nI j)), some (.int (nI z)), some (.int (nI (i + 1)))]) (⟨Or.inr rfl, Or.inr rfl, Or.inr rfl, Or.inr rfl, trivial⟩) (ih30 _ (by omega) (i + 1) rfl (by omega) (lt_s hN (by assumption)))
              · skip
                refine n_bipush hC (v := (-3)) dX0_stand_48 (by decide) ?_
                exact n_iret hC dX0_stand_50 (by decide) (by decide) (xOp.mk (M2 := M) (by have hh : mHas (M 5) (nI z) (mN M 1) := ⟨i, by omega, by assumption⟩; simp [o_stand, c_5, c_13, c_22, hh]) hR0)
        exact WN.forget (L' := [some (.ref (na 130)), some (.int (nI j)), some (.int (nI z)), some (.int (nI 0))]) (⟨Or.inr rfl, Or.inr rfl, Or.inr rfl, Or.inr rfl, trivial⟩) (lp30 _ 0 rfl (by omega) lt_0)
      · skip
        refine n_bipush hC (v := (-3)) dX0_stand_25 (by decide) ?_
        exact n_iret hC dX0_stand_27 (by decide) (by decide) (xOp.mk (M2 := M) (by simp [o_stand, c_5, c_13, c_22]) hR0)
    · skip
      refine n_iconst hC (v := (-1)) dX0_stand_16 (by decide) ?_
      exact n_iret hC dX0_stand_17 (by decide) (by decide) (xOp.mk (M2 := M) (by simp [o_stand, c_5, c_13]) hR0)

def ringM (z : Nat) (M : nMem) : nMem := mset (mset (mset (mset (mset (mset (mset (mset M 1 (fun _ => nI z)) 14 (fun _ => nI 0)) 15 (fun _ => nI 0)) 5 (fil (fun _ => -5) (M 5) 9)) 6 (fil nI (M 6) 9)) 7 (fil (fun _ => nI 0) (M 7) 9)) 8 (fil (fun _ => nI 0) (M 8) 9)) 17 (fil (fun _ => nI 0) (M 17) 9)
theorem xRel.ring {C C2 : nMem} {B2 : Nat → nMem} {P2 : Nat → Nat × Nat} {I2 : Nat → Nat} {M R R9 : nMem} {z : Nat} (hz3 : 3 ≤ z) (hz9 : z ≤ 9) (h4 : xB4 C2 B2 P2 I2 M) (gPe : xgPe C M) (hd : mB M 11 = false) (gRi : xgRi C M) (gTh : xgTh C M) (gTx : xgTx C M) (hF : mFr [3, 4, 5] (mset C 2 (fun _ => nI z)) C2) (w3 : ∀ q, q < 9 → C2 3 q = -5) (w4 : ∀ q, q < 9 → C2 4 q = nI 0) (w5 : ∀ q, q < 9 → C2 5 q = nI 0)
    (i7 : I2 7 ≠ 0) (i8 : I2 8 ≠ 0) (i78 : I2 7 ≠ I2 8) (p7 : P2 (I2 7) = (2, 0)) (p8 : P2 (I2 8) = (2, 0)) (hr0 : B2 (I2 7) 0 0 = nI z) (hr8 : B2 (I2 8) 0 0 = nI z)
    (e : R9 = mset (mset (mset (mset (mset (B2 (I2 7)) 1 (fil nI (B2 (I2 7) 1) z)) 2 (fil (C2 5) (B2 (I2 7) 2) z)) 3 (fil (fun _ => nI 0) (B2 (I2 7) 3) z)) 6 (fun _ => nI 0)) 7 (fun _ => nI 0)) : xRel (mset C2 12 (fun _ => nI 0), bset B2 (I2 7) R9, P2, I2) (ringM z M) := by
  have hF2 : mFr [2, 3, 4, 5, 12] C (mset C2 12 (fun _ => nI 0)) := mFr.set (by decide) (mFr.trans (S := [2]) (by decide) (mFr.set (by decide) mFr.rf) (mFr.wk (by decide) hF))
  obtain ⟨hw, gFi, gTr, gTp, gOr⟩ := h4
  have z1 : mN (ringM z M) 1 = z := mN_of rfl (by omega)
  have z14 : mN (ringM z M) 14 = 0 := mN_of rfl (by decide)
  have z15 : mN (ringM z M) 15 = 0 := mN_of rfl (by decide)
  have z11 : mB (ringM z M) 11 = false := hd
  have qPe : xgPe C (ringM z M) := gPe
  have qTh : xgTh C (ringM z M) := gTh
  have qTx : xgTx C (ringM z M) := gTx
  have qFi : xgFi (mset C2 12 (fun _ => nI 0)) B2 P2 I2 (ringM z M) := gFi
  have qTr : xgTr B2 P2 (ringM z M) := gTr
  have qTp : xgTp B2 P2 I2 (ringM z M) := gTp
  refine ⟨hw, qPe.c hF2 (by decide), ⟨?_, fun p hp => ?_, ?_, fun _ p hp => ⟨?_, ?_⟩⟩, ⟨fun q => ?_, fun q => absurd (z11.symm.trans q) (by decide)⟩, ⟨rfl, fun i hi => ?_⟩, qTh.c hF2 (by decide), qFi.bs (by rw [p7]; decide), qTx.c hF2 (by decide), qTr.bs (by rw [p7]; decide), qTp.bs (by rw [p7]; decide), ⟨fun q => absurd (z1.symm.trans q) (by omega), fun _ => ⟨i7, i8, i78, p7, p8, ?_, ?_⟩⟩, gOr.bs (by show (P2 (I2 7)).1 ≠ 5; rw [p7]; decide)⟩
  · show C2 2 0 = nI z
    rw [hF 2 (by decide)]
    rfl
  · rw [z1] at hp
    show C2 3 p = fil (fun _ => -5) (M 5) 9 p
    rw [w3 p (by omega), fil_lt (by omega)]
  · show C2 6 0 = M 11 0
    rw [hF 6 (by decide)]
    exact gRi.2.2.1
  · rw [z1] at hp
    show C2 4 p = fil (fun _ => nI 0) (M 7) 9 p
    rw [w4 p (by omega), fil_lt (by omega)]
  · rw [z1] at hp
    show C2 5 p = fil (fun _ => nI 0) (M 8) 9 p
    rw [w5 p (by omega), fil_lt (by omega)]
  · rcases q with q | q
    · exact absurd (z11.symm.trans q) (by decide)
    · exact absurd z15 q
  · rw [z14] at hi; omega
  · dsimp only
    rw [bset_s]
    subst e
    refine ⟨by rw [z1]; exact hr0, by rw [z15]; rfl, fun r p hr _ => ?_, fun q => absurd (z11.symm.trans q) (by decide)⟩
    rw [z15] at hr
    omega
  · dsimp only
    rw [bset_n (Ne.symm i78), z1]
    exact hr8
theorem o_ring_e {M : nMem} {z : Nat} (h3 : 3 ≤ z) (h9 : z ≤ 9) (hd : mB M 11 = false) : o_ring (nI z) M = (nI 1, ringM z M) := by
  have h1 : nrg (nI z) (nI 3) (nI 9) = true := (nrg_nn (by decide) (by decide)).mpr ⟨z, h3, h9, rfl⟩
  unfold o_ring
  rw [h1, hd, if_neg (by decide), if_neg (by decide)]
  rfl
set_option maxHeartbeats 4000000 in
set_option maxRecDepth 100000 in
theorem xt_X0_ring (na : nA) (h : nH) (C : nMem) (B : Nat → nMem) (P : Nat → Nat × Nat) (I : Nat → Nat) (M : nMem) (hR : xRel (C, B, P, I) M) (hI : mInv M) (m : Int32) : nM yX0_ring cX0_ring 3 (some .int) (nRm 3 412 4070) [.ref (na 130), .int m] na (xPut na h (C, B, P, I)) (nQi (xOp na h (o_ring m M))) 412 4070 := by
  refine nM.ofN RX0 rfl (by decide) (by intro v hv; simp only [List.mem_cons, List.not_mem_nil, or_false] at hv; rcases hv with rfl | rfl <;> rfl) (Nat.le_of_ble_eq_true rfl) (fun K hC hnm => ?_)
  show WN K na (xPut na h (C, B, P, I)) 0 0 (nE K (nQi (xOp na h (o_ring m M))) 412 4070) 0 [some (.ref (na 130)), some (.int m), none] []
  let Q9 : State → Prop := nE K (nQi (xOp na h (o_ring m M))) 412 4070
  show WN K na (xPut na h (C, B, P, I)) 0 0 Q9 0 [some (.ref (na 130)), some (.int m), none] []
  have hR0 := hR
  obtain ⟨hw, gPe, gRi, gCl, gSt, gTh, gFi, gTx, gTr, gTp, gRd, gOr⟩ := hR
  dsimp only at hw gPe gRi gCl gSt gTh gFi gTx gTr gTp gRd gOr
  obtain ⟨⟨h0, b0⟩, ⟨h1, b1a, b1⟩, ⟨h11, b11⟩, ⟨h14, b14⟩, ⟨h15, b15, b15n⟩, ⟨h20, b20⟩, ⟨h26, b26⟩, ⟨h27, b27⟩, ⟨h55, b55⟩, iP, iH, iHi, iHd, iC, iT, iF, iG, iS, iZ⟩ := hI
  refine n_iload_n hC dX0_ring_0 rfl ?_
  refine n_iconst hC (v := nI 3) dX0_ring_1 (by decide) ?_
  refine n_bipush hC (v := nI 9) dX0_ring_2 (by decide) ?_
  refine n_callS3z hC (ct_X0_in na _ m (nI 3) (nI 9)) ms_X0_in q243 dX0_ring_4 ⟨rfl, rfl, by decide, by decide⟩ rfl (Nat.le_of_ble_eq_true rfl) (by decide) (by decide) (fun r0 na0 h0 hp0 => ?_)
  obtain ⟨rfl, rfl, rfl⟩ := hp0
  refine n_if_neB hC (tgt := 13) dX0_ring_7 (by decide) (fun c_7 => ?_) (fun c_7 => ?_)
  · skip
    refine n_aload_n hC dX0_ring_13 rfl ?_
    refine x_getI hC 6 (v := nbo (mB M 11)) q154 dX0_ring_14 rfl (by decide) (by decide) (gRi.2.2.1.trans h11) ?_
    refine n_if_eqB hC (tgt := 23) dX0_ring_17 (by decide) (fun c_17 => ?_) (fun c_17 => ?_)
    · skip
      obtain ⟨z, h3, h9, ez⟩ := (nrg_nn (by decide) (by decide)).mp c_7
      subst ez
      refine n_aload_n hC dX0_ring_23 rfl ?_
      refine n_iload_n hC dX0_ring_24 rfl ?_
      refine x_putI hC 2 (C2 := mset C 2 (fun _ => nI z)) q150 dX0_ring_25 rfl (by decide) (by decide) rfl rfl rfl rfl rfl ?_
      refine n_iconst hC (v := nI 0) dX0_ring_28 (by decide) ?_
      refine n_istore_n hC dX0_ring_29 (Nat.le_of_ble_eq_true rfl) ?_
      have lp30 : ∀ d9 : Nat, ∀ (p : Nat) (C2 : nMem), 9 - p = d9 → (p ≤ 9) → (mFr [3, 4, 5] (mset C 2 (fun _ => nI z)) C2) → (∀ q, q < p → C2 3 q = -5) → (∀ q, q < p → C2 4 q = nI 0) → (∀ q, q < p → C2 5 q = nI 0) → WN K na (xPut na h (C2, B, P, I)) 0 0 Q9 30 [some (.ref (na 130)), some (.int (nI z)), some (.int (nI p))] [] := by
        intro d9
        induction d9 using Nat.strongRecOn with
        | _ d9 ih30 =>
          intro p C2 hd30 hp hF w3 w4 w5
          refine n_iload_n hC dX0_ring_30 rfl ?_
          refine n_bipush hC (v := nI 9) dX0_ring_31 (by decide) ?_
          refine n_icmp_geN hC (tgt := 64) dX0_ring_33 (by decide) (by omega) (by omega) (fun c_33 => ?_) (fun c_33 => ?_)
          · skip
            have hp9 : p = 9 := by omega
            subst hp9
            have h40 : xB4 C2 B P I M := xB4.c (C := C) ⟨hw, gFi, gTr, gTp, gOr⟩ (hF 14 (by decide))
            have hw0 : 0 < I 200 := hw.1
            rcases Nat.eq_zero_or_pos (mN M 1) with hn | hn
            · skip
              obtain ⟨r1, r2⟩ := gRd.1 hn
              have e15 : mN M 15 = 0 := Nat.eq_zero_of_not_pos fun z => by have := b15n (by omega); omega
              refine n_aload_n hC dX0_ring_64 rfl ?_
              refine x_getZ hC 7 q155 dX0_ring_65 rfl (by decide) (by decide) r1 ?_
              refine n_ifnullN hC (tgt := 82) dX0_ring_68 (by decide) ?_
              refine n_aload_n hC dX0_ring_82 rfl ?_
              refine x_newB hC (c := (2, 0)) (k0 := 1) gW_X9 (by decide) (by decide) q326 q327 q88 dX0_ring_83 h40.1 (fun j hj => by have hj : j < 8 := hj; rcases (show j = 0 ∨ j = 1 ∨ j = 2 ∨ j = 3 ∨ j = 4 ∨ j = 5 ∨ j = 6 ∨ j = 7 by omega) with rfl | rfl | rfl | rfl | rfl | rfl | rfl | rfl <;> rfl) (by decide) (by decide) (fun na1 ho1 => ?_)
              rw [show na 130 = na1 130 from (ho1 130 (by unfold bB; omega)).symm]
              refine n_dup hC dX0_ring_86 rfl ?_
              refine n_iload_n hC dX0_ring_87 rfl ?_
              refine n_callI1v hC (ct_X9_init (bB (I 200)) na1 _ z) mi_X9_init q328 dX0_ring_88 ⟨rfl, rfl, by decide, by decide⟩ rfl (Nat.le_of_ble_eq_true rfl) (by decide) (by decide) (fun na2 h2 hp2 => ?_)
              obtain ⟨hx2, R2, rfl, eR2⟩ := hp2
              have e9 : gPut shX9 (bB (I 200)) na2 (xPut na1 h (C2, B, P, I)) R2 = xPut na2 h (C2, (bset B (I 200) R2), (pset P (I 200) (2, 0)), (iset I 200 (I 200 + 1))) := by
                rw [x_fresh (X := (C2, B, P, I)) (na2 := na2) h40.1 (fun k h1 h2 => (hx2 k (by intro z; have h3 : k < (bB (I 200)) := h2; omega)).symm)]
                exact x_newX (c := (2, 0)) ⟨by decide, by decide⟩
              rw [e9]
              clear e9
              rw [show na1 130 = na2 130 from (hx2 130 (by unfold bB; omega)).symm]
              rw [show na1 (bB (I 200) + 9) = na2 (bB (I 200) + 9) from (hx2 (bB (I 200) + 9) (by unfold bB; omega)).symm]
              refine x_putR hC 7 (i := (I 200)) (I2 := (iset (iset I 200 (I 200 + 1)) 7 (I 200))) q155 dX0_ring_91 rfl (by decide) (by decide) rfl rfl rfl rfl (by omega) rfl rfl ?_
              obtain ⟨B1, eB1⟩ : ∃ q, q = (bset B (I 200) R2) := ⟨_, rfl⟩
              obtain ⟨P1, eP1⟩ : ∃ q, q = (pset P (I 200) (2, 0)) := ⟨_, rfl⟩
              obtain ⟨I1, eI1⟩ : ∃ q, q = (iset (iset I 200 (I 200 + 1)) 7 (I 200)) := ⟨_, rfl⟩
              rw [← eB1, ← eP1, ← eI1]
              have hc1 : I1 200 = I 200 + 1 := by rw [eI1, iset_n (by decide), iset_s]
              have i17 : I1 7 = I 200 := by rw [eI1, iset_s]
              have p17 : P1 (I 200) = (2, 0) := by rw [eP1, pset_s]
              have b17 : B1 (I 200) = R2 := by rw [eB1, bset_s]
              have h41 : xB4 C2 B1 P1 I1 M := by rw [eB1, eP1, eI1]; exact h40.new.idx (by decide) (by decide) (by rw [iset_s]; omega)
              refine n_aload_n hC dX0_ring_94 rfl ?_
              refine x_newB hC (c := (2, 0)) (k0 := 1) gW_X9 (by decide) (by decide) q326 q327 q88 dX0_ring_95 h41.1 (fun j hj => by have hj : j < 8 := hj; rcases (show j = 0 ∨ j = 1 ∨ j = 2 ∨ j = 3 ∨ j = 4 ∨ j = 5 ∨ j = 6 ∨ j = 7 by omega) with rfl | rfl | rfl | rfl | rfl | rfl | rfl | rfl <;> rfl) (by decide) (by decide) (fun na3 ho3 => ?_)
              rw [show na2 130 = na3 130 from (ho3 130 (by unfold bB; omega)).symm]
              refine n_dup hC dX0_ring_98 rfl ?_
              refine n_iload_n hC dX0_ring_99 rfl ?_
              refine n_callI1v hC (ct_X9_init (bB (I1 200)) na3 _ z) mi_X9_init q328 dX0_ring_100 ⟨rfl, rfl, by decide, by decide⟩ rfl (Nat.le_of_ble_eq_true rfl) (by decide) (by decide) (fun na4 h4 hp4 => ?_)
              obtain ⟨hx4, R4, rfl, eR4⟩ := hp4
              have e9 : gPut shX9 (bB (I1 200)) na4 (xPut na3 h (C2, B1, P1, I1)) R4 = xPut na4 h (C2, (bset B1 (I1 200) R4), (pset P1 (I1 200) (2, 0)), (iset I1 200 (I1 200 + 1))) := by
                rw [x_fresh (X := (C2, B1, P1, I1)) (na2 := na4) h41.1 (fun k h1 h2 => (hx4 k (by intro z; have h3 : k < (bB (I1 200)) := h2; omega)).symm)]
                exact x_newX (c := (2, 0)) ⟨by decide, by decide⟩
              rw [e9]
              clear e9
              rw [show na3 130 = na4 130 from (hx4 130 (by unfold bB; omega)).symm]
              rw [show na3 (bB (I1 200) + 9) = na4 (bB (I1 200) + 9) from (hx4 (bB (I1 200) + 9) (by unfold bB; omega)).symm]
              refine x_putR hC 8 (i := (I1 200)) (I2 := (iset (iset I1 200 (I1 200 + 1)) 8 (I1 200))) q156 dX0_ring_103 rfl (by decide) (by decide) rfl rfl rfl rfl (by omega) rfl rfl ?_
              obtain ⟨B2, eB2⟩ : ∃ q, q = (bset B1 (I1 200) R4) := ⟨_, rfl⟩
              obtain ⟨P2, eP2⟩ : ∃ q, q = (pset P1 (I1 200) (2, 0)) := ⟨_, rfl⟩
              obtain ⟨I2, eI2⟩ : ∃ q, q = (iset (iset I1 200 (I1 200 + 1)) 8 (I1 200)) := ⟨_, rfl⟩
              rw [← eB2, ← eP2, ← eI2]
              have i27 : I2 7 = I 200 := by rw [eI2, iset_n (by decide), iset_n (by decide), i17]
              have i28 : I2 8 = I1 200 := by rw [eI2, iset_s]
              have p27 : P2 (I2 7) = (2, 0) := by rw [eP2, i27, pset_n (by omega), p17]
              have p28 : P2 (I2 8) = (2, 0) := by rw [eP2, i28, pset_s]
              have b27 : B2 (I2 7) 0 0 = nI z := by rw [eB2, i27, bset_n (by omega), b17, eR2]; rfl
              have b28 : B2 (I2 8) 0 0 = nI z := by rw [eB2, i28, bset_s, eR4]; rfl
              have h42 : xB4 C2 B2 P2 I2 M := by rw [eB2, eP2, eI2]; exact h41.new.idx (by decide) (by decide) (by rw [iset_s]; omega)
              have i270 : I2 7 ≠ 0 := by omega
              have i280 : I2 8 ≠ 0 := by omega
              refine n_aload_n hC dX0_ring_106 rfl ?_
              refine x_getR hC 7 q155 dX0_ring_107 rfl (by decide) (by decide) i270 ?_
              refine n_aload_n hC dX0_ring_110 rfl ?_
              refine x_getA hC 5 q153 dX0_ring_111 rfl (by decide) (by decide) ?_
              refine n_callV1v hC (xc_rel (i := (I2 7)) (c := (2, 0)) p27 ⟨by decide, by decide⟩ (ct_X9_begins (bB (I2 7)) na4 _ (B2 (I2 7)) (n := z) b27 (by omega) (by omega) (kk := 105) (f := C2 5) (by unfold bB; omega) (xPut_a (j := 5) rfl))) md_X9_begins q365 dX0_ring_114 rfl (((xBlk_o (na := na4) (h := h) (X := (C2, B2, P2, I2)) (i := (I2 7)) (c := (2, 0)) p27 ⟨by decide, by decide⟩) 9 (by decide)).trans (if_pos rfl)) rfl rfl ⟨rfl, rfl, by decide, by decide⟩ rfl (Nat.le_of_ble_eq_true rfl) (by decide) (by decide) (fun na5 h5 hp5 => ?_)
              obtain ⟨rfl, R9, rfl, eR9⟩ := hp5
              refine n_aload_n hC dX0_ring_117 rfl ?_
              refine n_iconst hC (v := nI 0) dX0_ring_118 (by decide) ?_
              refine x_putI hC 12 (C2 := mset C2 12 (fun _ => nI 0)) q160 dX0_ring_119 rfl (by decide) (by decide) rfl rfl rfl rfl rfl ?_
              refine n_iconst hC (v := nI 1) dX0_ring_122 (by decide) ?_
              exact n_iret hC dX0_ring_123 (by decide) (by decide) (xOp.mkn (o_ring_e h3 h9 c_17) (fun k hk => by rw [hx4 k (by unfold bB; omega), ho3 k (by unfold bB; omega), hx2 k (by unfold bB; omega), ho1 k (by unfold bB; omega)]) (xRel.ring (R := R9) h3 h9 h42 gPe c_17 gRi gTh gTx hF w3 w4 w5 i270 i280 (by omega) p27 p28 b27 b28 eR9))
            · skip
              obtain ⟨r1, r2, r3, r4, r5, r6, r7⟩ := gRd.2 (show mN M 1 ≠ 0 by omega)
              refine n_aload_n hC dX0_ring_64 rfl ?_
              refine x_getR hC 7 q155 dX0_ring_65 rfl (by decide) (by decide) r1 ?_
              refine n_ifnull hC dX0_ring_68 ?_
              refine n_aload_n hC dX0_ring_71 rfl ?_
              refine x_getR hC 7 q155 dX0_ring_72 rfl (by decide) (by decide) r1 ?_
              refine o_getIN hC gW_X9 (xBlk_o (na := na) (h := h) (X := (C2, B, P, I)) (i := (I 7)) (c := (2, 0)) r4 ⟨by decide, by decide⟩) (host := "MaypoleGreen") 0 (v := nI (mN M 1)) (by decide) dX0_ring_75 rfl (by decide) (by decide) r6.1 ?_
              refine n_iload_n hC dX0_ring_78 rfl ?_
              refine n_icmp_eqN hC (tgt := 106) dX0_ring_79 (by decide) (by omega) (by omega) (fun c_79 => ?_) (fun c_79 => ?_)
              · skip
                refine n_aload_n hC dX0_ring_106 rfl ?_
                refine x_getR hC 7 q155 dX0_ring_107 rfl (by decide) (by decide) r1 ?_
                refine n_aload_n hC dX0_ring_110 rfl ?_
                refine x_getA hC 5 q153 dX0_ring_111 rfl (by decide) (by decide) ?_
                refine n_callV1v hC (xc_rel (i := (I 7)) (c := (2, 0)) r4 ⟨by decide, by decide⟩ (ct_X9_begins (bB (I 7)) na _ (B (I 7)) (n := z) (by rw [r6.1, c_79]) (by omega) (by omega) (kk := 105) (f := C2 5) (by unfold bB; omega) (xPut_a (j := 5) rfl))) md_X9_begins q365 dX0_ring_114 rfl (((xBlk_o (na := na) (h := h) (X := (C2, B, P, I)) (i := (I 7)) (c := (2, 0)) r4 ⟨by decide, by decide⟩) 9 (by decide)).trans (if_pos rfl)) rfl rfl ⟨rfl, rfl, by decide, by decide⟩ rfl (Nat.le_of_ble_eq_true rfl) (by decide) (by decide) (fun na6 h6 hp6 => ?_)
                obtain ⟨rfl, R9, rfl, eR9⟩ := hp6
                refine n_aload_n hC dX0_ring_117 rfl ?_
                refine n_iconst hC (v := nI 0) dX0_ring_118 (by decide) ?_
                refine x_putI hC 12 (C2 := mset C2 12 (fun _ => nI 0)) q160 dX0_ring_119 rfl (by decide) (by decide) rfl rfl rfl rfl rfl ?_
                refine n_iconst hC (v := nI 1) dX0_ring_122 (by decide) ?_
                exact n_iret hC dX0_ring_123 (by decide) (by decide) (xOp.mk (o_ring_e h3 h9 c_17) (xRel.ring (R := R9) h3 h9 h40 gPe c_17 gRi gTh gTx hF w3 w4 w5 r1 r2 r3 r4 r5 (r6.1.trans (congrArg nI c_79)) (r7.trans (congrArg nI c_79)) eR9))
              · skip
                refine n_aload_n hC dX0_ring_82 rfl ?_
                refine x_newB hC (c := (2, 0)) (k0 := 1) gW_X9 (by decide) (by decide) q326 q327 q88 dX0_ring_83 h40.1 (fun j hj => by have hj : j < 8 := hj; rcases (show j = 0 ∨ j = 1 ∨ j = 2 ∨ j = 3 ∨ j = 4 ∨ j = 5 ∨ j = 6 ∨ j = 7 by omega) with rfl | rfl | rfl | rfl | rfl | rfl | rfl | rfl <;> rfl) (by decide) (by decide) (fun na7 ho7 => ?_)
                rw [show na 130 = na7 130 from (ho7 130 (by unfold bB; omega)).symm]
                refine n_dup hC dX0_ring_86 rfl ?_
                refine n_iload_n hC dX0_ring_87 rfl ?_
                refine n_callI1v hC (ct_X9_init (bB (I 200)) na7 _ z) mi_X9_init q328 dX0_ring_88 ⟨rfl, rfl, by decide, by decide⟩ rfl (Nat.le_of_ble_eq_true rfl) (by decide) (by decide) (fun na8 h8 hp8 => ?_)
                obtain ⟨hx8, R8, rfl, eR8⟩ := hp8
                have e9 : gPut shX9 (bB (I 200)) na8 (xPut na7 h (C2, B, P, I)) R8 = xPut na8 h (C2, (bset B (I 200) R8), (pset P (I 200) (2, 0)), (iset I 200 (I 200 + 1))) := by
                  rw [x_fresh (X := (C2, B, P, I)) (na2 := na8) h40.1 (fun k h1 h2 => (hx8 k (by intro z; have h3 : k < (bB (I 200)) := h2; omega)).symm)]
                  exact x_newX (c := (2, 0)) ⟨by decide, by decide⟩
                rw [e9]
                clear e9
                rw [show na7 130 = na8 130 from (hx8 130 (by unfold bB; omega)).symm]
                rw [show na7 (bB (I 200) + 9) = na8 (bB (I 200) + 9) from (hx8 (bB (I 200) + 9) (by unfold bB; omega)).symm]
                refine x_putR hC 7 (i := (I 200)) (I2 := (iset (iset I 200 (I 200 + 1)) 7 (I 200))) q155 dX0_ring_91 rfl (by decide) (by decide) rfl rfl rfl rfl (by omega) rfl rfl ?_
                obtain ⟨B1, eB1⟩ : ∃ q, q = (bset B (I 200) R8) := ⟨_, rfl⟩
                obtain ⟨P1, eP1⟩ : ∃ q, q = (pset P (I 200) (2, 0)) := ⟨_, rfl⟩
                obtain ⟨I1, eI1⟩ : ∃ q, q = (iset (iset I 200 (I 200 + 1)) 7 (I 200)) := ⟨_, rfl⟩
                rw [← eB1, ← eP1, ← eI1]
                have hc1 : I1 200 = I 200 + 1 := by rw [eI1, iset_n (by decide), iset_s]
                have i17 : I1 7 = I 200 := by rw [eI1, iset_s]
                have p17 : P1 (I 200) = (2, 0) := by rw [eP1, pset_s]
                have b17 : B1 (I 200) = R8 := by rw [eB1, bset_s]
                have h41 : xB4 C2 B1 P1 I1 M := by rw [eB1, eP1, eI1]; exact h40.new.idx (by decide) (by decide) (by rw [iset_s]; omega)
                refine n_aload_n hC dX0_ring_94 rfl ?_
                refine x_newB hC (c := (2, 0)) (k0 := 1) gW_X9 (by decide) (by decide) q326 q327 q88 dX0_ring_95 h41.1 (fun j hj => by have hj : j < 8 := hj; rcases (show j = 0 ∨ j = 1 ∨ j = 2 ∨ j = 3 ∨ j = 4 ∨ j = 5 ∨ j = 6 ∨ j = 7 by omega) with rfl | rfl | rfl | rfl | rfl | rfl | rfl | rfl <;> rfl) (by decide) (by decide) (fun na9 ho9 => ?_)
                rw [show na8 130 = na9 130 from (ho9 130 (by unfold bB; omega)).symm]
                refine n_dup hC dX0_ring_98 rfl ?_
                refine n_iload_n hC dX0_ring_99 rfl ?_
                refine n_callI1v hC (ct_X9_init (bB (I1 200)) na9 _ z) mi_X9_init q328 dX0_ring_100 ⟨rfl, rfl, by decide, by decide⟩ rfl (Nat.le_of_ble_eq_true rfl) (by decide) (by decide) (fun na10 h10 hp10 => ?_)
                obtain ⟨hx10, R10, rfl, eR10⟩ := hp10
                have e9 : gPut shX9 (bB (I1 200)) na10 (xPut na9 h (C2, B1, P1, I1)) R10 = xPut na10 h (C2, (bset B1 (I1 200) R10), (pset P1 (I1 200) (2, 0)), (iset I1 200 (I1 200 + 1))) := by
                  rw [x_fresh (X := (C2, B1, P1, I1)) (na2 := na10) h41.1 (fun k h1 h2 => (hx10 k (by intro z; have h3 : k < (bB (I1 200)) := h2; omega)).symm)]
                  exact x_newX (c := (2, 0)) ⟨by decide, by decide⟩
                rw [e9]
                clear e9
                rw [show na9 130 = na10 130 from (hx10 130 (by unfold bB; omega)).symm]
                rw [show na9 (bB (I1 200) + 9) = na10 (bB (I1 200) + 9) from (hx10 (bB (I1 200) + 9) (by unfold bB; omega)).symm]
                refine x_putR hC 8 (i := (I1 200)) (I2 := (iset (iset I1 200 (I1 200 + 1)) 8 (I1 200))) q156 dX0_ring_103 rfl (by decide) (by decide) rfl rfl rfl rfl (by omega) rfl rfl ?_
                obtain ⟨B2, eB2⟩ : ∃ q, q = (bset B1 (I1 200) R10) := ⟨_, rfl⟩
                obtain ⟨P2, eP2⟩ : ∃ q, q = (pset P1 (I1 200) (2, 0)) := ⟨_, rfl⟩
                obtain ⟨I2, eI2⟩ : ∃ q, q = (iset (iset I1 200 (I1 200 + 1)) 8 (I1 200)) := ⟨_, rfl⟩
                rw [← eB2, ← eP2, ← eI2]
                have i27 : I2 7 = I 200 := by rw [eI2, iset_n (by decide), iset_n (by decide), i17]
                have i28 : I2 8 = I1 200 := by rw [eI2, iset_s]
                have p27 : P2 (I2 7) = (2, 0) := by rw [eP2, i27, pset_n (by omega), p17]
                have p28 : P2 (I2 8) = (2, 0) := by rw [eP2, i28, pset_s]
                have b27 : B2 (I2 7) 0 0 = nI z := by rw [eB2, i27, bset_n (by omega), b17, eR8]; rfl
                have b28 : B2 (I2 8) 0 0 = nI z := by rw [eB2, i28, bset_s, eR10]; rfl
                have h42 : xB4 C2 B2 P2 I2 M := by rw [eB2, eP2, eI2]; exact h41.new.idx (by decide) (by decide) (by rw [iset_s]; omega)
                have i270 : I2 7 ≠ 0 := by omega
                have i280 : I2 8 ≠ 0 := by omega
                refine n_aload_n hC dX0_ring_106 rfl ?_
                refine x_getR hC 7 q155 dX0_ring_107 rfl (by decide) (by decide) i270 ?_
                refine n_aload_n hC dX0_ring_110 rfl ?_
                refine x_getA hC 5 q153 dX0_ring_111 rfl (by decide) (by decide) ?_
                refine n_callV1v hC (xc_rel (i := (I2 7)) (c := (2, 0)) p27 ⟨by decide, by decide⟩ (ct_X9_begins (bB (I2 7)) na10 _ (B2 (I2 7)) (n := z) b27 (by omega) (by omega) (kk := 105) (f := C2 5) (by unfold bB; omega) (xPut_a (j := 5) rfl))) md_X9_begins q365 dX0_ring_114 rfl (((xBlk_o (na := na10) (h := h) (X := (C2, B2, P2, I2)) (i := (I2 7)) (c := (2, 0)) p27 ⟨by decide, by decide⟩) 9 (by decide)).trans (if_pos rfl)) rfl rfl ⟨rfl, rfl, by decide, by decide⟩ rfl (Nat.le_of_ble_eq_true rfl) (by decide) (by decide) (fun na11 h11 hp11 => ?_)
                obtain ⟨rfl, R9, rfl, eR9⟩ := hp11
                refine n_aload_n hC dX0_ring_117 rfl ?_
                refine n_iconst hC (v := nI 0) dX0_ring_118 (by decide) ?_
                refine x_putI hC 12 (C2 := mset C2 12 (fun _ => nI 0)) q160 dX0_ring_119 rfl (by decide) (by decide) rfl rfl rfl rfl rfl ?_
                refine n_iconst hC (v := nI 1) dX0_ring_122 (by decide) ?_
                exact n_iret hC dX0_ring_123 (by decide) (by decide) (xOp.mkn (o_ring_e h3 h9 c_17) (fun k hk => by rw [hx10 k (by unfold bB; omega), ho9 k (by unfold bB; omega), hx8 k (by unfold bB; omega), ho7 k (by unfold bB; omega)]) (xRel.ring (R := R9) h3 h9 h42 gPe c_17 gRi gTh gTx hF w3 w4 w5 i270 i280 (by omega) p27 p28 b27 b28 eR9))
          · skip
            refine n_aload_n hC dX0_ring_36 rfl ?_
            refine x_getA hC 3 q151 dX0_ring_37 rfl (by decide) (by decide) ?_
            refine n_iload_n hC dX0_ring_40 rfl ?_
            refine n_bipush hC (v := (-5)) dX0_ring_41 (by decide) ?_
            refine x_astN hC 3 (C2 := mset C2 3 (upd (C2 3) p (-5))) dX0_ring_43 rfl rfl (by have h9 : xLen 3 = 9 := rfl; omega) rfl ?_
            refine n_aload_n hC dX0_ring_44 rfl ?_
            refine x_getA hC 4 q152 dX0_ring_45 rfl (by decide) (by decide) ?_
            refine n_iload_n hC dX0_ring_48 rfl ?_
            refine n_iconst hC (v := nI 0) dX0_ring_49 (by decide) ?_
            refine x_astN hC 4 (C2 := mset (mset C2 3 (upd (C2 3) p (-5))) 4 (upd (C2 4) p (nI 0))) dX0_ring_50 rfl rfl (by have h9 : xLen 4 = 9 := rfl; omega) rfl ?_
            refine n_aload_n hC dX0_ring_51 rfl ?_
            refine x_getA hC 5 q153 dX0_ring_52 rfl (by decide) (by decide) ?_
            refine n_iload_n hC dX0_ring_55 rfl ?_
            refine n_iconst hC (v := nI 0) dX0_ring_56 (by decide) ?_
            refine x_astN hC 5 (C2 := mset (mset (mset C2 3 (upd (C2 3) p (-5))) 4 (upd (C2 4) p (nI 0))) 5 (upd (C2 5) p (nI 0))) dX0_ring_57 rfl rfl (by have h9 : xLen 5 = 9 := rfl; omega) rfl ?_
            refine n_iincN hC dX0_ring_58 (j := 1) (c := p + 1) rfl (by decide) rfl ?_
            refine n_goto hC (tgt := 30) dX0_ring_61 (by decide) ?_
            exact WN.forget (L' := [some (.ref (na 130)), some (.int (nI z)), some (.int (nI (p + 1)))]) (⟨Or.inr rfl, Or.inr rfl, Or.inr rfl, trivial⟩) (ih30 _ (by omega) (p + 1) (mset (mset (mset C2 3 (upd (C2 3) p (-5))) 4 (upd (C2 4) p (nI 0))) 5 (upd (C2 5) p (nI 0))) rfl (by omega) (mFr.set (by decide) (mFr.set (by decide) (mFr.set (by decide) hF))) (fun q hq => by show upd (C2 3) p _ q = _; by_cases e : q = p; rw [e, upd_s]; rw [upd_n e]; exact w3 q (by omega)) (fun q hq => by show upd (C2 4) p _ q = _; by_cases e : q = p; rw [e, upd_s]; rw [upd_n e]; exact w4 q (by omega)) (fun q hq => by show upd (C2 5) p _ q = _; by_cases e : q = p; rw [e, upd_s]; rw [upd_n e]; exact w5 q (by omega)))
      exact WN.forget (L' := [some (.ref (na 130)), some (.int (nI z)), some (.int (nI 0))]) (⟨Or.inr rfl, Or.inr rfl, Or.inr rfl, trivial⟩) (lp30 _ 0 (mset C 2 (fun _ => nI z)) rfl (by omega) mFr.rf lt_0 lt_0 lt_0)
    · skip
      refine n_bipush hC (v := (-3)) dX0_ring_20 (by decide) ?_
      exact n_iret hC dX0_ring_22 (by decide) (by decide) (xOp.mk (M2 := M) (by simp [o_ring, c_7, c_17]) hR0)
  · skip
    refine n_bipush hC (v := (-2)) dX0_ring_10 (by decide) ?_
    exact n_iret hC dX0_ring_12 (by decide) (by decide) (xOp.mk (M2 := M) (by simp [o_ring, c_7]) hR0)

