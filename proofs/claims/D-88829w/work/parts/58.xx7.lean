/-! ===== THE CLASS: right, slips ===== -/
set_option maxRecDepth 100000
theorem mFs_stp {M : nMem} {j : Nat} (h : ∀ k, k < mA M 28 j → stp (mA M 29 (300 * j + k))) : ∀ x ∈ mFs M j, stp x := by
  unfold mFs
  intro x hx
  rw [List.mem_map] at hx
  obtain ⟨k, hk, rfl⟩ := hx
  exact h k (List.mem_range.mp hk)
theorem allb_ex {P : Nat → Bool} : ∀ {n : Nat}, allb n P = false → ∃ p, p < n ∧ P p = false
  | 0, h => by cases h
  | n + 1, h => by
    have h : (allb n P && P n) = false := h
    cases e : P n with
    | false => exact ⟨n, Nat.lt_succ_self n, e⟩
    | true =>
      rw [e, Bool.and_true] at h
      obtain ⟨p, hp, q⟩ := allb_ex h
      exact ⟨p, by omega, q⟩
theorem tstep_out {M : nMem} {n s : Nat} {T : TT} (hs : s < 100) (h : n ≤ s / 10) : tstep M n s T = none := by
  unfold tstep
  split
  · rfl
  · rw [if_neg (by omega)]
    unfold tpass
    rw [if_pos h]
theorem und_out {s n : Nat} (hs : stp s) (h1 : s < 100) (h : n ≤ s / 10) : und s < 100 ∧ n ≤ und s / 10 := by
  unfold und flp
  unfold stp at hs
  rw [if_neg (by omega)]
  split <;> omega
theorem mMakes_out {M : nMem} {L : List Nat} {av sv : Int32} {k : Nat} (hk : k < L.length) (hne : ¬ (nI k = av ∧ sv = nI 0)) (hst : stp (L.getD k 0)) (hs : L.getD k 0 < 100) (h : mN M 1 ≤ L.getD k 0 / 10) : mMakes M L av sv = false := by
  refine mMakes_n (k := k + 1) hk ?_
  rw [mkSq_k]
  cases trun M (mN M 1) (mkSq L av sv k) (T0 M) with
  | none => rfl
  | some T =>
    show trun M (mN M 1) (mkEl L av sv k) T = none
    obtain ⟨u1, u2⟩ := und_out hst hs h
    unfold mkEl
    rw [if_neg hne]
    split
    · show (tstep M (mN M 1) _ T).bind _ = none
      rw [tstep_out u1 u2]; rfl
    · split
      · show (tstep M (mN M 1) _ T).bind _ = none
        rw [tstep_out hs h]; rfl
      · show (tstep M (mN M 1) _ T).bind _ = none
        rw [tstep_out hs h]; rfl
theorem mkSq_m1 {L : List Nat} {sv sv' : Int32} : ∀ {k : Nat}, k ≤ 1000 → mkSq L (-1) sv k = mkSq L (-1) sv' k
  | 0, _ => rfl
  | k + 1, h => by
    show mkSq L (-1) sv k ++ mkEl L (-1) sv k = mkSq L (-1) sv' k ++ mkEl L (-1) sv' k
    rw [mkSq_m1 (k := k) (by omega), mkEl_n (nI_nm (by omega)), mkEl_n (nI_nm (by omega))]
theorem mMakes_m1 {M : nMem} {L : List Nat} {sv sv' : Int32} (hl : L.length ≤ 1000) : mMakes M L (-1) sv = mMakes M L (-1) sv' := by
  rw [mMakes_e, mMakes_e, mkSq_m1 hl]
theorem isOf_ok {M : nMem} {j n : Nat} (h : allb (mFs M j).length (fun k => decide (100 ≤ (mFs M j).getD k 0) || decide ((mFs M j).getD k 0 / 10 < n)) = true) {k : Nat} (hk : k < mA M 28 j) : 100 ≤ mA M 29 (300 * j + k) ∨ mA M 29 (300 * j + k) / 10 < n := by
  have := allb_iff.mp h k (by rw [mFs_len]; exact hk)
  rw [mFs_get hk, Bool.or_eq_true, decide_eq_true_iff, decide_eq_true_iff] at this
  exact this
theorem isOf_no {M : nMem} {j n : Nat} (h : allb (mFs M j).length (fun k => decide (100 ≤ (mFs M j).getD k 0) || decide ((mFs M j).getD k 0 / 10 < n)) = false) : ∃ k, k < mA M 28 j ∧ mA M 29 (300 * j + k) < 100 ∧ n ≤ mA M 29 (300 * j + k) / 10 := by
  obtain ⟨k, hk, q⟩ := allb_ex h
  rw [mFs_len] at hk
  rw [mFs_get hk, Bool.or_eq_false_iff, decide_eq_false_iff_not, decide_eq_false_iff_not] at q
  exact ⟨k, hk, by omega, by omega⟩
set_option maxHeartbeats 4000000 in
set_option maxRecDepth 100000 in
theorem xt_X0_right (na : nA) (h : nH) (C : nMem) (B : Nat → nMem) (P : Nat → Nat × Nat) (I : Nat → Nat) (M : nMem) (hR : xRel (C, B, P, I) M) (hI : mInv M) (f : Int32) : nM yX0_right cX0_right 3 (some .int) (nRm 4 0 0) [.ref (na 130), .int f] na (xPut na h (C, B, P, I)) (nQi (xOp na h (o_right f M))) 0 0 := by
  refine nM.ofN RX0 rfl (by decide) (by intro v hv; simp only [List.mem_cons, List.not_mem_nil, or_false] at hv; rcases hv with rfl | rfl <;> rfl) (Nat.le_of_ble_eq_true rfl) (fun K hC hnm => ?_)
  show WN K na (xPut na h (C, B, P, I)) 0 0 (nE K (nQi (xOp na h (o_right f M))) 0 0) 0 [some (.ref (na 130)), some (.int f), none] []
  let Q9 : State → Prop := nE K (nQi (xOp na h (o_right f M))) 0 0
  show WN K na (xPut na h (C, B, P, I)) 0 0 Q9 0 [some (.ref (na 130)), some (.int f), none] []
  have hI0 := hI
  have hR0 := hR
  obtain ⟨hw, gPe, gRi, gCl, gSt, gTh, gFi, gTx, gTr, gTp, gRd, gOr⟩ := hR
  dsimp only at hw gPe gRi gCl gSt gTh gFi gTx gTr gTp gRd gOr
  obtain ⟨⟨h0, b0⟩, ⟨h1, b1a, b1⟩, ⟨h11, b11⟩, ⟨h14, b14⟩, ⟨h15, b15, b15n⟩, ⟨h20, b20⟩, ⟨h26, b26⟩, ⟨h27, b27⟩, ⟨h55, b55⟩, iP, iH, iHi, iHd, iC, iT, iF, iG, iS, iZ⟩ := hI
  refine n_aload_n hC dX0_right_0 rfl ?_
  refine n_iload_n hC dX0_right_1 rfl ?_
  refine n_callV1z hC (ct_X0_isFigure na _ _ _ _ _ (n := mN M 26) (gFi.1.trans h26) (by omega) f) md_X0_isFigure q739 dX0_right_2 rfl xPut_o rfl rfl ⟨rfl, rfl, by decide, by decide⟩ rfl (Nat.le_of_ble_eq_true rfl) (by decide) (by decide) (fun r0 na0 h0 hp0 => ?_)
  obtain ⟨rfl, rfl, rfl⟩ := hp0
  refine n_if_neB hC (tgt := 10) dX0_right_5 (by decide) (fun c_5 => ?_) (fun c_5 => ?_)
  · skip
    refine n_aload_n hC dX0_right_10 rfl ?_
    refine x_getI hC 6 (v := nbo (mB M 11)) q154 dX0_right_11 rfl (by decide) (by decide) (gRi.2.2.1.trans h11) ?_
    refine n_if_neB hC (tgt := 20) dX0_right_14 (by decide) (fun c_14 => ?_) (fun c_14 => ?_)
    · skip
      obtain ⟨j, hj, ej⟩ := (nin_t (by omega)).mp c_5
      subst ej
      have hjc : (nI j).toNatClampNeg = j := nI_clamp (by omega)
      obtain ⟨f1, f2, f3, f4, f5⟩ := xr_fig gFi hj
      have fl9 := (iF j hj).2
      have hn3 := b11 c_14
      refine n_aload_n hC dX0_right_20 rfl ?_
      refine x_getA hC 13 q161 dX0_right_21 rfl (by decide) (by decide) ?_
      refine n_iload_n hC dX0_right_24 rfl ?_
      refine x_fig hC dX0_right_25 rfl (by omega) f1 ?_
      refine n_astore_n hC dX0_right_26 (Nat.le_of_ble_eq_true rfl) ?_
      refine n_aload_n hC dX0_right_27 rfl ?_
      refine n_aload_n hC dX0_right_28 rfl ?_
      refine x_getI hC 2 (v := nI (mN M 1)) q150 dX0_right_29 rfl (by decide) (by decide) (gRi.1.trans h1) ?_
      refine n_callV1z hC (xc_pure (i := (I (100 + j))) (c := (3, 0)) f2 ⟨by decide, by decide⟩ (ct_X12_isOf (bB (I (100 + j))) na _ (B (I (100 + j))) (L := mFs M j) (t := false) (gFi.2 j hj).2.2 (mFs_stp (fun k hk => (iG j k hj hk).2)) (n := mN M 1) (by omega))) md_X12_isOf q537 dX0_right_32 rfl (((xBlk_o (na := na) (h := h) (X := (C, B, P, I)) (i := (I (100 + j))) (c := (3, 0)) f2 ⟨by decide, by decide⟩) 9 (by decide)).trans (if_pos rfl)) rfl rfl ⟨rfl, rfl, by decide, by decide⟩ rfl (Nat.le_of_ble_eq_true rfl) (by decide) (by decide) (fun r1 na1 h1 hp1 => ?_)
      obtain ⟨rfl, rfl, rfl⟩ := hp1
      refine n_if_eqB hC (tgt := 52) dX0_right_35 (by decide) (fun c_35 => ?_) (fun c_35 => ?_)
      · skip
        refine n_iconst hC (v := nI 0) dX0_right_52 (by decide) ?_
        exact n_iret hC dX0_right_53 (by decide) (by decide) (xOp.mk (M2 := M) (by
      obtain ⟨k, hk, q1, q2⟩ := isOf_no c_35
      simp only [o_right, c_5, c_14, hjc, Bool.true_eq_false, if_false]
      rw [mMakes_out (k := k) (by rw [mFs_len]; exact hk) (fun z => nI_nm (by omega) z.1) (by rw [mFs_get hk]; exact (iG j k hj hk).2) (by rw [mFs_get hk]; exact q1) (by rw [mFs_get hk]; exact q2)]
      rfl) hR0)
      · skip
        refine n_aload_n hC dX0_right_38 rfl ?_
        refine n_aload_n hC dX0_right_39 rfl ?_
        refine n_iconst hC (v := (-1)) dX0_right_40 (by decide) ?_
        refine n_iconst hC (v := nI 0) dX0_right_41 (by decide) ?_
        refine n_callV3z hC (ct_X0_gives na _ _ _ _ _ M hR0 hI0 hj c_14 (-1) (wh := 0) (by omega) (fun k hk _ => isOf_ok c_35 hk)) md_X0_gives q751 dX0_right_42 rfl xPut_o rfl rfl ⟨rfl, rfl, by decide, by decide⟩ rfl (Nat.le_of_ble_eq_true rfl) (by decide) (by decide) (fun r2 na2 h2 hp2 => ?_)
        obtain ⟨rfl, rfl, B9, rfl, hR9⟩ := hp2
        refine n_if_eqB hC (tgt := 52) dX0_right_45 (by decide) (fun c_45 => ?_) (fun c_45 => ?_)
        · skip
          refine n_iconst hC (v := nI 0) dX0_right_52 (by decide) ?_
          exact n_iret hC dX0_right_53 (by decide) (by decide) (xOp.mk (M2 := M) (by
      simp only [o_right, c_5, c_14, hjc, Bool.true_eq_false, if_false]
      rw [mMakes_m1 (sv' := nI 0) (by rw [mFs_len]; omega), c_45]
      rfl) hR9)
        · skip
          refine n_iconst hC (v := nI 1) dX0_right_48 (by decide) ?_
          refine n_goto hC (tgt := 53) dX0_right_49 (by decide) ?_
          exact n_iret hC dX0_right_53 (by decide) (by decide) (xOp.mk (M2 := M) (by
      simp only [o_right, c_5, c_14, hjc, Bool.true_eq_false, if_false]
      rw [mMakes_m1 (sv' := nI 0) (by rw [mFs_len]; omega), c_45]
      rfl) hR9)
    · skip
      refine n_bipush hC (v := (-3)) dX0_right_17 (by decide) ?_
      exact n_iret hC dX0_right_19 (by decide) (by decide) (xOp.mk (M2 := M) (by simp [o_right, c_5, c_14]) hR0)
  · skip
    refine n_iconst hC (v := (-1)) dX0_right_8 (by decide) ?_
    exact n_iret hC dX0_right_9 (by decide) (by decide) (xOp.mk (M2 := M) (by simp [o_right, c_5]) hR0)

set_option maxHeartbeats 4000000 in
set_option maxRecDepth 100000 in
theorem xt_X0_slips (na : nA) (h : nH) (C : nMem) (B : Nat → nMem) (P : Nat → Nat × Nat) (I : Nat → Nat) (M : nMem) (hR : xRel (C, B, P, I) M) (hI : mInv M) (f i : Int32) : nM yX0_slips cX0_slips 7 (some .int) (nRm 4 0 0) [.ref (na 130), .int f, .int i] na (xPut na h (C, B, P, I)) (nQi (xOp na h (o_slips f i M))) 0 0 := by
  refine nM.ofN RX0 rfl (by decide) (by intro v hv; simp only [List.mem_cons, List.not_mem_nil, or_false] at hv; rcases hv with rfl | rfl | rfl <;> rfl) (Nat.le_of_ble_eq_true rfl) (fun K hC hnm => ?_)
  show WN K na (xPut na h (C, B, P, I)) 0 0 (nE K (nQi (xOp na h (o_slips f i M))) 0 0) 0 [some (.ref (na 130)), some (.int f), some (.int i), none, none, none, none] []
  let Q9 : State → Prop := nE K (nQi (xOp na h (o_slips f i M))) 0 0
  show WN K na (xPut na h (C, B, P, I)) 0 0 Q9 0 [some (.ref (na 130)), some (.int f), some (.int i), none, none, none, none] []
  have hI0 := hI
  have hR0 := hR
  obtain ⟨hw, gPe, gRi, gCl, gSt, gTh, gFi, gTx, gTr, gTp, gRd, gOr⟩ := hR
  dsimp only at hw gPe gRi gCl gSt gTh gFi gTx gTr gTp gRd gOr
  obtain ⟨⟨h0, b0⟩, ⟨h1, b1a, b1⟩, ⟨h11, b11⟩, ⟨h14, b14⟩, ⟨h15, b15, b15n⟩, ⟨h20, b20⟩, ⟨h26, b26⟩, ⟨h27, b27⟩, ⟨h55, b55⟩, iP, iH, iHi, iHd, iC, iT, iF, iG, iS, iZ⟩ := hI
  refine n_aload_n hC dX0_slips_0 rfl ?_
  refine n_iload_n hC dX0_slips_1 rfl ?_
  refine n_callV1z hC (ct_X0_isFigure na _ _ _ _ _ (n := mN M 26) (gFi.1.trans h26) (by omega) f) md_X0_isFigure q739 dX0_slips_2 rfl xPut_o rfl rfl ⟨rfl, rfl, by decide, by decide⟩ rfl (Nat.le_of_ble_eq_true rfl) (by decide) (by decide) (fun r0 na0 h0 hp0 => ?_)
  obtain ⟨rfl, rfl, rfl⟩ := hp0
  refine n_if_eqB hC (tgt := 13) dX0_slips_5 (by decide) (fun c_5 => ?_) (fun c_5 => ?_)
  · skip
    refine n_iconst hC (v := (-1)) dX0_slips_13 (by decide) ?_
    exact n_iret hC dX0_slips_14 (by decide) (by decide) (xOp.mk (M2 := M) (by simp [o_slips, c_5]) hR0)
  · skip
    refine n_iload_n hC dX0_slips_8 rfl ?_
    refine n_iconst hC (v := (-1)) dX0_slips_9 (by decide) ?_
    refine n_icmp_ge hC (tgt := 15) dX0_slips_10 (by decide) (fun c_10 => ?_) (fun c_10 => ?_)
    · skip
      have hi0 : ¬ i < -1 := Int32.not_lt.mpr c_10
      refine n_aload_n hC dX0_slips_15 rfl ?_
      refine x_getI hC 6 (v := nbo (mB M 11)) q154 dX0_slips_16 rfl (by decide) (by decide) (gRi.2.2.1.trans h11) ?_
      refine n_if_neB hC (tgt := 25) dX0_slips_19 (by decide) (fun c_19 => ?_) (fun c_19 => ?_)
      · skip
        obtain ⟨j, hj, ej⟩ := (nin_t (by omega)).mp c_5
        subst ej
        have hjc : (nI j).toNatClampNeg = j := nI_clamp (by omega)
        obtain ⟨f1, f2, f3, f4, f5⟩ := xr_fig gFi hj
        have fl9 := (iF j hj).2
        have hn3 := b11 c_19
        refine n_aload_n hC dX0_slips_25 rfl ?_
        refine x_getA hC 13 q161 dX0_slips_26 rfl (by decide) (by decide) ?_
        refine n_iload_n hC dX0_slips_29 rfl ?_
        refine x_fig hC dX0_slips_30 rfl (by omega) f1 ?_
        refine n_astore_n hC dX0_slips_31 (Nat.le_of_ble_eq_true rfl) ?_
        refine n_iconst hC (v := nI 0) dX0_slips_32 (by decide) ?_
        refine n_istore hC dX0_slips_33 (Nat.le_of_ble_eq_true rfl) ?_
        refine n_iconst hC (v := nI 0) dX0_slips_35 (by decide) ?_
        refine n_istore hC dX0_slips_36 (Nat.le_of_ble_eq_true rfl) ?_
        have lp38 : ∀ d9 : Nat, ∀ (k : Nat) (n9 : Nat) (B2 : Nat → nMem), mA M 28 j - k = d9 → (k ≤ mA M 28 j) → (xRel (C, B2, P, I) M) → (slw (fun u => mMakes M (mFs M j) (nI (u / 3)) (nI (u % 3))) i (3 * mA M 28 j - 3 * k) (3 * k) n9 = slw (fun u => mMakes M (mFs M j) (nI (u / 3)) (nI (u % 3))) i (3 * mA M 28 j) 0 0) → WN K na (xPut na h (C, B2, P, I)) 0 0 Q9 38 [some (.ref (na 130)), some (.int (nI j)), some (.int i), some (.ref (na (bB (I (100 + j)) + 9))), some (.int (nI n9)), some (.int (nI k)), none] [] := by
          intro d9
          induction d9 using Nat.strongRecOn with
          | _ d9 ih38 =>
            intro k n9 B2 hd38 hk hR2 hs9
            obtain ⟨-, -, -, -, -, -, u7, -⟩ := id hR2
            dsimp only at u7
            obtain ⟨v1, v2, v3, -, v5⟩ := xr_fig u7 hj
            refine n_iload hC dX0_slips_38 rfl ?_
            refine n_aload_n hC dX0_slips_40 rfl ?_
            refine o_getIN hC gW_X12 (xBlk_o (na := na) (h := h) (X := (C, B2, P, I)) (i := (I (100 + j))) (c := (3, 0)) v2 ⟨by decide, by decide⟩) (host := "MaypoleGreen") 1 (v := nI (mA M 28 j)) (by decide) dX0_slips_41 rfl (by decide) (by decide) v3 ?_
            refine n_icmp_geN hC (tgt := 120) dX0_slips_44 (by decide) (by omega) (by omega) (fun c_44 => ?_) (fun c_44 => ?_)
            · skip
              refine n_iload_n hC dX0_slips_120 rfl ?_
              refine n_iconst hC (v := (-1)) dX0_slips_121 (by decide) ?_
              refine n_icmp_ne hC (tgt := 130) dX0_slips_122 (by decide) (fun c_122 => ?_) (fun c_122 => ?_)
              · skip
                refine n_iconst hC (v := (-1)) dX0_slips_130 (by decide) ?_
                exact n_iret hC dX0_slips_131 (by decide) (by decide) (xOp.mk (M2 := M) (by
      simp only [o_slips, c_5, hi0, c_19, hjc, Bool.true_eq_false, if_false, or_false, or_self]
      rw [← hs9, show 3 * mA M 28 j - 3 * k = 0 by omega]
      show (if i = -1 then nI n9 else -1, M) = _
      rw [if_neg c_122]) hR2)
              · skip
                refine n_iload hC dX0_slips_125 rfl ?_
                refine n_goto hC (tgt := 131) dX0_slips_127 (by decide) ?_
                exact n_iret hC dX0_slips_131 (by decide) (by decide) (xOp.mk (M2 := M) (by
      simp only [o_slips, c_5, hi0, c_19, hjc, Bool.true_eq_false, if_false, or_false, or_self]
      rw [← hs9, show 3 * mA M 28 j - 3 * k = 0 by omega]
      show (if i = -1 then nI n9 else -1, M) = _
      rw [if_pos c_122]) hR2)
            · skip
              refine n_iconst hC (v := nI 0) dX0_slips_47 (by decide) ?_
              refine n_istore hC dX0_slips_48 (Nat.le_of_ble_eq_true rfl) ?_
              have lp50 : ∀ d9 : Nat, ∀ (hx : Nat) (n9 : Nat) (B2 : Nat → nMem), 3 - hx = d9 → (hx ≤ 3) → (xRel (C, B2, P, I) M) → (slw (fun u => mMakes M (mFs M j) (nI (u / 3)) (nI (u % 3))) i (3 * mA M 28 j - (3 * k + hx)) (3 * k + hx) n9 = slw (fun u => mMakes M (mFs M j) (nI (u / 3)) (nI (u % 3))) i (3 * mA M 28 j) 0 0) → WN K na (xPut na h (C, B2, P, I)) 0 0 Q9 50 [some (.ref (na 130)), some (.int (nI j)), some (.int i), some (.ref (na (bB (I (100 + j)) + 9))), some (.int (nI n9)), some (.int (nI k)), some (.int (nI hx))] [] := by
                intro d9
                induction d9 using Nat.strongRecOn with
                | _ d9 ih50 =>
                  intro hx n9 B2 hd50 hx9 hR2 hi9
                  obtain ⟨-, -, -, -, -, -, u7, -⟩ := id hR2
                  dsimp only at u7
                  obtain ⟨v1, v2, v3, -, v5⟩ := xr_fig u7 hj
                  refine n_iload hC dX0_slips_50 rfl ?_
                  refine n_iconst hC (v := nI 3) dX0_slips_52 (by decide) ?_
                  refine n_icmp_geN hC (tgt := 114) dX0_slips_53 (by decide) (by omega) (by omega) (fun c_53 => ?_) (fun c_53 => ?_)
                  · skip
                    refine n_iincN hC dX0_slips_114 (j := 1) (c := k + 1) rfl (by decide) rfl ?_
                    refine n_goto hC (tgt := 38) dX0_slips_117 (by decide) ?_
                    exact WN.forget (L' := [some (.ref (na 130)), some (.int (nI j)), some (.int i), some (.ref (na (bB (I (100 + j)) + 9))), some (.int (nI n9)), some (.int (nI (k + 1))), none]) (⟨Or.inr rfl, Or.inr rfl, Or.inr rfl, Or.inr rfl, Or.inr rfl, Or.inr rfl, Or.inl rfl, trivial⟩) (ih38 _ (by omega) (k + 1) n9 B2 rfl (by omega) hR2 (by rw [show hx = 3 from (by omega)] at hi9; exact hi9))
                  · skip
                    refine n_aload_n hC dX0_slips_56 rfl ?_
                    refine n_aload_n hC dX0_slips_57 rfl ?_
                    refine n_iload hC dX0_slips_58 rfl ?_
                    refine n_if_neN hC (tgt := 68) dX0_slips_60 (by decide) (by omega) (fun c_60 => ?_) (fun c_60 => ?_)
                    · skip
                      refine n_iconst hC (v := (-1)) dX0_slips_68 (by decide) ?_
                      refine n_callV2z hC (ct_X0_isOfBut na _ _ _ _ _ M (gRi.1.trans h1) b1 (j := j) v2 v3 v5 fl9 (fun k hk => (iG j k hj hk).2) (-1)) md_X0_isOfBut q764 dX0_slips_69 rfl xPut_o rfl rfl ⟨rfl, rfl, by decide, by decide⟩ rfl (Nat.le_of_ble_eq_true rfl) (by decide) (by decide) (fun r1 na1 h1 hp1 => ?_)
                      obtain ⟨rfl, rfl, rfl⟩ := hp1
                      refine n_if_eqB hC (tgt := 108) dX0_slips_72 (by decide) (fun c_72 => ?_) (fun c_72 => ?_)
                      · skip
                        obtain ⟨q, hq, w⟩ := allb_ex c_72
                        rw [Bool.or_eq_false_iff, Bool.or_eq_false_iff, decide_eq_false_iff_not, decide_eq_false_iff_not, decide_eq_false_iff_not] at w
                        have hout : mMakes M (mFs M j) (nI k) (nI hx) = false := mMakes_out (k := q) (by rw [mFs_len]; exact hq) (fun z => c_60 (nI_inj (by omega) (by decide) z.2)) (by rw [mFs_get hq]; exact (iG j q hj hq).2) (by rw [mFs_get hq]; omega) (by rw [mFs_get hq]; omega)
                        refine n_iincN hC dX0_slips_108 (j := 1) (c := hx + 1) rfl (by decide) rfl ?_
                        refine n_goto hC (tgt := 50) dX0_slips_111 (by decide) ?_
                        exact WN.forget (L' := [some (.ref (na 130)), some (.int (nI j)), some (.int i), some (.ref (na (bB (I (100 + j)) + 9))), some (.int (nI n9)), some (.int (nI k)), some (.int (nI (hx + 1)))]) (⟨Or.inr rfl, Or.inr rfl, Or.inr rfl, Or.inr rfl, Or.inr rfl, Or.inr rfl, Or.inr rfl, trivial⟩) (ih50 _ (by omega) (hx + 1) n9 B2 rfl (by omega) hR2 (by rw [← hi9, show 3 * mA M 28 j - (3 * k + hx) = (3 * mA M 28 j - (3 * k + (hx + 1))) + 1 by omega]; show _ = (if mMakes M (mFs M j) (nI ((3 * k + hx) / 3)) (nI ((3 * k + hx) % 3)) = true then _ else _); rw [show (3 * k + hx) / 3 = k by omega, show (3 * k + hx) % 3 = hx by omega, if_neg (by rw [hout]; decide)]; rfl))
                      · skip
                        have hok : ∀ q, q < mA M 28 j → ¬ (nI q = nI k ∧ hx = 0) → 100 ≤ mA M 29 (300 * j + q) ∨ mA M 29 (300 * j + q) / 10 < mN M 1 := fun q hq hne => by
                          have w := allb_iff.mp c_72 q hq
                          rw [Bool.or_eq_true, Bool.or_eq_true, decide_eq_true_iff, decide_eq_true_iff, decide_eq_true_iff] at w
                          rcases w with w | w
                          · exact absurd w (nI_nm (by omega))
                          · exact w
                        refine n_aload_n hC dX0_slips_75 rfl ?_
                        refine n_aload_n hC dX0_slips_76 rfl ?_
                        refine n_iload hC dX0_slips_77 rfl ?_
                        refine n_iload hC dX0_slips_79 rfl ?_
                        refine n_callV3z hC (ct_X0_gives na _ _ _ _ _ M hR2 hI0 hj c_19 (nI k) (wh := hx) (by omega) (hok)) md_X0_gives q751 dX0_slips_81 rfl xPut_o rfl rfl ⟨rfl, rfl, by decide, by decide⟩ rfl (Nat.le_of_ble_eq_true rfl) (by decide) (by decide) (fun r2 na2 h2 hp2 => ?_)
                        obtain ⟨rfl, rfl, B9, rfl, hR9⟩ := hp2
                        refine n_if_neB hC (tgt := 90) dX0_slips_84 (by decide) (fun c_84 => ?_) (fun c_84 => ?_)
                        · skip
                          refine n_iload hC dX0_slips_90 rfl ?_
                          refine n_iload_n hC dX0_slips_92 rfl ?_
                          refine n_icmp_ne hC (tgt := 105) dX0_slips_93 (by decide) (fun c_93 => ?_) (fun c_93 => ?_)
                          · skip
                            refine n_iincN hC dX0_slips_105 (j := 1) (c := n9 + 1) rfl (by decide) rfl ?_
                            refine n_iincN hC dX0_slips_108 (j := 1) (c := hx + 1) rfl (by decide) rfl ?_
                            refine n_goto hC (tgt := 50) dX0_slips_111 (by decide) ?_
                            exact WN.forget (L' := [some (.ref (na 130)), some (.int (nI j)), some (.int i), some (.ref (na (bB (I (100 + j)) + 9))), some (.int (nI (n9 + 1))), some (.int (nI k)), some (.int (nI (hx + 1)))]) (⟨Or.inr rfl, Or.inr rfl, Or.inr rfl, Or.inr rfl, Or.inr rfl, Or.inr rfl, Or.inr rfl, trivial⟩) (ih50 _ (by omega) (hx + 1) (n9 + 1) B9 rfl (by omega) hR9 (by rw [← hi9, show 3 * mA M 28 j - (3 * k + hx) = (3 * mA M 28 j - (3 * k + (hx + 1))) + 1 by omega]; show _ = (if mMakes M (mFs M j) (nI ((3 * k + hx) / 3)) (nI ((3 * k + hx) % 3)) = true then _ else _); rw [show (3 * k + hx) / 3 = k by omega, show (3 * k + hx) % 3 = hx by omega, if_pos c_84, if_neg c_93]; rfl))
                          · skip
                            refine n_bipush hC (v := nI 10) dX0_slips_96 (by decide) ?_
                            refine n_iload hC dX0_slips_98 rfl ?_
                            refine n_imulN hC dX0_slips_100 rfl ?_
                            refine n_iload hC dX0_slips_101 rfl ?_
                            refine n_iaddN hC dX0_slips_103 rfl ?_
                            exact n_iret hC dX0_slips_104 (by decide) (by decide) (xOp.mk (M2 := M) (by
      simp only [o_slips, c_5, hi0, c_19, hjc, Bool.true_eq_false, if_false, or_false, or_self]
      rw [← hi9, show 3 * mA M 28 j - (3 * k + hx) = (3 * mA M 28 j - (3 * k + (hx + 1))) + 1 by omega]
      show (if mMakes M (mFs M j) (nI ((3 * k + hx) / 3)) (nI ((3 * k + hx) % 3)) = true then (if nI n9 = i then nI (10 * ((3 * k + hx) / 3) + (3 * k + hx) % 3) else _) else _, M) = _
      rw [show (3 * k + hx) / 3 = k by omega, show (3 * k + hx) % 3 = hx by omega, if_pos c_84, if_pos c_93]) hR9)
                        · skip
                          refine n_goto hC (tgt := 108) dX0_slips_87 (by decide) ?_
                          refine n_iincN hC dX0_slips_108 (j := 1) (c := hx + 1) rfl (by decide) rfl ?_
                          refine n_goto hC (tgt := 50) dX0_slips_111 (by decide) ?_
                          exact WN.forget (L' := [some (.ref (na 130)), some (.int (nI j)), some (.int i), some (.ref (na (bB (I (100 + j)) + 9))), some (.int (nI n9)), some (.int (nI k)), some (.int (nI (hx + 1)))]) (⟨Or.inr rfl, Or.inr rfl, Or.inr rfl, Or.inr rfl, Or.inr rfl, Or.inr rfl, Or.inr rfl, trivial⟩) (ih50 _ (by omega) (hx + 1) n9 B9 rfl (by omega) hR9 (by rw [← hi9, show 3 * mA M 28 j - (3 * k + hx) = (3 * mA M 28 j - (3 * k + (hx + 1))) + 1 by omega]; show _ = (if mMakes M (mFs M j) (nI ((3 * k + hx) / 3)) (nI ((3 * k + hx) % 3)) = true then _ else _); rw [show (3 * k + hx) / 3 = k by omega, show (3 * k + hx) % 3 = hx by omega, if_neg (by rw [c_84]; decide)]; rfl))
                    · skip
                      refine n_iload hC dX0_slips_63 rfl ?_
                      refine n_goto hC (tgt := 69) dX0_slips_65 (by decide) ?_
                      refine n_callV2z hC (ct_X0_isOfBut na _ _ _ _ _ M (gRi.1.trans h1) b1 (j := j) v2 v3 v5 fl9 (fun k hk => (iG j k hj hk).2) (nI k)) md_X0_isOfBut q764 dX0_slips_69 rfl xPut_o rfl rfl ⟨rfl, rfl, by decide, by decide⟩ rfl (Nat.le_of_ble_eq_true rfl) (by decide) (by decide) (fun r3 na3 h3 hp3 => ?_)
                      obtain ⟨rfl, rfl, rfl⟩ := hp3
                      refine n_if_eqB hC (tgt := 108) dX0_slips_72 (by decide) (fun c_72 => ?_) (fun c_72 => ?_)
                      · skip
                        obtain ⟨q, hq, w⟩ := allb_ex c_72
                        rw [Bool.or_eq_false_iff, Bool.or_eq_false_iff, decide_eq_false_iff_not, decide_eq_false_iff_not, decide_eq_false_iff_not] at w
                        have hout : mMakes M (mFs M j) (nI k) (nI hx) = false := mMakes_out (k := q) (by rw [mFs_len]; exact hq) (fun z => w.1 z.1) (by rw [mFs_get hq]; exact (iG j q hj hq).2) (by rw [mFs_get hq]; omega) (by rw [mFs_get hq]; omega)
                        refine n_iincN hC dX0_slips_108 (j := 1) (c := hx + 1) rfl (by decide) rfl ?_
                        refine n_goto hC (tgt := 50) dX0_slips_111 (by decide) ?_
                        exact WN.forget (L' := [some (.ref (na 130)), some (.int (nI j)), some (.int i), some (.ref (na (bB (I (100 + j)) + 9))), some (.int (nI n9)), some (.int (nI k)), some (.int (nI (hx + 1)))]) (⟨Or.inr rfl, Or.inr rfl, Or.inr rfl, Or.inr rfl, Or.inr rfl, Or.inr rfl, Or.inr rfl, trivial⟩) (ih50 _ (by omega) (hx + 1) n9 B2 rfl (by omega) hR2 (by rw [← hi9, show 3 * mA M 28 j - (3 * k + hx) = (3 * mA M 28 j - (3 * k + (hx + 1))) + 1 by omega]; show _ = (if mMakes M (mFs M j) (nI ((3 * k + hx) / 3)) (nI ((3 * k + hx) % 3)) = true then _ else _); rw [show (3 * k + hx) / 3 = k by omega, show (3 * k + hx) % 3 = hx by omega, if_neg (by rw [hout]; decide)]; rfl))
                      · skip
                        have hok : ∀ q, q < mA M 28 j → ¬ (nI q = nI k ∧ hx = 0) → 100 ≤ mA M 29 (300 * j + q) ∨ mA M 29 (300 * j + q) / 10 < mN M 1 := fun q hq hne => by
                          have w := allb_iff.mp c_72 q hq
                          rw [Bool.or_eq_true, Bool.or_eq_true, decide_eq_true_iff, decide_eq_true_iff, decide_eq_true_iff] at w
                          rcases w with w | w
                          · exact absurd w (fun z => hne ⟨z, c_60⟩)
                          · exact w
                        refine n_aload_n hC dX0_slips_75 rfl ?_
                        refine n_aload_n hC dX0_slips_76 rfl ?_
                        refine n_iload hC dX0_slips_77 rfl ?_
                        refine n_iload hC dX0_slips_79 rfl ?_
                        refine n_callV3z hC (ct_X0_gives na _ _ _ _ _ M hR2 hI0 hj c_19 (nI k) (wh := hx) (by omega) (hok)) md_X0_gives q751 dX0_slips_81 rfl xPut_o rfl rfl ⟨rfl, rfl, by decide, by decide⟩ rfl (Nat.le_of_ble_eq_true rfl) (by decide) (by decide) (fun r4 na4 h4 hp4 => ?_)
                        obtain ⟨rfl, rfl, B9, rfl, hR9⟩ := hp4
                        refine n_if_neB hC (tgt := 90) dX0_slips_84 (by decide) (fun c_84 => ?_) (fun c_84 => ?_)
                        · skip
                          refine n_iload hC dX0_slips_90 rfl ?_
                          refine n_iload_n hC dX0_slips_92 rfl ?_
                          refine n_icmp_ne hC (tgt := 105) dX0_slips_93 (by decide) (fun c_93 => ?_) (fun c_93 => ?_)
                          · skip
                            refine n_iincN hC dX0_slips_105 (j := 1) (c := n9 + 1) rfl (by decide) rfl ?_
                            refine n_iincN hC dX0_slips_108 (j := 1) (c := hx + 1) rfl (by decide) rfl ?_
                            refine n_goto hC (tgt := 50) dX0_slips_111 (by decide) ?_
                            exact WN.forget (L' := [some (.ref (na 130)), some (.int (nI j)), some (.int i), some (.ref (na (bB (I (100 + j)) + 9))), some (.int (nI (n9 + 1))), some (.int (nI k)), some (.int (nI (hx + 1)))]) (⟨Or.inr rfl, Or.inr rfl, Or.inr rfl, Or.inr rfl, Or.inr rfl, Or.inr rfl, Or.inr rfl, trivial⟩) (ih50 _ (by omega) (hx + 1) (n9 + 1) B9 rfl (by omega) hR9 (by rw [← hi9, show 3 * mA M 28 j - (3 * k + hx) = (3 * mA M 28 j - (3 * k + (hx + 1))) + 1 by omega]; show _ = (if mMakes M (mFs M j) (nI ((3 * k + hx) / 3)) (nI ((3 * k + hx) % 3)) = true then _ else _); rw [show (3 * k + hx) / 3 = k by omega, show (3 * k + hx) % 3 = hx by omega, if_pos c_84, if_neg c_93]; rfl))
                          · skip
                            refine n_bipush hC (v := nI 10) dX0_slips_96 (by decide) ?_
                            refine n_iload hC dX0_slips_98 rfl ?_
                            refine n_imulN hC dX0_slips_100 rfl ?_
                            refine n_iload hC dX0_slips_101 rfl ?_
                            refine n_iaddN hC dX0_slips_103 rfl ?_
                            exact n_iret hC dX0_slips_104 (by decide) (by decide) (xOp.mk (M2 := M) (by
      simp only [o_slips, c_5, hi0, c_19, hjc, Bool.true_eq_false, if_false, or_false, or_self]
      rw [← hi9, show 3 * mA M 28 j - (3 * k + hx) = (3 * mA M 28 j - (3 * k + (hx + 1))) + 1 by omega]
      show (if mMakes M (mFs M j) (nI ((3 * k + hx) / 3)) (nI ((3 * k + hx) % 3)) = true then (if nI n9 = i then nI (10 * ((3 * k + hx) / 3) + (3 * k + hx) % 3) else _) else _, M) = _
      rw [show (3 * k + hx) / 3 = k by omega, show (3 * k + hx) % 3 = hx by omega, if_pos c_84, if_pos c_93]) hR9)
                        · skip
                          refine n_goto hC (tgt := 108) dX0_slips_87 (by decide) ?_
                          refine n_iincN hC dX0_slips_108 (j := 1) (c := hx + 1) rfl (by decide) rfl ?_
                          refine n_goto hC (tgt := 50) dX0_slips_111 (by decide) ?_
                          exact WN.forget (L' := [some (.ref (na 130)), some (.int (nI j)), some (.int i), some (.ref (na (bB (I (100 + j)) + 9))), some (.int (nI n9)), some (.int (nI k)), some (.int (nI (hx + 1)))]) (⟨Or.inr rfl, Or.inr rfl, Or.inr rfl, Or.inr rfl, Or.inr rfl, Or.inr rfl, Or.inr rfl, trivial⟩) (ih50 _ (by omega) (hx + 1) n9 B9 rfl (by omega) hR9 (by rw [← hi9, show 3 * mA M 28 j - (3 * k + hx) = (3 * mA M 28 j - (3 * k + (hx + 1))) + 1 by omega]; show _ = (if mMakes M (mFs M j) (nI ((3 * k + hx) / 3)) (nI ((3 * k + hx) % 3)) = true then _ else _); rw [show (3 * k + hx) / 3 = k by omega, show (3 * k + hx) % 3 = hx by omega, if_neg (by rw [c_84]; decide)]; rfl))
              exact WN.forget (L' := [some (.ref (na 130)), some (.int (nI j)), some (.int i), some (.ref (na (bB (I (100 + j)) + 9))), some (.int (nI n9)), some (.int (nI k)), some (.int (nI 0))]) (⟨Or.inr rfl, Or.inr rfl, Or.inr rfl, Or.inr rfl, Or.inr rfl, Or.inr rfl, Or.inr rfl, trivial⟩) (lp50 _ 0 n9 B2 rfl (by omega) hR2 hs9)
        exact WN.forget (L' := [some (.ref (na 130)), some (.int (nI j)), some (.int i), some (.ref (na (bB (I (100 + j)) + 9))), some (.int (nI 0)), some (.int (nI 0)), none]) (⟨Or.inr rfl, Or.inr rfl, Or.inr rfl, Or.inr rfl, Or.inr rfl, Or.inr rfl, Or.inl rfl, trivial⟩) (lp38 _ 0 0 B rfl (by omega) hR0 rfl)
      · skip
        refine n_bipush hC (v := (-3)) dX0_slips_22 (by decide) ?_
        exact n_iret hC dX0_slips_24 (by decide) (by decide) (xOp.mk (M2 := M) (by simp [o_slips, c_5, hi0, c_19]) hR0)
    · skip
      refine n_iconst hC (v := (-1)) dX0_slips_13 (by decide) ?_
      exact n_iret hC dX0_slips_14 (by decide) (by decide) (xOp.mk (M2 := M) (by simp [o_slips, c_10]) hR0)

