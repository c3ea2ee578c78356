/-! ===== THE REFERENCE's methods: pictures, colours, feed ===== -/
set_option maxRecDepth 100000
def o_picture (r p c : Int32) (M : nMem) : Int32 × nMem :=
  if nrg r (nI 0) (nI 99) = false then (-1, M) else if nrg p (nI 0) (nI 8) = false then (-1, M) else if nrg c (nI 0) (nI 7) = false then (-2, M) else if mN M 20 = 40 then (-4, M)
  else (nI (mN M 20 + 1), mset (mset (mset (mset M 21 (upd (M 21) (mN M 20) r)) 22 (upd (M 22) (mN M 20) p)) 23 (upd (M 23) (mN M 20) c)) 20 (fun _ => nI (mN M 20 + 1)))
set_option maxHeartbeats 4000000 in
set_option maxRecDepth 100000 in
theorem mt_X3_picture (na : nA) (h : nH) (M : nMem) (hI : mInv M) (r p c : Int32) : nM yX3_picture cX3_picture 4 (some .int) (nRm 3 0 0) [.ref (na 61), .int r, .int p, .int c] na (mPut na h M) (nQi (mOp na h (o_picture r p c M))) 0 0 := by
  refine nM.ofN RX3 rfl (by decide) (by intro v hv; simp only [List.mem_cons, List.not_mem_nil, or_false] at hv; rcases hv with rfl | rfl | rfl | rfl <;> rfl) (Nat.le_of_ble_eq_true rfl) (fun K hC hnm => ?_)
  show WN K na (mPut na h M) 0 0 (nE K (nQi (mOp na h (o_picture r p c M))) 0 0) 0 [some (.ref (na 61)), some (.int r), some (.int p), some (.int c)] []
  let Q9 : State → Prop := nE K (nQi (mOp na h (o_picture r p c M))) 0 0
  show WN K na (mPut na h M) 0 0 Q9 0 [some (.ref (na 61)), some (.int r), some (.int p), some (.int c)] []
  obtain ⟨⟨h0, b0⟩, ⟨h1, b1a, b1⟩, ⟨h11, b11⟩, ⟨h14, b14⟩, ⟨h15, b15, b15n⟩, ⟨h20, b20⟩, ⟨h26, b26⟩, ⟨h27, b27⟩, ⟨h55, b55⟩, iP, iH, iHi, iHd, iC, iT, iF, iG, iS, iZ⟩ := hI
  refine n_aload_n hC dX3_picture_0 rfl ?_
  refine n_iload_n hC dX3_picture_1 rfl ?_
  refine n_iconst hC (v := nI 0) dX3_picture_2 (by decide) ?_
  refine n_bipush hC (v := nI 99) dX3_picture_3 (by decide) ?_
  refine n_callV3z hC (mt_X3_in na h (M) (r) (nI 0) (nI 99)) md_X3_in q1293 dX3_picture_5 rfl (mPut_o _ _ _) rfl rfl ⟨rfl, rfl, by decide, by decide⟩ rfl (Nat.le_of_ble_eq_true rfl) (by decide) (by decide) (fun r0 na0 h0 hp0 => ?_)
  obtain ⟨rfl, rfl, rfl⟩ := hp0
  refine n_if_eqB hC (tgt := 22) dX3_picture_8 (by decide) (fun c_8 => ?_) (fun c_8 => ?_)
  · skip
    refine n_iconst hC (v := (-1)) dX3_picture_22 (by decide) ?_
    exact n_iret hC dX3_picture_23 (by decide) (by decide) (⟨rfl, by simp [o_picture, c_8], M, rfl, mEq.of (by simp [o_picture, c_8])⟩)
  · skip
    refine n_aload_n hC dX3_picture_11 rfl ?_
    refine n_iload_n hC dX3_picture_12 rfl ?_
    refine n_iconst hC (v := nI 0) dX3_picture_13 (by decide) ?_
    refine n_bipush hC (v := nI 8) dX3_picture_14 (by decide) ?_
    refine n_callV3z hC (mt_X3_in na h (M) (p) (nI 0) (nI 8)) md_X3_in q1293 dX3_picture_16 rfl (mPut_o _ _ _) rfl rfl ⟨rfl, rfl, by decide, by decide⟩ rfl (Nat.le_of_ble_eq_true rfl) (by decide) (by decide) (fun r1 na1 h1 hp1 => ?_)
    obtain ⟨rfl, rfl, rfl⟩ := hp1
    refine n_if_neB hC (tgt := 24) dX3_picture_19 (by decide) (fun c_19 => ?_) (fun c_19 => ?_)
    · skip
      refine n_aload_n hC dX3_picture_24 rfl ?_
      refine n_iload_n hC dX3_picture_25 rfl ?_
      refine n_iconst hC (v := nI 0) dX3_picture_26 (by decide) ?_
      refine n_bipush hC (v := nI 7) dX3_picture_27 (by decide) ?_
      refine n_callV3z hC (mt_X3_in na h (M) (c) (nI 0) (nI 7)) md_X3_in q1293 dX3_picture_29 rfl (mPut_o _ _ _) rfl rfl ⟨rfl, rfl, by decide, by decide⟩ rfl (Nat.le_of_ble_eq_true rfl) (by decide) (by decide) (fun r2 na2 h2 hp2 => ?_)
      obtain ⟨rfl, rfl, rfl⟩ := hp2
      refine n_if_neB hC (tgt := 38) dX3_picture_32 (by decide) (fun c_32 => ?_) (fun c_32 => ?_)
      · skip
        refine n_aload_n hC dX3_picture_38 rfl ?_
        refine m_getI hC 20 (v := nI (mN M 20)) dX3_picture_39 rfl rfl (by decide) h20 ?_
        refine n_bipush hC (v := nI 40) dX3_picture_42 (by decide) ?_
        refine n_icmp_neN hC (tgt := 50) dX3_picture_44 (by decide) (by omega) (by omega) (fun c_44 => ?_) (fun c_44 => ?_)
        · skip
          refine n_aload_n hC dX3_picture_50 rfl ?_
          refine m_getA hC 21 dX3_picture_51 rfl rfl ?_
          refine n_aload_n hC dX3_picture_54 rfl ?_
          refine m_getI hC 20 (v := nI (mN M 20)) dX3_picture_55 rfl rfl (by decide) h20 ?_
          refine n_iload_n hC dX3_picture_58 rfl ?_
          refine m_astN hC 21 (M2 := mset M 21 (upd (M 21) (mN M 20) r)) dX3_picture_59 rfl rfl (by have h9 : mLen 21 = 40 := rfl; omega) rfl ?_
          refine n_aload_n hC dX3_picture_60 rfl ?_
          refine m_getA hC 22 dX3_picture_61 rfl rfl ?_
          refine n_aload_n hC dX3_picture_64 rfl ?_
          refine m_getI hC 20 (v := nI (mN M 20)) dX3_picture_65 rfl rfl (by decide) h20 ?_
          refine n_iload_n hC dX3_picture_68 rfl ?_
          refine m_astN hC 22 (M2 := mset (mset M 21 (upd (M 21) (mN M 20) r)) 22 (upd (M 22) (mN M 20) p)) dX3_picture_69 rfl rfl (by have h9 : mLen 22 = 40 := rfl; omega) rfl ?_
          refine n_aload_n hC dX3_picture_70 rfl ?_
          refine m_getA hC 23 dX3_picture_71 rfl rfl ?_
          refine n_aload_n hC dX3_picture_74 rfl ?_
          refine m_getI hC 20 (v := nI (mN M 20)) dX3_picture_75 rfl rfl (by decide) h20 ?_
          refine n_iload_n hC dX3_picture_78 rfl ?_
          refine m_astN hC 23 (M2 := mset (mset (mset M 21 (upd (M 21) (mN M 20) r)) 22 (upd (M 22) (mN M 20) p)) 23 (upd (M 23) (mN M 20) c)) dX3_picture_79 rfl rfl (by have h9 : mLen 23 = 40 := rfl; omega) rfl ?_
          refine n_aload_n hC dX3_picture_80 rfl ?_
          refine n_dup hC dX3_picture_81 rfl ?_
          refine m_getI hC 20 (v := nI (mN M 20)) dX3_picture_82 rfl rfl (by decide) h20 ?_
          refine n_iconst hC (v := nI 1) dX3_picture_85 (by decide) ?_
          refine n_iaddN hC dX3_picture_86 rfl ?_
          refine m_putI hC 20 (M2 := mset (mset (mset (mset M 21 (upd (M 21) (mN M 20) r)) 22 (upd (M 22) (mN M 20) p)) 23 (upd (M 23) (mN M 20) c)) 20 (fun _ => nI (mN M 20 + 1))) dX3_picture_87 rfl rfl (by decide) rfl rfl rfl rfl rfl ?_
          refine n_aload_n hC dX3_picture_90 rfl ?_
          refine m_getI hC 20 (v := nI (mN M 20 + 1)) dX3_picture_91 rfl rfl (by decide) rfl ?_
          exact n_iret hC dX3_picture_94 (by decide) (by decide) (⟨rfl, by simp [o_picture, c_8, c_19, c_32, c_44], mset (mset (mset (mset M 21 (upd (M 21) (mN M 20) r)) 22 (upd (M 22) (mN M 20) p)) 23 (upd (M 23) (mN M 20) c)) 20 (fun _ => nI (mN M 20 + 1)), rfl, mEq.of (by simp [o_picture, c_8, c_19, c_32, c_44])⟩)
        · skip
          refine n_bipush hC (v := (-4)) dX3_picture_47 (by decide) ?_
          exact n_iret hC dX3_picture_49 (by decide) (by decide) (⟨rfl, by simp only [o_picture, c_8, c_19, c_32, Bool.true_eq_false, if_false]; simp [c_44], M, rfl, mEq.of (by simp only [o_picture, c_8, c_19, c_32, Bool.true_eq_false, if_false]; simp [c_44])⟩)
      · skip
        refine n_bipush hC (v := (-2)) dX3_picture_35 (by decide) ?_
        exact n_iret hC dX3_picture_37 (by decide) (by decide) (⟨rfl, by simp [o_picture, c_8, c_19, c_32], M, rfl, mEq.of (by simp [o_picture, c_8, c_19, c_32])⟩)
    · skip
      refine n_iconst hC (v := (-1)) dX3_picture_22 (by decide) ?_
      exact n_iret hC dX3_picture_23 (by decide) (by decide) (⟨rfl, by simp [o_picture, c_8, c_19], M, rfl, mEq.of (by simp [o_picture, c_8, c_19])⟩)

def o_pictureless (M : nMem) : Int32 × nMem := (nI (mN M 20), mset M 20 (fun _ => nI 0))
set_option maxHeartbeats 4000000 in
set_option maxRecDepth 100000 in
theorem mt_X3_pictureless (na : nA) (h : nH) (M : nMem) (hI : mInv M) : nM yX3_pictureless cX3_pictureless 2 (some .int) (nRm 3 0 0) [.ref (na 61)] na (mPut na h M) (nQi (mOp na h (o_pictureless M))) 0 0 := by
  refine nM.ofN RX3 rfl (by decide) (by intro v hv; simp only [List.mem_cons, List.not_mem_nil, or_false] at hv; subst hv; rfl) (Nat.le_of_ble_eq_true rfl) (fun K hC hnm => ?_)
  show WN K na (mPut na h M) 0 0 (nE K (nQi (mOp na h (o_pictureless M))) 0 0) 0 [some (.ref (na 61)), none] []
  let Q9 : State → Prop := nE K (nQi (mOp na h (o_pictureless M))) 0 0
  show WN K na (mPut na h M) 0 0 Q9 0 [some (.ref (na 61)), none] []
  obtain ⟨⟨h0, b0⟩, ⟨h1, b1a, b1⟩, ⟨h11, b11⟩, ⟨h14, b14⟩, ⟨h15, b15, b15n⟩, ⟨h20, b20⟩, ⟨h26, b26⟩, ⟨h27, b27⟩, ⟨h55, b55⟩, iP, iH, iHi, iHd, iC, iT, iF, iG, iS, iZ⟩ := hI
  refine n_aload_n hC dX3_pictureless_0 rfl ?_
  refine m_getI hC 20 (v := nI (mN M 20)) dX3_pictureless_1 rfl rfl (by decide) h20 ?_
  refine n_istore_n hC dX3_pictureless_4 (Nat.le_of_ble_eq_true rfl) ?_
  refine n_aload_n hC dX3_pictureless_5 rfl ?_
  refine n_iconst hC (v := nI 0) dX3_pictureless_6 (by decide) ?_
  refine m_putI hC 20 (M2 := mset M 20 (fun _ => nI 0)) dX3_pictureless_7 rfl rfl (by decide) rfl rfl rfl rfl rfl ?_
  refine n_iload_n hC dX3_pictureless_10 rfl ?_
  exact n_iret hC dX3_pictureless_11 (by decide) (by decide) (⟨rfl, rfl, _, rfl, mEq.rf⟩)

set_option maxHeartbeats 4000000 in
set_option maxRecDepth 100000 in
theorem mt_X3_wrongWith (na : nA) (h : nH) (M : nMem) {k : Nat} (hk : mIsA k = true) (hkl : mLen k = 9) (h1 : M 1 0 = nI (mN M 1)) (b1 : mN M 1 ≤ 9) (h15 : M 15 0 = nI (mN M 15)) (b15 : mN M 15 ≤ 100) (h20 : M 20 0 = nI (mN M 20)) (b20 : mN M 20 ≤ 40) (iC : ∀ r p, r < mN M 15 → p < mN M 1 → M 18 (9 * r + p) = nI (mA M 18 (9 * r + p)) ∧ mA M 18 (9 * r + p) < mN M 1) (iT : ∀ k, k < mN M 20 → (M 21 k = nI (mA M 21 k) ∧ mA M 21 k < 100) ∧ (M 22 k = nI (mA M 22 k) ∧ mA M 22 k < 9)) : nM yX3_wrongWith cX3_wrongWith 4 (some .int) (nRm 2 0 0) [.ref (na 61), .ref (na k)] na (mPut na h M) (nQi (mPure na h M (nI (mWrong M (M k))))) 0 0 := by
  refine nM.ofN RX3 rfl (by decide) (by intro v hv; simp only [List.mem_cons, List.not_mem_nil, or_false] at hv; rcases hv with rfl | rfl <;> rfl) (Nat.le_of_ble_eq_true rfl) (fun K hC hnm => ?_)
  show WN K na (mPut na h M) 0 0 (nE K (nQi (mPure na h M (nI (mWrong M (M k))))) 0 0) 0 [some (.ref (na 61)), some (.ref (na k)), none, none] []
  let Q9 : State → Prop := nE K (nQi (mPure na h M (nI (mWrong M (M k))))) 0 0
  show WN K na (mPut na h M) 0 0 Q9 0 [some (.ref (na 61)), some (.ref (na k)), none, none] []
  refine n_iconst hC (v := nI 0) dX3_wrongWith_0 (by decide) ?_
  refine n_istore_n hC dX3_wrongWith_1 (Nat.le_of_ble_eq_true rfl) ?_
  refine n_iconst hC (v := nI 0) dX3_wrongWith_2 (by decide) ?_
  refine n_istore_n hC dX3_wrongWith_3 (Nat.le_of_ble_eq_true rfl) ?_
  have lp4 : ∀ d9 : Nat, ∀ (i : Nat) (w : Nat), mN M 20 - i = d9 → (i ≤ mN M 20) → (cntb i (mBad M (M k)) = w) → WN K na (mPut na h M) 0 0 Q9 4 [some (.ref (na 61)), some (.ref (na k)), some (.int (nI w)), some (.int (nI i))] [] := by
    intro d9
    induction d9 using Nat.strongRecOn with
    | _ d9 ih4 =>
      intro i w hd4 hi hw
      refine n_iload_n hC dX3_wrongWith_4 rfl ?_
      refine n_aload_n hC dX3_wrongWith_5 rfl ?_
      refine m_getI hC 20 (v := nI (mN M 20)) dX3_wrongWith_6 rfl rfl (by decide) h20 ?_
      refine n_icmp_geN hC (tgt := 79) dX3_wrongWith_9 (by decide) (by omega) (by omega) (fun c_9 => ?_) (fun c_9 => ?_)
      · skip
        have hi9 : i = mN M 20 := by omega
        subst hi9
        refine n_iload_n hC dX3_wrongWith_79 rfl ?_
        exact n_iret hC dX3_wrongWith_80 (by decide) (by decide) (⟨by rw [← hw]; rfl, rfl, rfl⟩)
      · skip
        have tT := iT i (by omega)
        have t1 := tT.1.2
        have t2 := tT.2.2
        refine n_iload_n hC dX3_wrongWith_12 rfl ?_
        refine n_aload_n hC dX3_wrongWith_13 rfl ?_
        refine m_getA hC 21 dX3_wrongWith_14 rfl rfl ?_
        refine n_iload_n hC dX3_wrongWith_17 rfl ?_
        refine m_aldN hC 21 (v := nI (mA M 21 i)) dX3_wrongWith_18 rfl rfl (by have h9 : mLen 21 = 40 := rfl; omega) tT.1.1 ?_
        refine n_aload_n hC dX3_wrongWith_19 rfl ?_
        refine m_getI hC 15 (v := nI (mN M 15)) dX3_wrongWith_20 rfl rfl (by decide) h15 ?_
        refine n_icmp_geN hC (tgt := 66) dX3_wrongWith_23 (by decide) (by omega) (by omega) (fun c_23 => ?_) (fun c_23 => ?_)
        · skip
          refine n_iconst hC (v := nI 1) dX3_wrongWith_66 (by decide) ?_
          refine n_goto hC (tgt := 71) dX3_wrongWith_67 (by decide) ?_
          refine n_iaddN hC dX3_wrongWith_71 rfl ?_
          refine n_istore_n hC dX3_wrongWith_72 (Nat.le_of_ble_eq_true rfl) ?_
          refine n_iincN hC dX3_wrongWith_73 (j := 1) (c := i + 1) rfl (by decide) rfl ?_
          refine n_goto hC (tgt := 4) dX3_wrongWith_76 (by decide) ?_
          exact WN.forget (L' := [some (.ref (na 61)), some (.ref (na k)), some (.int (nI (w + 1))), some (.int (nI (i + 1)))]) (⟨Or.inr rfl, Or.inr rfl, Or.inr rfl, Or.inr rfl, trivial⟩) (ih4 _ (by omega) (i + 1) (w + 1) rfl (by omega) (by show cntb i _ + (if mBad M (M k) i = true then 1 else 0) = w + 1; rw [hw, if_pos (by simp [mBad, c_23])]))
        · skip
          refine n_aload_n hC dX3_wrongWith_26 rfl ?_
          refine m_getA hC 22 dX3_wrongWith_27 rfl rfl ?_
          refine n_iload_n hC dX3_wrongWith_30 rfl ?_
          refine m_aldN hC 22 (v := nI (mA M 22 i)) dX3_wrongWith_31 rfl rfl (by have h9 : mLen 22 = 40 := rfl; omega) tT.2.1 ?_
          refine n_aload_n hC dX3_wrongWith_32 rfl ?_
          refine m_getI hC 1 (v := nI (mN M 1)) dX3_wrongWith_33 rfl rfl (by decide) h1 ?_
          refine n_icmp_geN hC (tgt := 66) dX3_wrongWith_36 (by decide) (by omega) (by omega) (fun c_36 => ?_) (fun c_36 => ?_)
          · skip
            refine n_iconst hC (v := nI 1) dX3_wrongWith_66 (by decide) ?_
            refine n_goto hC (tgt := 71) dX3_wrongWith_67 (by decide) ?_
            refine n_iaddN hC dX3_wrongWith_71 rfl ?_
            refine n_istore_n hC dX3_wrongWith_72 (Nat.le_of_ble_eq_true rfl) ?_
            refine n_iincN hC dX3_wrongWith_73 (j := 1) (c := i + 1) rfl (by decide) rfl ?_
            refine n_goto hC (tgt := 4) dX3_wrongWith_76 (by decide) ?_
            exact WN.forget (L' := [some (.ref (na 61)), some (.ref (na k)), some (.int (nI (w + 1))), some (.int (nI (i + 1)))]) (⟨Or.inr rfl, Or.inr rfl, Or.inr rfl, Or.inr rfl, trivial⟩) (ih4 _ (by omega) (i + 1) (w + 1) rfl (by omega) (by show cntb i _ + (if mBad M (M k) i = true then 1 else 0) = w + 1; rw [hw, if_pos (by simp [mBad, c_36])]))
          · skip
            have hTl := mTop_lt (M := M) (r := mA M 21 i) (show mA M 22 i < mN M 1 by omega) (fun q hq => (iC _ q (by omega) hq).2)
            refine n_aload_n hC dX3_wrongWith_39 rfl ?_
            refine n_aload_n hC dX3_wrongWith_40 rfl ?_
            refine n_aload_n hC dX3_wrongWith_41 rfl ?_
            refine m_getA hC 21 dX3_wrongWith_42 rfl rfl ?_
            refine n_iload_n hC dX3_wrongWith_45 rfl ?_
            refine m_aldN hC 21 (v := nI (mA M 21 i)) dX3_wrongWith_46 rfl rfl (by have h9 : mLen 21 = 40 := rfl; omega) tT.1.1 ?_
            refine n_aload_n hC dX3_wrongWith_47 rfl ?_
            refine m_getA hC 22 dX3_wrongWith_48 rfl rfl ?_
            refine n_iload_n hC dX3_wrongWith_51 rfl ?_
            refine m_aldN hC 22 (v := nI (mA M 22 i)) dX3_wrongWith_52 rfl rfl (by have h9 : mLen 22 = 40 := rfl; omega) tT.2.1 ?_
            refine n_callV2i hC (mt_X3_topRibbon na h (M) (n := mN M 1) (r := mA M 21 i) (p := mA M 22 i) h1 (by omega) (by omega) (by omega) (fun q hq => (iC _ q (by omega) hq).1)) md_X3_topRibbon q1363 dX3_wrongWith_53 rfl (mPut_o _ _ _) rfl rfl ⟨rfl, rfl, by decide, by decide⟩ rfl (Nat.le_of_ble_eq_true rfl) (by decide) (by decide) (fun r0 na0 h0 hp0 => ?_)
            obtain ⟨rfl, rfl, rfl⟩ := hp0
            refine m_aldN hC k (v := (M k) (mTop M (mN M 1) (mA M 21 i) (mA M 22 i))) dX3_wrongWith_56 rfl hk (by omega) rfl ?_
            refine n_aload_n hC dX3_wrongWith_57 rfl ?_
            refine m_getA hC 23 dX3_wrongWith_58 rfl rfl ?_
            refine n_iload_n hC dX3_wrongWith_61 rfl ?_
            refine m_aldN hC 23 (v := M 23 i) dX3_wrongWith_62 rfl rfl (by have h9 : mLen 23 = 40 := rfl; omega) rfl ?_
            refine n_icmp_eq hC (tgt := 70) dX3_wrongWith_63 (by decide) (fun c_63 => ?_) (fun c_63 => ?_)
            · skip
              refine n_iconst hC (v := nI 0) dX3_wrongWith_70 (by decide) ?_
              refine n_iaddN hC dX3_wrongWith_71 rfl ?_
              refine n_istore_n hC dX3_wrongWith_72 (Nat.le_of_ble_eq_true rfl) ?_
              refine n_iincN hC dX3_wrongWith_73 (j := 1) (c := i + 1) rfl (by decide) rfl ?_
              refine n_goto hC (tgt := 4) dX3_wrongWith_76 (by decide) ?_
              exact WN.forget (L' := [some (.ref (na 61)), some (.ref (na k)), some (.int (nI (w + 0))), some (.int (nI (i + 1)))]) (⟨Or.inr rfl, Or.inr rfl, Or.inr rfl, Or.inr rfl, trivial⟩) (ih4 _ (by omega) (i + 1) (w + 0) rfl (by omega) (by show cntb i _ + (if mBad M (M k) i = true then 1 else 0) = w + 0; rw [hw, if_neg (by simp [mBad, Nat.not_le.mpr c_23, Nat.not_le.mpr c_36, c_63])]))
            · skip
              refine n_iconst hC (v := nI 1) dX3_wrongWith_66 (by decide) ?_
              refine n_goto hC (tgt := 71) dX3_wrongWith_67 (by decide) ?_
              refine n_iaddN hC dX3_wrongWith_71 rfl ?_
              refine n_istore_n hC dX3_wrongWith_72 (Nat.le_of_ble_eq_true rfl) ?_
              refine n_iincN hC dX3_wrongWith_73 (j := 1) (c := i + 1) rfl (by decide) rfl ?_
              refine n_goto hC (tgt := 4) dX3_wrongWith_76 (by decide) ?_
              exact WN.forget (L' := [some (.ref (na 61)), some (.ref (na k)), some (.int (nI (w + 1))), some (.int (nI (i + 1)))]) (⟨Or.inr rfl, Or.inr rfl, Or.inr rfl, Or.inr rfl, trivial⟩) (ih4 _ (by omega) (i + 1) (w + 1) rfl (by omega) (by show cntb i _ + (if mBad M (M k) i = true then 1 else 0) = w + 1; rw [hw, if_pos (by simp [mBad, c_63])]))
  exact WN.forget (L' := [some (.ref (na 61)), some (.ref (na k)), some (.int (nI 0)), some (.int (nI 0))]) (⟨Or.inr rfl, Or.inr rfl, Or.inr rfl, Or.inr rfl, trivial⟩) (lp4 _ 0 0 rfl (by omega) rfl)

def o_wrong (M : nMem) : Int32 × nMem := (nI (mWrong M (M 10)), M)
set_option maxHeartbeats 4000000 in
set_option maxRecDepth 100000 in
theorem mt_X3_wrong (na : nA) (h : nH) (M : nMem) (hI : mInv M) : nM yX3_wrong cX3_wrong 1 (some .int) (nRm 3 0 0) [.ref (na 61)] na (mPut na h M) (nQi (mOp na h (o_wrong M))) 0 0 := by
  refine nM.ofN RX3 rfl (by decide) (by intro v hv; simp only [List.mem_cons, List.not_mem_nil, or_false] at hv; subst hv; rfl) (Nat.le_of_ble_eq_true rfl) (fun K hC hnm => ?_)
  show WN K na (mPut na h M) 0 0 (nE K (nQi (mOp na h (o_wrong M))) 0 0) 0 [some (.ref (na 61))] []
  let Q9 : State → Prop := nE K (nQi (mOp na h (o_wrong M))) 0 0
  show WN K na (mPut na h M) 0 0 Q9 0 [some (.ref (na 61))] []
  obtain ⟨⟨h0, b0⟩, ⟨h1, b1a, b1⟩, ⟨h11, b11⟩, ⟨h14, b14⟩, ⟨h15, b15, b15n⟩, ⟨h20, b20⟩, ⟨h26, b26⟩, ⟨h27, b27⟩, ⟨h55, b55⟩, iP, iH, iHi, iHd, iC, iT, iF, iG, iS, iZ⟩ := hI
  refine n_aload_n hC dX3_wrong_0 rfl ?_
  refine n_aload_n hC dX3_wrong_1 rfl ?_
  refine m_getA hC 10 dX3_wrong_2 rfl rfl ?_
  refine n_callV1i hC (mt_X3_wrongWith na h (M) (k := 10) rfl rfl h1 b1 h15 b15 h20 b20 iC iT) md_X3_wrongWith q1391 dX3_wrong_5 rfl (mPut_o _ _ _) rfl rfl ⟨rfl, rfl, by decide, by decide⟩ rfl (Nat.le_of_ble_eq_true rfl) (by decide) (by decide) (fun r0 na0 h0 hp0 => ?_)
  obtain ⟨rfl, rfl, rfl⟩ := hp0
  exact n_iret hC dX3_wrong_8 (by decide) (by decide) (⟨rfl, rfl, M, rfl, mEq.rf⟩)

set_option maxHeartbeats 4000000 in
set_option maxRecDepth 100000 in
theorem mt_X3_colours (na : nA) (h : nH) (M : nMem) (hI : mInv M) (c what : Int32) : nM yX3_colours cX3_colours 9 (some .int) (nRm 3 0 0) [.ref (na 61), .int c, .int what] na (mPut na h M) (nQi (mOp na h (o_colours c what M))) 0 0 := by
  refine nM.ofN RX3 rfl (by decide) (by intro v hv; simp only [List.mem_cons, List.not_mem_nil, or_false] at hv; rcases hv with rfl | rfl | rfl <;> rfl) (Nat.le_of_ble_eq_true rfl) (fun K hC hnm => ?_)
  show WN K na (mPut na h M) 0 0 (nE K (nQi (mOp na h (o_colours c what M))) 0 0) 0 [some (.ref (na 61)), some (.int c), some (.int what), none, none, none, none, none, none] []
  let Q9 : State → Prop := nE K (nQi (mOp na h (o_colours c what M))) 0 0
  show WN K na (mPut na h M) 0 0 Q9 0 [some (.ref (na 61)), some (.int c), some (.int what), none, none, none, none, none, none] []
  obtain ⟨⟨h0, b0⟩, ⟨h1, b1a, b1⟩, ⟨h11, b11⟩, ⟨h14, b14⟩, ⟨h15, b15, b15n⟩, ⟨h20, b20⟩, ⟨h26, b26⟩, ⟨h27, b27⟩, ⟨h55, b55⟩, iP, iH, iHi, iHd, iC, iT, iF, iG, iS, iZ⟩ := hI
  refine n_aload_n hC dX3_colours_0 rfl ?_
  refine n_iload_n hC dX3_colours_1 rfl ?_
  refine n_iconst hC (v := (-1)) dX3_colours_2 (by decide) ?_
  refine n_aload_n hC dX3_colours_3 rfl ?_
  refine m_getI hC 1 (v := nI (mN M 1)) dX3_colours_4 rfl rfl (by decide) h1 ?_
  refine n_iconst hC (v := nI 1) dX3_colours_7 (by decide) ?_
  refine n_isub hC dX3_colours_8 ?_
  refine n_callV3z hC (mt_X3_in na h (M) (what) ((-1)) ((nI (mN M 1)) - (nI 1))) md_X3_in q1293 dX3_colours_9 rfl (mPut_o _ _ _) rfl rfl ⟨rfl, rfl, by decide, by decide⟩ rfl (Nat.le_of_ble_eq_true rfl) (by decide) (by decide) (fun r0 na0 h0 hp0 => ?_)
  obtain ⟨rfl, rfl, rfl⟩ := hp0
  refine n_if_neB hC (tgt := 17) dX3_colours_12 (by decide) (fun c_12 => ?_) (fun c_12 => ?_)
  · skip
    refine n_aload_n hC dX3_colours_17 rfl ?_
    refine n_iload_n hC dX3_colours_18 rfl ?_
    refine n_iconst hC (v := nI 1) dX3_colours_19 (by decide) ?_
    refine n_iconst hC (v := nI 4) dX3_colours_20 (by decide) ?_
    refine n_callV3z hC (mt_X3_in na h (M) (c) (nI 1) (nI 4)) md_X3_in q1293 dX3_colours_21 rfl (mPut_o _ _ _) rfl rfl ⟨rfl, rfl, by decide, by decide⟩ rfl (Nat.le_of_ble_eq_true rfl) (by decide) (by decide) (fun r1 na1 h1 hp1 => ?_)
    obtain ⟨rfl, rfl, rfl⟩ := hp1
    refine n_if_neB hC (tgt := 30) dX3_colours_24 (by decide) (fun c_24 => ?_) (fun c_24 => ?_)
    · skip
      refine n_aload_n hC dX3_colours_30 rfl ?_
      refine m_getI hC 15 (v := nI (mN M 15)) dX3_colours_31 rfl rfl (by decide) h15 ?_
      refine n_if_eqN hC (tgt := 46) dX3_colours_34 (by decide) (by omega) (fun c_34 => ?_) (fun c_34 => ?_)
      · skip
        refine n_bipush hC (v := (-3)) dX3_colours_46 (by decide) ?_
        exact n_iret hC dX3_colours_48 (by decide) (by decide) (⟨rfl, by simp [o_colours, c_12, c_24, c_34], M, rfl, mEq.of (by simp [o_colours, c_12, c_24, c_34])⟩)
      · skip
        refine n_aload_n hC dX3_colours_37 rfl ?_
        refine m_getI hC 1 (v := nI (mN M 1)) dX3_colours_38 rfl rfl (by decide) h1 ?_
        refine n_bipush hC (v := nI 6) dX3_colours_41 (by decide) ?_
        refine n_icmp_leN hC (tgt := 49) dX3_colours_43 (by decide) (by omega) (by omega) (fun c_43 => ?_) (fun c_43 => ?_)
        · skip
          obtain ⟨c9, hc1, hc4, ec⟩ := (nrg_nn (by decide) (by decide)).mp c_24
          subst ec
          have hcc : (nI c9).toNatClampNeg = c9 := nI_clamp (by omega)
          have hpw : c9 ^ mN M 1 ≤ 4 ^ 6 := Nat.le_trans (Nat.pow_le_pow_left hc4 _) (Nat.pow_le_pow_right (by decide) (by omega))
          have hpw1 : 1 ≤ c9 ^ mN M 1 := Nat.pow_pos hc1
          have hn3 : 3 ≤ mN M 1 := b15n c_34
          refine n_iconst hC (v := nI 1) dX3_colours_49 (by decide) ?_
          refine n_istore_n hC dX3_colours_50 (Nat.le_of_ble_eq_true rfl) ?_
          refine n_iconst hC (v := nI 0) dX3_colours_51 (by decide) ?_
          refine n_istore hC dX3_colours_52 (Nat.le_of_ble_eq_true rfl) ?_
          have lp54 : ∀ d9 : Nat, ∀ (p : Nat) (a : Nat), mN M 1 - p = d9 → (p ≤ mN M 1) → (a = c9 ^ p) → WN K na (mPut na h M) 0 0 Q9 54 [some (.ref (na 61)), some (.int (nI c9)), some (.int what), some (.int (nI a)), some (.int (nI p)), none, none, none, none] [] := by
            intro d9
            induction d9 using Nat.strongRecOn with
            | _ d9 ih54 =>
              intro p a hd54 hp ha
              refine n_iload hC dX3_colours_54 rfl ?_
              refine n_aload_n hC dX3_colours_56 rfl ?_
              refine m_getI hC 1 (v := nI (mN M 1)) dX3_colours_57 rfl rfl (by decide) h1 ?_
              refine n_icmp_geN hC (tgt := 73) dX3_colours_60 (by decide) (by omega) (by omega) (fun c_60 => ?_) (fun c_60 => ?_)
              · skip
                have hp9 : p = mN M 1 := by omega
                subst hp9
                subst ha
                refine n_sipush hC (v := nI 1000) dX3_colours_73 (by decide) ?_
                refine n_istore hC dX3_colours_76 (Nat.le_of_ble_eq_true rfl) ?_
                refine n_iconst hC (v := nI 0) dX3_colours_78 (by decide) ?_
                refine n_istore hC dX3_colours_79 (Nat.le_of_ble_eq_true rfl) ?_
                have lp81 : ∀ d9 : Nat, ∀ (k : Nat) (best : Nat) (kb : Nat) (M2 : nMem), c9 ^ mN M 1 - k = d9 → (k ≤ c9 ^ mN M 1) → (mFr [24, 25] M M2) → (lst2 (mGW M c9) 1000 k = (best, kb)) → (best ≤ 1000) → (0 < k → ∀ p, p < mN M 1 → M2 25 p = nI (gsk c9 (mN M 1) kb p)) → WN K na (mPut na h M2) 0 0 Q9 81 [some (.ref (na 61)), some (.int (nI c9)), some (.int what), some (.int (nI (c9 ^ mN M 1))), some (.int (nI best)), some (.int (nI k)), none, none, none] [] := by
                  intro d9
                  induction d9 using Nat.strongRecOn with
                  | _ d9 ih81 =>
                    intro k best kb M2 hd81 hk hF hb hb3 hb2
                    refine n_iload hC dX3_colours_81 rfl ?_
                    refine n_iload_n hC dX3_colours_83 rfl ?_
                    refine n_icmp_geN hC (tgt := 189) dX3_colours_84 (by decide) (by omega) (by omega) (fun c_84 => ?_) (fun c_84 => ?_)
                    · skip
                      have hk9 : k = c9 ^ mN M 1 := by omega
                      subst hk9
                      rcases (nrg_inm (by omega)).mp c_12 with e9 | ⟨j, hj, e9⟩
                      · skip
                        subst e9
                        refine n_iload_n hC dX3_colours_189 rfl ?_
                        refine n_if_ge hC (tgt := 198) dX3_colours_190 (by decide) (fun c_190 => absurd c_190 (by decide)) (fun c_190 => ?_)
                        refine n_iload hC dX3_colours_193 rfl ?_
                        refine n_goto hC (tgt := 204) dX3_colours_195 (by decide) ?_
                        exact n_iret hC dX3_colours_204 (by decide) (by decide) (⟨rfl, by simp only [o_colours, c_12, c_24, hcc, Bool.true_eq_false, if_false, c_34]; rw [if_neg (by omega), hb]; simp [], M2, rfl, mEq.trans (mEq.fr (by decide) hF) (mEq.of (by simp only [o_colours, c_12, c_24, hcc, Bool.true_eq_false, if_false, c_34]; rw [if_neg (by omega)]))⟩)
                      · skip
                        subst e9
                        have hjc : (nI j).toNatClampNeg = j := nI_clamp (by omega)
                        have hjn : ¬ nI j = -1 := fun e => absurd (e ▸ nI_pos (n := j) (by omega)) (by decide)
                        refine n_iload_n hC dX3_colours_189 rfl ?_
                        refine n_if_geN hC (tgt := 198) dX3_colours_190 (by decide) (by omega) ?_
                        refine n_aload_n hC dX3_colours_198 rfl ?_
                        refine m_getA hC 25 dX3_colours_199 rfl rfl ?_
                        refine n_iload_n hC dX3_colours_202 rfl ?_
                        refine m_aldN hC 25 (v := nI (gsk c9 (mN M 1) kb j)) dX3_colours_203 rfl rfl (by have h9 : mLen 25 = 9 := rfl; omega) (hb2 (by omega) j hj) ?_
                        exact n_iret hC dX3_colours_204 (by decide) (by decide) (⟨rfl, by simp only [o_colours, c_12, c_24, hcc, Bool.true_eq_false, if_false, c_34]; rw [if_neg (by omega), hb]; simp [hjn, hjc], M2, rfl, mEq.trans (mEq.fr (by decide) hF) (mEq.of (by simp only [o_colours, c_12, c_24, hcc, Bool.true_eq_false, if_false, c_34]; rw [if_neg (by omega)]))⟩)
                    · skip
                      refine n_iload hC dX3_colours_87 rfl ?_
                      refine n_istore hC dX3_colours_89 (Nat.le_of_ble_eq_true rfl) ?_
                      refine n_aload_n hC dX3_colours_91 rfl ?_
                      refine m_getI hC 1 (v := nI (mN M 1)) dX3_colours_92 rfl rfl (by decide) ((congrFun (hF 1 (by decide)) 0).trans h1) ?_
                      refine n_iconst hC (v := nI 1) dX3_colours_95 (by decide) ?_
                      refine n_isubN hC dX3_colours_96 (by omega) rfl ?_
                      refine n_istore hC dX3_colours_97 (Nat.le_of_ble_eq_true rfl) ?_
                      have lp99 : ∀ d9 : Nat, ∀ (q : Nat) (left : Nat) (M3 : nMem), q = d9 → (q ≤ mN M 1) → (mFr [24] M2 M3) → (left = k / c9 ^ (mN M 1 - q)) → (∀ p, q ≤ p → p < mN M 1 → M3 24 p = nI (gsk c9 (mN M 1) k p)) → WN K na (mPut na h M3) 0 0 Q9 99 [some (.ref (na 61)), some (.int (nI c9)), some (.int what), some (.int (nI (c9 ^ mN M 1))), some (.int (nI best)), some (.int (nI k)), some (.int (nI left)), some (.int (pmi q)), none] [] := by
                        intro d9
                        induction d9 using Nat.strongRecOn with
                        | _ d9 ih99 =>
                          intro q left M3 hd99 hq hF3 hl h24
                          have hFF3 : mFr [24, 25] M M3 := mFr.cmp (by decide) (by decide) hF hF3
                          refine n_iload hC dX3_colours_99 rfl ?_
                          refine n_if_lt hC (tgt := 127) dX3_colours_101 (by decide) (fun c_101 => ?_) (fun c_101 => ?_)
                          · skip
                            have hq0 := pmi_z (by omega) c_101
                            subst hq0
                            have hW : mWrong M3 (M3 24) = mGW M c9 k := (mWrong_fr hFF3 (by decide)).trans (mWrong_ext (fun i hi h1 h2 => h24 _ (Nat.zero_le _) (mTop_lt h2 (fun q hq => (iC _ q h1 hq).2))))
                            have hWl : mGW M c9 k ≤ 40 := Nat.le_trans (cntb_le _) b20
                            refine n_aload_n hC dX3_colours_127 rfl ?_
                            refine n_aload_n hC dX3_colours_128 rfl ?_
                            refine m_getA hC 24 dX3_colours_129 rfl rfl ?_
                            refine n_callV1i hC (mt_X3_wrongWith na h (M3) (k := 24) rfl rfl ((congrFun (hFF3 1 (by decide)) 0).trans (by rw [mN_fr hFF3 (by decide)]; exact h1)) (by rw [mN_fr hFF3 (by decide)]; exact b1) ((congrFun (hFF3 15 (by decide)) 0).trans (by rw [mN_fr hFF3 (by decide)]; exact h15)) (by rw [mN_fr hFF3 (by decide)]; exact b15) ((congrFun (hFF3 20 (by decide)) 0).trans (by rw [mN_fr hFF3 (by decide)]; exact h20)) (by rw [mN_fr hFF3 (by decide)]; exact b20) (by unfold mA mN; rw [hFF3 1 (by decide), hFF3 15 (by decide), hFF3 18 (by decide)]; exact iC) (by unfold mA mN; rw [hFF3 20 (by decide), hFF3 21 (by decide), hFF3 22 (by decide)]; exact iT)) md_X3_wrongWith q1391 dX3_colours_132 rfl (mPut_o _ _ _) rfl rfl ⟨rfl, rfl, by decide, by decide⟩ rfl (Nat.le_of_ble_eq_true rfl) (by decide) (by decide) (fun r2 na2 h2 hp2 => ?_)
                            obtain ⟨rfl, rfl, rfl⟩ := hp2
                            rw [hW]
                            refine n_istore hC dX3_colours_135 (Nat.le_of_ble_eq_true rfl) ?_
                            refine n_iload hC dX3_colours_137 rfl ?_
                            refine n_iload hC dX3_colours_139 rfl ?_
                            refine n_icmp_ltN hC (tgt := 147) dX3_colours_141 (by decide) (by omega) (by omega) (fun c_141 => ?_) (fun c_141 => ?_)
                            · skip
                              refine n_iload hC dX3_colours_147 rfl ?_
                              refine n_istore hC dX3_colours_149 (Nat.le_of_ble_eq_true rfl) ?_
                              refine n_iconst hC (v := nI 0) dX3_colours_151 (by decide) ?_
                              refine n_istore hC dX3_colours_152 (Nat.le_of_ble_eq_true rfl) ?_
                              have lp154 : ∀ d9 : Nat, ∀ (p : Nat) (M4 : nMem), mN M 1 - p = d9 → (p ≤ mN M 1) → (mFr [24, 25] M M4) → (∀ p, p < mN M 1 → M4 24 p = nI (gsk c9 (mN M 1) k p)) → (∀ q, q < p → M4 25 q = M4 24 q) → WN K na (mPut na h M4) 0 0 Q9 154 [some (.ref (na 61)), some (.int (nI c9)), some (.int what), some (.int (nI (c9 ^ mN M 1))), some (.int (nI (mGW M c9 k))), some (.int (nI k)), some (.int (nI left)), some (.int (nI (mGW M c9 k))), some (.int (nI p))] [] := by
                                intro d9
                                induction d9 using Nat.strongRecOn with
                                | _ d9 ih154 =>
                                  intro p M4 hd154 hp hF4 h24 h25
                                  refine n_iload hC dX3_colours_154 rfl ?_
                                  refine n_aload_n hC dX3_colours_156 rfl ?_
                                  refine m_getI hC 1 (v := nI (mN M 1)) dX3_colours_157 rfl rfl (by decide) ((congrFun (hF4 1 (by decide)) 0).trans h1) ?_
                                  refine n_icmp_geN hC (tgt := 183) dX3_colours_160 (by decide) (by omega) (by omega) (fun c_160 => ?_) (fun c_160 => ?_)
                                  · skip
                                    refine n_iincN hC dX3_colours_183 (j := 1) (c := k + 1) rfl (by decide) rfl ?_
                                    refine n_goto hC (tgt := 81) dX3_colours_186 (by decide) ?_
                                    exact WN.forget (L' := [some (.ref (na 61)), some (.int (nI c9)), some (.int what), some (.int (nI (c9 ^ mN M 1))), some (.int (nI (mGW M c9 k))), some (.int (nI (k + 1))), none, none, none]) (⟨Or.inr rfl, Or.inr rfl, Or.inr rfl, Or.inr rfl, Or.inr rfl, Or.inr rfl, Or.inl rfl, Or.inl rfl, Or.inl rfl, trivial⟩) (ih81 _ (by omega) (k + 1) (mGW M c9 k) k M4 rfl (by omega) hF4 (by rw [lst2_s hb, if_pos c_141]) (by omega) (fun _ p hp => (h25 p (by omega)).trans (h24 p (by omega))))
                                  · skip
                                    refine n_aload_n hC dX3_colours_163 rfl ?_
                                    refine m_getA hC 25 dX3_colours_164 rfl rfl ?_
                                    refine n_iload hC dX3_colours_167 rfl ?_
                                    refine n_aload_n hC dX3_colours_169 rfl ?_
                                    refine m_getA hC 24 dX3_colours_170 rfl rfl ?_
                                    refine n_iload hC dX3_colours_173 rfl ?_
                                    refine m_aldN hC 24 (v := M4 24 p) dX3_colours_175 rfl rfl (by have h9 : mLen 24 = 9 := rfl; omega) rfl ?_
                                    refine m_astN hC 25 (M2 := mset M4 25 (upd (M4 25) p (M4 24 p))) dX3_colours_176 rfl rfl (by have h9 : mLen 25 = 9 := rfl; omega) rfl ?_
                                    refine n_iincN hC dX3_colours_177 (j := 1) (c := p + 1) rfl (by decide) rfl ?_
                                    refine n_goto hC (tgt := 154) dX3_colours_180 (by decide) ?_
                                    exact WN.forget (L' := [some (.ref (na 61)), some (.int (nI c9)), some (.int what), some (.int (nI (c9 ^ mN M 1))), some (.int (nI (mGW M c9 k))), some (.int (nI k)), some (.int (nI left)), some (.int (nI (mGW M c9 k))), some (.int (nI (p + 1)))]) (⟨Or.inr rfl, Or.inr rfl, Or.inr rfl, Or.inr rfl, Or.inr rfl, Or.inr rfl, Or.inr rfl, Or.inr rfl, Or.inr rfl, trivial⟩) (ih154 _ (by omega) (p + 1) (mset M4 25 (upd (M4 25) p (M4 24 p))) rfl (by omega) (mFr.set (by decide) hF4) h24 (lt_s (fun q hq => by show upd (M4 25) p _ q = _; unfold upd; rw [if_neg (by omega)]; exact h25 q hq) (by show upd (M4 25) p _ p = _; unfold upd; rw [if_pos rfl]; rfl)))
                              exact WN.forget (L' := [some (.ref (na 61)), some (.int (nI c9)), some (.int what), some (.int (nI (c9 ^ mN M 1))), some (.int (nI (mGW M c9 k))), some (.int (nI k)), some (.int (nI left)), some (.int (nI (mGW M c9 k))), some (.int (nI 0))]) (⟨Or.inr rfl, Or.inr rfl, Or.inr rfl, Or.inr rfl, Or.inr rfl, Or.inr rfl, Or.inr rfl, Or.inr rfl, Or.inr rfl, trivial⟩) (lp154 _ 0 M3 rfl (by omega) (mFr.wk (by decide) hFF3) (fun p hp => h24 p (by omega) hp) lt_0)
                            · skip
                              refine n_goto hC (tgt := 183) dX3_colours_144 (by decide) ?_
                              refine n_iincN hC dX3_colours_183 (j := 1) (c := k + 1) rfl (by decide) rfl ?_
                              refine n_goto hC (tgt := 81) dX3_colours_186 (by decide) ?_
                              exact WN.forget (L' := [some (.ref (na 61)), some (.int (nI c9)), some (.int what), some (.int (nI (c9 ^ mN M 1))), some (.int (nI best)), some (.int (nI (k + 1))), none, none, none]) (⟨Or.inr rfl, Or.inr rfl, Or.inr rfl, Or.inr rfl, Or.inr rfl, Or.inr rfl, Or.inl rfl, Or.inl rfl, Or.inl rfl, trivial⟩) (ih81 _ (by omega) (k + 1) best kb M3 rfl (by omega) hFF3 (by rw [lst2_s hb, if_neg (by omega)]) (by omega) (fun _ => by rw [hF3 25 (by decide)]; exact hb2 (Nat.pos_of_ne_zero fun z => by subst z; cases hb; omega)))
                          · skip
                            obtain ⟨q1, rfl⟩ := pmi_n c_101
                            simp only [pmi_s]
                            refine n_aload_n hC dX3_colours_104 rfl ?_
                            refine m_getA hC 24 dX3_colours_105 rfl rfl ?_
                            refine n_iload hC dX3_colours_108 rfl ?_
                            refine n_iload hC dX3_colours_110 rfl ?_
                            refine n_iload_n hC dX3_colours_112 rfl ?_
                            refine n_iremN hC dX3_colours_113 (by omega) (by have := Nat.div_le_self k (c9 ^ (mN M 1 - (q1 + 1))); omega) (by omega) rfl ?_
                            refine m_astN hC 24 (M2 := mset M3 24 (upd (M3 24) q1 (nI (left % c9)))) dX3_colours_114 rfl rfl (by have h9 : mLen 24 = 9 := rfl; omega) rfl ?_
                            refine n_iload hC dX3_colours_115 rfl ?_
                            refine n_iload_n hC dX3_colours_117 rfl ?_
                            refine n_idivN hC dX3_colours_118 (by omega) (by have := Nat.div_le_self k (c9 ^ (mN M 1 - (q1 + 1))); omega) (by omega) rfl ?_
                            refine n_istore hC dX3_colours_119 (Nat.le_of_ble_eq_true rfl) ?_
                            refine n_iinc hC dX3_colours_121 (v := pmi q1) rfl rfl ?_
                            refine n_goto hC (tgt := 99) dX3_colours_124 (by decide) ?_
                            exact WN.forget (L' := [some (.ref (na 61)), some (.int (nI c9)), some (.int what), some (.int (nI (c9 ^ mN M 1))), some (.int (nI best)), some (.int (nI k)), some (.int (nI (left / c9))), some (.int (pmi q1)), none]) (⟨Or.inr rfl, Or.inr rfl, Or.inr rfl, Or.inr rfl, Or.inr rfl, Or.inr rfl, Or.inr rfl, Or.inr rfl, Or.inl rfl, trivial⟩) (ih99 _ (by omega) q1 (left / c9) (mset M3 24 (upd (M3 24) q1 (nI (left % c9)))) rfl (by omega) (mFr.set (by decide) hF3) (by rw [hl, Nat.div_div_eq_div_mul, ← Nat.pow_succ]; show k / c9 ^ (mN M 1 - (q1 + 1) + 1) = _; rw [show mN M 1 - (q1 + 1) + 1 = mN M 1 - q1 by omega]) (fun p h1 h2 => by show upd (M3 24) q1 _ p = _; unfold upd; by_cases e : p = q1; rw [if_pos e, hl, e]; unfold gsk; rw [show mN M 1 - 1 - q1 = mN M 1 - (q1 + 1) by omega]; rw [if_neg e]; exact h24 p (by omega) h2))
                      rw [pmi_p (show 1 ≤ mN M 1 by omega)]
                      exact WN.forget (L' := [some (.ref (na 61)), some (.int (nI c9)), some (.int what), some (.int (nI (c9 ^ mN M 1))), some (.int (nI best)), some (.int (nI k)), some (.int (nI k)), some (.int (pmi (mN M 1))), none]) (⟨Or.inr rfl, Or.inr rfl, Or.inr rfl, Or.inr rfl, Or.inr rfl, Or.inr rfl, Or.inr rfl, Or.inr rfl, Or.inl rfl, trivial⟩) (lp99 _ (mN M 1) k M2 rfl (by omega) mFr.rf (by rw [Nat.sub_self, Nat.pow_zero, Nat.div_one]) (fun p h1 h2 => absurd h1 (by omega)))
                exact WN.forget (L' := [some (.ref (na 61)), some (.int (nI c9)), some (.int what), some (.int (nI (c9 ^ mN M 1))), some (.int (nI 1000)), some (.int (nI 0)), none, none, none]) (⟨Or.inr rfl, Or.inr rfl, Or.inr rfl, Or.inr rfl, Or.inr rfl, Or.inr rfl, Or.inl rfl, Or.inl rfl, Or.inl rfl, trivial⟩) (lp81 _ 0 1000 0 M rfl (by omega) mFr.rf rfl (by omega) (fun h => absurd h (Nat.lt_irrefl 0)))
              · skip
                refine n_iload_n hC dX3_colours_63 rfl ?_
                refine n_iload_n hC dX3_colours_64 rfl ?_
                refine n_imulN hC dX3_colours_65 rfl ?_
                refine n_istore_n hC dX3_colours_66 (Nat.le_of_ble_eq_true rfl) ?_
                refine n_iincN hC dX3_colours_67 (j := 1) (c := p + 1) rfl (by decide) rfl ?_
                refine n_goto hC (tgt := 54) dX3_colours_70 (by decide) ?_
                exact WN.forget (L' := [some (.ref (na 61)), some (.int (nI c9)), some (.int what), some (.int (nI (a * c9))), some (.int (nI (p + 1))), none, none, none, none]) (⟨Or.inr rfl, Or.inr rfl, Or.inr rfl, Or.inr rfl, Or.inr rfl, Or.inl rfl, Or.inl rfl, Or.inl rfl, Or.inl rfl, trivial⟩) (ih54 _ (by omega) (p + 1) (a * c9) rfl (by omega) (by rw [ha, Nat.pow_succ]))
          exact WN.forget (L' := [some (.ref (na 61)), some (.int (nI c9)), some (.int what), some (.int (nI 1)), some (.int (nI 0)), none, none, none, none]) (⟨Or.inr rfl, Or.inr rfl, Or.inr rfl, Or.inr rfl, Or.inr rfl, Or.inl rfl, Or.inl rfl, Or.inl rfl, Or.inl rfl, trivial⟩) (lp54 _ 0 1 rfl (by omega) (by rw [Nat.pow_zero]))
        · skip
          refine n_bipush hC (v := (-3)) dX3_colours_46 (by decide) ?_
          exact n_iret hC dX3_colours_48 (by decide) (by decide) (⟨rfl, by simp [o_colours, c_12, c_24, c_34, c_43], M, rfl, mEq.of (by simp [o_colours, c_12, c_24, c_34, c_43])⟩)
    · skip
      refine n_bipush hC (v := (-2)) dX3_colours_27 (by decide) ?_
      exact n_iret hC dX3_colours_29 (by decide) (by decide) (⟨rfl, by simp [o_colours, c_12, c_24], M, rfl, mEq.of (by simp [o_colours, c_12, c_24])⟩)
  · skip
    refine n_iconst hC (v := (-1)) dX3_colours_15 (by decide) ?_
    exact n_iret hC dX3_colours_16 (by decide) (by decide) (⟨rfl, by simp [o_colours, c_12], M, rfl, mEq.of (by simp [o_colours, c_12])⟩)

set_option maxHeartbeats 4000000 in
set_option maxRecDepth 100000 in
theorem mt_X3_feed (na : nA) (h : nH) (M : nMem) (hI : mInv M) (b k : Int32) : nM yX3_feed cX3_feed 4 (some .int) (nRm 3 0 0) [.ref (na 61), .int b, .int k] na (mPut na h M) (nQi (mOp na h (o_feed b k M))) 0 0 := by
  refine nM.ofN RX3 rfl (by decide) (by intro v hv; simp only [List.mem_cons, List.not_mem_nil, or_false] at hv; rcases hv with rfl | rfl | rfl <;> rfl) (Nat.le_of_ble_eq_true rfl) (fun K hC hnm => ?_)
  show WN K na (mPut na h M) 0 0 (nE K (nQi (mOp na h (o_feed b k M))) 0 0) 0 [some (.ref (na 61)), some (.int b), some (.int k), none] []
  let Q9 : State → Prop := nE K (nQi (mOp na h (o_feed b k M))) 0 0
  show WN K na (mPut na h M) 0 0 Q9 0 [some (.ref (na 61)), some (.int b), some (.int k), none] []
  obtain ⟨⟨h0, b0⟩, ⟨h1, b1a, b1⟩, ⟨h11, b11⟩, ⟨h14, b14⟩, ⟨h15, b15, b15n⟩, ⟨h20, b20⟩, ⟨h26, b26⟩, ⟨h27, b27⟩, ⟨h55, b55⟩, iP, iH, iHi, iHd, iC, iT, iF, iG, iS, iZ⟩ := hI
  refine n_aload_n hC dX3_feed_0 rfl ?_
  refine n_iload_n hC dX3_feed_1 rfl ?_
  refine n_iconst hC (v := nI 0) dX3_feed_2 (by decide) ?_
  refine n_iconst hC (v := nI 4) dX3_feed_3 (by decide) ?_
  refine n_callV3z hC (mt_X3_in na h (M) (k) (nI 0) (nI 4)) md_X3_in q1293 dX3_feed_4 rfl (mPut_o _ _ _) rfl rfl ⟨rfl, rfl, by decide, by decide⟩ rfl (Nat.le_of_ble_eq_true rfl) (by decide) (by decide) (fun r0 na0 h0 hp0 => ?_)
  obtain ⟨rfl, rfl, rfl⟩ := hp0
  refine n_if_neB hC (tgt := 13) dX3_feed_7 (by decide) (fun c_7 => ?_) (fun c_7 => ?_)
  · skip
    obtain ⟨z, -, hz, ez⟩ := (nrg_nn (by decide) (by decide)).mp c_7
    subst ez
    have hzc : (nI z).toNatClampNeg = z := nI_clamp (by omega)
    refine n_aload_n hC dX3_feed_13 rfl ?_
    refine m_getI hC 27 (v := nI (mN M 27)) dX3_feed_14 rfl rfl (by decide) h27 ?_
    refine n_iload_n hC dX3_feed_17 rfl ?_
    refine n_iaddN hC dX3_feed_18 rfl ?_
    refine n_bipush hC (v := nI 80) dX3_feed_19 (by decide) ?_
    refine n_icmp_leN hC (tgt := 27) dX3_feed_21 (by decide) (by omega) (by omega) (fun c_21 => ?_) (fun c_21 => ?_)
    · skip
      rcases Nat.eq_zero_or_pos z with e9 | e9
      · skip
        subst e9
        refine n_iload_n hC dX3_feed_27 rfl ?_
        refine n_iconst hC (v := nI 1) dX3_feed_28 (by decide) ?_
        refine n_isub hC dX3_feed_29 ?_
        refine n_istore_n hC dX3_feed_30 (Nat.le_of_ble_eq_true rfl) ?_
        refine n_iload_n hC dX3_feed_31 rfl ?_
        refine n_if_lt hC (tgt := 67) dX3_feed_32 (by decide) (fun c_32 => ?_) (fun c_32 => absurd c_32 (by decide))
        refine n_aload_n hC dX3_feed_67 rfl ?_
        refine m_getI hC 27 (v := nI (mN M 27)) dX3_feed_68 rfl rfl (by decide) h27 ?_
        exact n_iret hC dX3_feed_71 (by decide) (by decide) (⟨rfl, by simp only [o_feed, c_7, hzc, Bool.true_eq_false, if_false]; rw [if_neg (by omega)]; rfl, M, rfl, (by
      simp only [o_feed, c_7, hzc, Bool.true_eq_false, if_false]
      rw [if_neg (by omega), blk_0, mset_id]
      dsimp only
      refine ⟨fun k a b c d => (mset_n (fun e => by subst e; cases d)).symm, fun k a => ?_, fun i _ => rfl, fun i _ => rfl⟩
      by_cases e27 : k = 27
      · subst e27; exact h27
      · rw [mset_n e27])⟩)
      · skip
        skip
        refine n_iload_n hC dX3_feed_27 rfl ?_
        refine n_iconst hC (v := nI 1) dX3_feed_28 (by decide) ?_
        refine n_isubN hC dX3_feed_29 (by omega) rfl ?_
        refine n_istore_n hC dX3_feed_30 (Nat.le_of_ble_eq_true rfl) ?_
        have lp31 : ∀ d9 : Nat, ∀ (t : Nat) (M2 : nMem), z - t = d9 → (t ≤ z) → (mFr [30, 27] M M2) → (M2 27 0 = nI (mN M 27 + t)) → (M2 30 = blk (M 30) (mN M 27) t (byt b z)) → WN K na (mPut na h M2) 0 0 Q9 31 [some (.ref (na 61)), some (.int b), some (.int (nI z)), some (.int (pmi (z - t)))] [] := by
          intro d9
          induction d9 using Nat.strongRecOn with
          | _ d9 ih31 =>
            intro t M2 hd31 ht hF w27 w30
            refine n_iload_n hC dX3_feed_31 rfl ?_
            refine n_if_lt hC (tgt := 67) dX3_feed_32 (by decide) (fun c_32 => ?_) (fun c_32 => ?_)
            · skip
              have hq0 := pmi_z (by omega) c_32
              have ht9 : t = z := by omega
              subst ht9
              refine n_aload_n hC dX3_feed_67 rfl ?_
              refine m_getI hC 27 (v := nI (mN M 27 + t)) dX3_feed_68 rfl rfl (by decide) w27 ?_
              exact n_iret hC dX3_feed_71 (by decide) (by decide) (⟨rfl, by simp only [o_feed, c_7, hzc, Bool.true_eq_false, if_false]; rw [if_neg (by omega)], M2, rfl, (by
      simp only [o_feed, c_7, hzc, Bool.true_eq_false, if_false]
      rw [if_neg (by omega)]
      dsimp only
      refine ⟨fun k a b c d => ?_, fun k a => ?_, fun i _ => by rw [hF 28 (by decide)]; rfl, fun i _ => by rw [hF 29 (by decide)]; rfl⟩
      · by_cases e30 : k = 30
        · subst e30; exact w30
        · have e27 : k ≠ 27 := fun e => by subst e; cases d
          rw [hF k (by simp [e30, e27]), mset_n e27, mset_n e30]
      · by_cases e27 : k = 27
        · subst e27; exact w27
        · by_cases e30 : k = 30
          · subst e30; rw [w30]; rfl
          · rw [hF k (by simp [e30, e27]), mset_n e27, mset_n e30])⟩)
            · skip
              obtain ⟨q1, eq1⟩ := pmi_n c_32
              rw [eq1]
              simp only [pmi_s]
              refine n_aload_n hC dX3_feed_35 rfl ?_
              refine m_getA hC 30 dX3_feed_36 rfl rfl ?_
              refine n_aload_n hC dX3_feed_39 rfl ?_
              refine m_getI hC 27 (v := nI (mN M 27 + t)) dX3_feed_40 rfl rfl (by decide) w27 ?_
              refine n_iload_n hC dX3_feed_43 rfl ?_
              refine n_bipush hC (v := nI 8) dX3_feed_44 (by decide) ?_
              refine n_iload_n hC dX3_feed_46 rfl ?_
              refine n_imulN hC dX3_feed_47 rfl ?_
              refine n_ishr hC dX3_feed_48 ?_
              refine n_i2b hC dX3_feed_49 ?_
              refine m_astN hC 30 (M2 := mset M2 30 (upd (M2 30) (mN M 27 + t) ((b >>> ((nI (8 * q1)) &&& 31)).toInt8.toInt32))) dX3_feed_50 rfl rfl (by have h9 : mLen 30 = 80 := rfl; omega) rfl ?_
              refine n_aload_n hC dX3_feed_51 rfl ?_
              refine n_dup hC dX3_feed_52 rfl ?_
              refine m_getI hC 27 (v := nI (mN M 27 + t)) dX3_feed_53 rfl rfl (by decide) w27 ?_
              refine n_iconst hC (v := nI 1) dX3_feed_56 (by decide) ?_
              refine n_iaddN hC dX3_feed_57 rfl ?_
              refine m_putI hC 27 (M2 := mset (mset M2 30 (upd (M2 30) (mN M 27 + t) ((b >>> ((nI (8 * q1)) &&& 31)).toInt8.toInt32))) 27 (fun _ => nI (mN M 27 + t + 1))) dX3_feed_58 rfl rfl (by decide) rfl rfl rfl rfl rfl ?_
              refine n_iinc hC dX3_feed_61 (v := pmi (z - (t + 1))) rfl (by rw [show z - (t + 1) = q1 by omega]; rfl) ?_
              refine n_goto hC (tgt := 31) dX3_feed_64 (by decide) ?_
              exact WN.forget (L' := [some (.ref (na 61)), some (.int b), some (.int (nI z)), some (.int (pmi (z - (t + 1))))]) (⟨Or.inr rfl, Or.inr rfl, Or.inr rfl, Or.inr rfl, trivial⟩) (ih31 _ (by omega) (t + 1) (mset (mset M2 30 (upd (M2 30) (mN M 27 + t) ((b >>> ((nI (8 * q1)) &&& 31)).toInt8.toInt32))) 27 (fun _ => nI (mN M 27 + t + 1))) rfl (by omega) (mFr.set (by decide) (mFr.set (by decide) hF)) rfl (by show upd (M2 30) _ _ = _; rw [w30]; exact blk_u (by unfold byt; rw [show z - 1 - t = q1 by omega])))
        rw [pmi_p (show 1 ≤ z by omega)]
        exact WN.forget (L' := [some (.ref (na 61)), some (.int b), some (.int (nI z)), some (.int (pmi z))]) (⟨Or.inr rfl, Or.inr rfl, Or.inr rfl, Or.inr rfl, trivial⟩) (lp31 _ 0 M rfl (by omega) mFr.rf h27 (by rw [blk_0]))
    · skip
      refine n_bipush hC (v := (-4)) dX3_feed_24 (by decide) ?_
      exact n_iret hC dX3_feed_26 (by decide) (by decide) (⟨rfl, by simp only [o_feed, c_7, hzc, Bool.true_eq_false, if_false]; simp [c_21], M, rfl, mEq.of (by simp only [o_feed, c_7, hzc, Bool.true_eq_false, if_false]; simp [c_21])⟩)
  · skip
    refine n_bipush hC (v := (-2)) dX3_feed_10 (by decide) ?_
    exact n_iret hC dX3_feed_12 (by decide) (by decide) (⟨rfl, by simp [o_feed, c_7], M, rfl, mEq.of (by simp [o_feed, c_7])⟩)

