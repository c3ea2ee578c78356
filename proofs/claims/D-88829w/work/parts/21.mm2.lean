/-! ===== THE REFERENCE's public methods: people, ring, dance's begin and end ===== -/
set_option maxRecDepth 100000
def o_person (k r a : Int32) (M : nMem) : Int32 × nMem :=
  if nrg k (nI 0) (nI 4) = false then (-2, M) else if nrg r (nI 1) (nI 20) = false then (-2, M) else if nrg a (nI 1) (nI 9) = false then (-2, M)
  else if mN M 0 = 15 then (-4, M) else (nI (mN M 0), mset (mset (mset (mset M 2 (upd (M 2) (mN M 0) k)) 3 (upd (M 3) (mN M 0) r)) 4 (upd (M 4) (mN M 0) a)) 0 (fun _ => nI (mN M 0 + 1)))
set_option maxHeartbeats 4000000 in
set_option maxRecDepth 100000 in
theorem mt_X3_person (na : nA) (h : nH) (M : nMem) (hI : mInv M) (k r a : Int32) : nM yX3_person cX3_person 4 (some .int) (nRm 3 0 0) [.ref (na 61), .int k, .int r, .int a] na (mPut na h M) (nQi (mOp na h (o_person k r a M))) 0 0 := by
  refine nM.ofN RX3 rfl (by decide) (by intro v hv; simp only [List.mem_cons, List.not_mem_nil, or_false] at hv; rcases hv with rfl | rfl | rfl | rfl <;> rfl) (Nat.le_of_ble_eq_true rfl) (fun K hC hnm => ?_)
  show WN K na (mPut na h M) 0 0 (nE K (nQi (mOp na h (o_person k r a M))) 0 0) 0 [some (.ref (na 61)), some (.int k), some (.int r), some (.int a)] []
  let Q9 : State → Prop := nE K (nQi (mOp na h (o_person k r a M))) 0 0
  show WN K na (mPut na h M) 0 0 Q9 0 [some (.ref (na 61)), some (.int k), some (.int r), some (.int a)] []
  obtain ⟨⟨h0, b0⟩, ⟨h1, b1a, b1⟩, ⟨h11, b11⟩, ⟨h14, b14⟩, ⟨h15, b15, b15n⟩, ⟨h20, b20⟩, ⟨h26, b26⟩, ⟨h27, b27⟩, ⟨h55, b55⟩, iP, iH, iHi, iHd, iC, iT, iF, iG, iS, iZ⟩ := hI
  refine n_aload_n hC dX3_person_0 rfl ?_
  refine n_iload_n hC dX3_person_1 rfl ?_
  refine n_iconst hC (v := nI 0) dX3_person_2 (by decide) ?_
  refine n_iconst hC (v := nI 4) dX3_person_3 (by decide) ?_
  refine n_callV3z hC (mt_X3_in na h (M) (k) (nI 0) (nI 4)) md_X3_in q1293 dX3_person_4 rfl (mPut_o _ _ _) rfl rfl ⟨rfl, rfl, by decide, by decide⟩ rfl (Nat.le_of_ble_eq_true rfl) (by decide) (by decide) (fun r0 na0 h0 hp0 => ?_)
  obtain ⟨rfl, rfl, rfl⟩ := hp0
  refine n_if_eqB hC (tgt := 32) dX3_person_7 (by decide) (fun c_7 => ?_) (fun c_7 => ?_)
  · skip
    refine n_bipush hC (v := (-2)) dX3_person_32 (by decide) ?_
    exact n_iret hC dX3_person_34 (by decide) (by decide) (⟨rfl, by simp [o_person, c_7], M, rfl, mEq.of (by simp [o_person, c_7])⟩)
  · skip
    refine n_aload_n hC dX3_person_10 rfl ?_
    refine n_iload_n hC dX3_person_11 rfl ?_
    refine n_iconst hC (v := nI 1) dX3_person_12 (by decide) ?_
    refine n_bipush hC (v := nI 20) dX3_person_13 (by decide) ?_
    refine n_callV3z hC (mt_X3_in na h (M) (r) (nI 1) (nI 20)) md_X3_in q1293 dX3_person_15 rfl (mPut_o _ _ _) rfl rfl ⟨rfl, rfl, by decide, by decide⟩ rfl (Nat.le_of_ble_eq_true rfl) (by decide) (by decide) (fun r1 na1 h1 hp1 => ?_)
    obtain ⟨rfl, rfl, rfl⟩ := hp1
    refine n_if_eqB hC (tgt := 32) dX3_person_18 (by decide) (fun c_18 => ?_) (fun c_18 => ?_)
    · skip
      refine n_bipush hC (v := (-2)) dX3_person_32 (by decide) ?_
      exact n_iret hC dX3_person_34 (by decide) (by decide) (⟨rfl, by simp [o_person, c_7, c_18], M, rfl, mEq.of (by simp [o_person, c_7, c_18])⟩)
    · skip
      refine n_aload_n hC dX3_person_21 rfl ?_
      refine n_iload_n hC dX3_person_22 rfl ?_
      refine n_iconst hC (v := nI 1) dX3_person_23 (by decide) ?_
      refine n_bipush hC (v := nI 9) dX3_person_24 (by decide) ?_
      refine n_callV3z hC (mt_X3_in na h (M) (a) (nI 1) (nI 9)) md_X3_in q1293 dX3_person_26 rfl (mPut_o _ _ _) rfl rfl ⟨rfl, rfl, by decide, by decide⟩ rfl (Nat.le_of_ble_eq_true rfl) (by decide) (by decide) (fun r2 na2 h2 hp2 => ?_)
      obtain ⟨rfl, rfl, rfl⟩ := hp2
      refine n_if_neB hC (tgt := 35) dX3_person_29 (by decide) (fun c_29 => ?_) (fun c_29 => ?_)
      · skip
        refine n_aload_n hC dX3_person_35 rfl ?_
        refine m_getI hC 0 (v := nI (mN M 0)) dX3_person_36 rfl rfl (by decide) h0 ?_
        refine n_bipush hC (v := nI 15) dX3_person_39 (by decide) ?_
        refine n_icmp_neN hC (tgt := 47) dX3_person_41 (by decide) (by omega) (by omega) (fun c_41 => ?_) (fun c_41 => ?_)
        · skip
          refine n_aload_n hC dX3_person_47 rfl ?_
          refine m_getA hC 2 dX3_person_48 rfl rfl ?_
          refine n_aload_n hC dX3_person_51 rfl ?_
          refine m_getI hC 0 (v := nI (mN M 0)) dX3_person_52 rfl rfl (by decide) h0 ?_
          refine n_iload_n hC dX3_person_55 rfl ?_
          refine m_astN hC 2 (M2 := mset M 2 (upd (M 2) (mN M 0) k)) dX3_person_56 rfl rfl (by have h9 : mLen 2 = 15 := rfl; omega) rfl ?_
          refine n_aload_n hC dX3_person_57 rfl ?_
          refine m_getA hC 3 dX3_person_58 rfl rfl ?_
          refine n_aload_n hC dX3_person_61 rfl ?_
          refine m_getI hC 0 (v := nI (mN M 0)) dX3_person_62 rfl rfl (by decide) h0 ?_
          refine n_iload_n hC dX3_person_65 rfl ?_
          refine m_astN hC 3 (M2 := mset (mset M 2 (upd (M 2) (mN M 0) k)) 3 (upd (M 3) (mN M 0) r)) dX3_person_66 rfl rfl (by have h9 : mLen 3 = 15 := rfl; omega) rfl ?_
          refine n_aload_n hC dX3_person_67 rfl ?_
          refine m_getA hC 4 dX3_person_68 rfl rfl ?_
          refine n_aload_n hC dX3_person_71 rfl ?_
          refine m_getI hC 0 (v := nI (mN M 0)) dX3_person_72 rfl rfl (by decide) h0 ?_
          refine n_iload_n hC dX3_person_75 rfl ?_
          refine m_astN hC 4 (M2 := mset (mset (mset M 2 (upd (M 2) (mN M 0) k)) 3 (upd (M 3) (mN M 0) r)) 4 (upd (M 4) (mN M 0) a)) dX3_person_76 rfl rfl (by have h9 : mLen 4 = 15 := rfl; omega) rfl ?_
          refine n_aload_n hC dX3_person_77 rfl ?_
          refine n_dup hC dX3_person_78 rfl ?_
          refine m_getI hC 0 (v := nI (mN M 0)) dX3_person_79 rfl rfl (by decide) h0 ?_
          refine n_iconst hC (v := nI 1) dX3_person_82 (by decide) ?_
          refine n_iaddN hC dX3_person_83 rfl ?_
          refine m_putI hC 0 (M2 := mset (mset (mset (mset M 2 (upd (M 2) (mN M 0) k)) 3 (upd (M 3) (mN M 0) r)) 4 (upd (M 4) (mN M 0) a)) 0 (fun _ => nI (mN M 0 + 1))) dX3_person_84 rfl rfl (by decide) rfl rfl rfl rfl rfl ?_
          refine n_aload_n hC dX3_person_87 rfl ?_
          refine m_getI hC 0 (v := nI (mN M 0 + 1)) dX3_person_88 rfl rfl (by decide) rfl ?_
          refine n_iconst hC (v := nI 1) dX3_person_91 (by decide) ?_
          refine n_isubN hC dX3_person_92 (by omega) rfl ?_
          exact n_iret hC dX3_person_93 (by decide) (by decide) (⟨rfl, by simp [o_person, c_7, c_18, c_29, c_41], mset (mset (mset (mset M 2 (upd (M 2) (mN M 0) k)) 3 (upd (M 3) (mN M 0) r)) 4 (upd (M 4) (mN M 0) a)) 0 (fun _ => nI (mN M 0 + 1)), rfl, mEq.of (by simp [o_person, c_7, c_18, c_29, c_41])⟩)
        · skip
          refine n_bipush hC (v := (-4)) dX3_person_44 (by decide) ?_
          exact n_iret hC dX3_person_46 (by decide) (by decide) (⟨rfl, by simp [o_person, c_7, c_18, c_29, c_41], M, rfl, mEq.of (by simp [o_person, c_7, c_18, c_29, c_41])⟩)
      · skip
        refine n_bipush hC (v := (-2)) dX3_person_32 (by decide) ?_
        exact n_iret hC dX3_person_34 (by decide) (by decide) (⟨rfl, by simp [o_person, c_7, c_18, c_29], M, rfl, mEq.of (by simp [o_person, c_7, c_18, c_29])⟩)

def o_ring (m : Int32) (M : nMem) : Int32 × nMem :=
  if nrg m (nI 3) (nI 9) = false then (-2, M) else if mB M 11 = true then (-3, M)
  else (nI 1, mset (mset (mset (mset (mset (mset (mset (mset M 1 (fun _ => m)) 14 (fun _ => nI 0)) 15 (fun _ => nI 0)) 5 (fil (fun _ => -5) (M 5) 9)) 6 (fil nI (M 6) 9)) 7 (fil (fun _ => nI 0) (M 7) 9)) 8 (fil (fun _ => nI 0) (M 8) 9)) 17 (fil (fun _ => nI 0) (M 17) 9))
set_option maxHeartbeats 4000000 in
set_option maxRecDepth 100000 in
theorem mt_X3_ring (na : nA) (h : nH) (M : nMem) (hI : mInv M) (m : Int32) : nM yX3_ring cX3_ring 3 (some .int) (nRm 3 0 0) [.ref (na 61), .int m] na (mPut na h M) (nQi (mOp na h (o_ring m M))) 0 0 := by
  refine nM.ofN RX3 rfl (by decide) (by intro v hv; simp only [List.mem_cons, List.not_mem_nil, or_false] at hv; rcases hv with rfl | rfl <;> rfl) (Nat.le_of_ble_eq_true rfl) (fun K hC hnm => ?_)
  show WN K na (mPut na h M) 0 0 (nE K (nQi (mOp na h (o_ring m M))) 0 0) 0 [some (.ref (na 61)), some (.int m), none] []
  let Q9 : State → Prop := nE K (nQi (mOp na h (o_ring m M))) 0 0
  show WN K na (mPut na h M) 0 0 Q9 0 [some (.ref (na 61)), some (.int m), none] []
  obtain ⟨⟨h0, b0⟩, ⟨h1, b1a, b1⟩, ⟨h11, b11⟩, ⟨h14, b14⟩, ⟨h15, b15, b15n⟩, ⟨h20, b20⟩, ⟨h26, b26⟩, ⟨h27, b27⟩, ⟨h55, b55⟩, iP, iH, iHi, iHd, iC, iT, iF, iG, iS, iZ⟩ := hI
  refine n_aload_n hC dX3_ring_0 rfl ?_
  refine n_iload_n hC dX3_ring_1 rfl ?_
  refine n_iconst hC (v := nI 3) dX3_ring_2 (by decide) ?_
  refine n_bipush hC (v := nI 9) dX3_ring_3 (by decide) ?_
  refine n_callV3z hC (mt_X3_in na h (M) (m) (nI 3) (nI 9)) md_X3_in q1293 dX3_ring_5 rfl (mPut_o _ _ _) rfl rfl ⟨rfl, rfl, by decide, by decide⟩ rfl (Nat.le_of_ble_eq_true rfl) (by decide) (by decide) (fun r0 na0 h0 hp0 => ?_)
  obtain ⟨rfl, rfl, rfl⟩ := hp0
  refine n_if_neB hC (tgt := 14) dX3_ring_8 (by decide) (fun c_8 => ?_) (fun c_8 => ?_)
  · skip
    refine n_aload_n hC dX3_ring_14 rfl ?_
    refine m_getI hC 11 (v := nbo (mB M 11)) dX3_ring_15 rfl rfl (by decide) h11 ?_
    refine n_if_eqB hC (tgt := 24) dX3_ring_18 (by decide) (fun c_18 => ?_) (fun c_18 => ?_)
    · skip
      refine n_aload_n hC dX3_ring_24 rfl ?_
      refine n_iload_n hC dX3_ring_25 rfl ?_
      refine m_putI hC 1 (M2 := mset M 1 (fun _ => m)) dX3_ring_26 rfl rfl (by decide) rfl rfl rfl rfl rfl ?_
      refine n_aload_n hC dX3_ring_29 rfl ?_
      refine n_iconst hC (v := nI 0) dX3_ring_30 (by decide) ?_
      refine m_putI hC 14 (M2 := mset (mset M 1 (fun _ => m)) 14 (fun _ => nI 0)) dX3_ring_31 rfl rfl (by decide) rfl rfl rfl rfl rfl ?_
      refine n_aload_n hC dX3_ring_34 rfl ?_
      refine n_iconst hC (v := nI 0) dX3_ring_35 (by decide) ?_
      refine m_putI hC 15 (M2 := mset (mset (mset M 1 (fun _ => m)) 14 (fun _ => nI 0)) 15 (fun _ => nI 0)) dX3_ring_36 rfl rfl (by decide) rfl rfl rfl rfl rfl ?_
      refine n_iconst hC (v := nI 0) dX3_ring_39 (by decide) ?_
      refine n_istore_n hC dX3_ring_40 (Nat.le_of_ble_eq_true rfl) ?_
      have lp41 : ∀ d9 : Nat, ∀ (i : Nat) (M2 : nMem), 9 - i = d9 → (i ≤ 9) → (mFr [5, 6, 7, 8, 17] (mset (mset (mset M 1 (fun _ => m)) 14 (fun _ => nI 0)) 15 (fun _ => nI 0)) M2) → (M2 5 = fil (fun p => -5) (M 5) i) → (M2 6 = fil (fun p => nI p) (M 6) i) → (M2 7 = fil (fun p => nI 0) (M 7) i) → (M2 8 = fil (fun p => nI 0) (M 8) i) → (M2 17 = fil (fun p => nI 0) (M 17) i) → WN K na (mPut na h M2) 0 0 Q9 41 [some (.ref (na 61)), some (.int m), some (.int (nI i))] [] := by
        intro d9
        induction d9 using Nat.strongRecOn with
        | _ d9 ih41 =>
          intro i M2 hd41 hi hF w5 w6 w7 w8 w17
          refine n_iload_n hC dX3_ring_41 rfl ?_
          refine n_bipush hC (v := nI 9) dX3_ring_42 (by decide) ?_
          refine n_icmp_geN hC (tgt := 89) dX3_ring_44 (by decide) (by omega) (by omega) (fun c_44 => ?_) (fun c_44 => ?_)
          · skip
            have hi9 : i = 9 := by omega
            subst hi9
            refine n_iconst hC (v := nI 1) dX3_ring_89 (by decide) ?_
            exact n_iret hC dX3_ring_90 (by decide) (by decide) (⟨rfl, by simp [o_ring, c_8, c_18], M2, rfl, mEq.of (by
      simp only [o_ring, c_8, c_18, if_false, Bool.false_eq_true, Bool.true_eq_false]
      funext k
      by_cases e5 : k = 5
      · subst e5; rw [w5]; rfl
      · by_cases e6 : k = 6
        · subst e6; rw [w6]; rfl
        · by_cases e7 : k = 7
          · subst e7; rw [w7]; rfl
          · by_cases e8 : k = 8
            · subst e8; rw [w8]; rfl
            · by_cases e17 : k = 17
              · subst e17; rw [w17]; rfl
              · rw [hF k (by simp [e5, e6, e7, e8, e17])]; simp [mset, e5, e6, e7, e8, e17])⟩)
          · skip
            refine n_aload_n hC dX3_ring_47 rfl ?_
            refine m_getA hC 5 dX3_ring_48 rfl rfl ?_
            refine n_iload_n hC dX3_ring_51 rfl ?_
            refine n_bipush hC (v := (-5)) dX3_ring_52 (by decide) ?_
            refine m_astN hC 5 (M2 := mset M2 5 (upd (M2 5) i (-5))) dX3_ring_54 rfl rfl (by have h9 : mLen 5 = 9 := rfl; omega) rfl ?_
            refine n_aload_n hC dX3_ring_55 rfl ?_
            refine m_getA hC 6 dX3_ring_56 rfl rfl ?_
            refine n_iload_n hC dX3_ring_59 rfl ?_
            refine n_iload_n hC dX3_ring_60 rfl ?_
            refine m_astN hC 6 (M2 := mset (mset M2 5 (upd (M2 5) i (-5))) 6 (upd (M2 6) i (nI i))) dX3_ring_61 rfl rfl (by have h9 : mLen 6 = 9 := rfl; omega) rfl ?_
            refine n_aload_n hC dX3_ring_62 rfl ?_
            refine m_getA hC 7 dX3_ring_63 rfl rfl ?_
            refine n_iload_n hC dX3_ring_66 rfl ?_
            refine n_iconst hC (v := nI 0) dX3_ring_67 (by decide) ?_
            refine m_astN hC 7 (M2 := mset (mset (mset M2 5 (upd (M2 5) i (-5))) 6 (upd (M2 6) i (nI i))) 7 (upd (M2 7) i (nI 0))) dX3_ring_68 rfl rfl (by have h9 : mLen 7 = 9 := rfl; omega) rfl ?_
            refine n_aload_n hC dX3_ring_69 rfl ?_
            refine m_getA hC 8 dX3_ring_70 rfl rfl ?_
            refine n_iload_n hC dX3_ring_73 rfl ?_
            refine n_iconst hC (v := nI 0) dX3_ring_74 (by decide) ?_
            refine m_astN hC 8 (M2 := mset (mset (mset (mset M2 5 (upd (M2 5) i (-5))) 6 (upd (M2 6) i (nI i))) 7 (upd (M2 7) i (nI 0))) 8 (upd (M2 8) i (nI 0))) dX3_ring_75 rfl rfl (by have h9 : mLen 8 = 9 := rfl; omega) rfl ?_
            refine n_aload_n hC dX3_ring_76 rfl ?_
            refine m_getA hC 17 dX3_ring_77 rfl rfl ?_
            refine n_iload_n hC dX3_ring_80 rfl ?_
            refine n_iconst hC (v := nI 0) dX3_ring_81 (by decide) ?_
            refine m_astN hC 17 (M2 := mset (mset (mset (mset (mset M2 5 (upd (M2 5) i (-5))) 6 (upd (M2 6) i (nI i))) 7 (upd (M2 7) i (nI 0))) 8 (upd (M2 8) i (nI 0))) 17 (upd (M2 17) i (nI 0))) dX3_ring_82 rfl rfl (by have h9 : mLen 17 = 9 := rfl; omega) rfl ?_
            refine n_iincN hC dX3_ring_83 (j := 1) (c := i + 1) rfl (by decide) rfl ?_
            refine n_goto hC (tgt := 41) dX3_ring_86 (by decide) ?_
            exact WN.forget (L' := [some (.ref (na 61)), some (.int m), some (.int (nI (i + 1)))]) (⟨Or.inr rfl, Or.inr rfl, Or.inr rfl, trivial⟩) (ih41 _ (by omega) (i + 1) (mset (mset (mset (mset (mset M2 5 (upd (M2 5) i (-5))) 6 (upd (M2 6) i (nI i))) 7 (upd (M2 7) i (nI 0))) 8 (upd (M2 8) i (nI 0))) 17 (upd (M2 17) i (nI 0))) rfl (by omega) (mFr.set (by decide) (mFr.set (by decide) (mFr.set (by decide) (mFr.set (by decide) (mFr.set (by decide) hF))))) (by show upd (M2 5) i _ = _; rw [w5]; exact fil_u rfl) (by show upd (M2 6) i _ = _; rw [w6]; exact fil_u rfl) (by show upd (M2 7) i _ = _; rw [w7]; exact fil_u rfl) (by show upd (M2 8) i _ = _; rw [w8]; exact fil_u rfl) (by show upd (M2 17) i _ = _; rw [w17]; exact fil_u rfl))
      exact WN.forget (L' := [some (.ref (na 61)), some (.int m), some (.int (nI 0))]) (⟨Or.inr rfl, Or.inr rfl, Or.inr rfl, trivial⟩) (lp41 _ 0 (mset (mset (mset M 1 (fun _ => m)) 14 (fun _ => nI 0)) 15 (fun _ => nI 0)) rfl (by omega) mFr.rf (by rw [fil_0]; rfl) (by rw [fil_0]; rfl) (by rw [fil_0]; rfl) (by rw [fil_0]; rfl) (by rw [fil_0]; rfl))
    · skip
      refine n_bipush hC (v := (-3)) dX3_ring_21 (by decide) ?_
      exact n_iret hC dX3_ring_23 (by decide) (by decide) (⟨rfl, by simp [o_ring, c_8, c_18], M, rfl, mEq.of (by simp [o_ring, c_8, c_18])⟩)
  · skip
    refine n_bipush hC (v := (-2)) dX3_ring_11 (by decide) ?_
    exact n_iret hC dX3_ring_13 (by decide) (by decide) (⟨rfl, by simp [o_ring, c_8], M, rfl, mEq.of (by simp [o_ring, c_8])⟩)

/-- whether any of who's first n stands as x -/
def mHas (f : Nat → Int32) (x : Int32) (n : Nat) : Prop := ∃ p, p < n ∧ f p = x
noncomputable def o_stand (p x : Int32) (M : nMem) : Int32 × nMem :=
  if nin p (mN M 1) = false then (-1, M) else if nin x (mN M 0) = false then (-1, M) else if mB M 11 = true then (-3, M)
  else @ite _ (mHas (M 5) x (mN M 1)) (Classical.propDecidable _) (-3, M) (if M 2 x.toNatClampNeg = nI 4 then (-12, M) else (M 5 p.toNatClampNeg, mset M 5 (upd (M 5) p.toNatClampNeg x)))
set_option maxHeartbeats 4000000 in
set_option maxRecDepth 100000 in
theorem mt_X3_stand (na : nA) (h : nH) (M : nMem) (hI : mInv M) (p x : Int32) : nM yX3_stand cX3_stand 4 (some .int) (nRm 3 0 0) [.ref (na 61), .int p, .int x] na (mPut na h M) (nQi (mOp na h (o_stand p x M))) 0 0 := by
  refine nM.ofN RX3 rfl (by decide) (by intro v hv; simp only [List.mem_cons, List.not_mem_nil, or_false] at hv; rcases hv with rfl | rfl | rfl <;> rfl) (Nat.le_of_ble_eq_true rfl) (fun K hC hnm => ?_)
  show WN K na (mPut na h M) 0 0 (nE K (nQi (mOp na h (o_stand p x M))) 0 0) 0 [some (.ref (na 61)), some (.int p), some (.int x), none] []
  let Q9 : State → Prop := nE K (nQi (mOp na h (o_stand p x M))) 0 0
  show WN K na (mPut na h M) 0 0 Q9 0 [some (.ref (na 61)), some (.int p), some (.int x), none] []
  obtain ⟨⟨h0, b0⟩, ⟨h1, b1a, b1⟩, ⟨h11, b11⟩, ⟨h14, b14⟩, ⟨h15, b15, b15n⟩, ⟨h20, b20⟩, ⟨h26, b26⟩, ⟨h27, b27⟩, ⟨h55, b55⟩, iP, iH, iHi, iHd, iC, iT, iF, iG, iS, iZ⟩ := hI
  refine n_aload_n hC dX3_stand_0 rfl ?_
  refine n_iload_n hC dX3_stand_1 rfl ?_
  refine n_callV1z hC (mt_X3_isPlace na h (M) (p) (n := mN M 1) h1 (by omega)) md_X3_isPlace q1305 dX3_stand_2 rfl (mPut_o _ _ _) rfl rfl ⟨rfl, rfl, by decide, by decide⟩ rfl (Nat.le_of_ble_eq_true rfl) (by decide) (by decide) (fun r0 na0 h0 hp0 => ?_)
  obtain ⟨rfl, rfl, rfl⟩ := hp0
  refine n_if_eqB hC (tgt := 16) dX3_stand_5 (by decide) (fun c_5 => ?_) (fun c_5 => ?_)
  · skip
    refine n_iconst hC (v := (-1)) dX3_stand_16 (by decide) ?_
    exact n_iret hC dX3_stand_17 (by decide) (by decide) (⟨rfl, by simp [o_stand, c_5], M, rfl, mEq.of (by simp [o_stand, c_5])⟩)
  · skip
    refine n_aload_n hC dX3_stand_8 rfl ?_
    refine n_iload_n hC dX3_stand_9 rfl ?_
    refine n_callV1z hC (mt_X3_isPerson na h (M) (x) (n := mN M 0) h0 (by omega)) md_X3_isPerson q1309 dX3_stand_10 rfl (mPut_o _ _ _) rfl rfl ⟨rfl, rfl, by decide, by decide⟩ rfl (Nat.le_of_ble_eq_true rfl) (by decide) (by decide) (fun r1 na1 h1 hp1 => ?_)
    obtain ⟨rfl, rfl, rfl⟩ := hp1
    refine n_if_neB hC (tgt := 18) dX3_stand_13 (by decide) (fun c_13 => ?_) (fun c_13 => ?_)
    · skip
      refine n_aload_n hC dX3_stand_18 rfl ?_
      refine m_getI hC 11 (v := nbo (mB M 11)) dX3_stand_19 rfl rfl (by decide) h11 ?_
      refine n_if_eqB hC (tgt := 28) dX3_stand_22 (by decide) (fun c_22 => ?_) (fun c_22 => ?_)
      · skip
        obtain ⟨j, hj, ej⟩ := (nin_t (by omega)).mp c_5
        obtain ⟨z, hz, ez⟩ := (nin_t (by omega)).mp c_13
        subst ej
        subst ez
        refine n_iconst hC (v := nI 0) dX3_stand_28 (by decide) ?_
        refine n_istore_n hC dX3_stand_29 (Nat.le_of_ble_eq_true rfl) ?_
        have lp30 : ∀ d9 : Nat, ∀ (i : Nat), mN M 1 - i = d9 → (i ≤ mN M 1) → (∀ q, q < i → M 5 q ≠ nI z) → WN K na (mPut na h M) 0 0 Q9 30 [some (.ref (na 61)), some (.int (nI j)), some (.int (nI z)), some (.int (nI i))] [] := by
          intro d9
          induction d9 using Nat.strongRecOn with
          | _ d9 ih30 =>
            intro i hd30 hi hN
            refine n_iload_n hC dX3_stand_30 rfl ?_
            refine n_aload_n hC dX3_stand_31 rfl ?_
            refine m_getI hC 1 (v := nI (mN M 1)) dX3_stand_32 rfl rfl (by decide) h1 ?_
            refine n_icmp_geN hC (tgt := 57) dX3_stand_35 (by decide) (by omega) (by omega) (fun c_35 => ?_) (fun c_35 => ?_)
            · skip
              have hh : ¬ mHas (M 5) (nI z) (mN M 1) := fun ⟨q, hq, eq⟩ => hN q (by omega) eq
              refine n_aload_n hC dX3_stand_57 rfl ?_
              refine m_getA hC 2 dX3_stand_58 rfl rfl ?_
              refine n_iload_n hC dX3_stand_61 rfl ?_
              refine m_aldN hC 2 (v := M 2 z) dX3_stand_62 rfl rfl (by have h9 : mLen 2 = 15 := rfl; omega) rfl ?_
              refine n_iconst hC (v := nI 4) dX3_stand_63 (by decide) ?_
              refine n_icmp_ne hC (tgt := 70) dX3_stand_64 (by decide) (fun c_64 => ?_) (fun c_64 => ?_)
              · skip
                refine n_aload_n hC dX3_stand_70 rfl ?_
                refine m_getA hC 5 dX3_stand_71 rfl rfl ?_
                refine n_iload_n hC dX3_stand_74 rfl ?_
                refine m_aldN hC 5 (v := M 5 j) dX3_stand_75 rfl rfl (by have h9 : mLen 5 = 9 := rfl; omega) rfl ?_
                refine n_istore_n hC dX3_stand_76 (Nat.le_of_ble_eq_true rfl) ?_
                refine n_aload_n hC dX3_stand_77 rfl ?_
                refine m_getA hC 5 dX3_stand_78 rfl rfl ?_
                refine n_iload_n hC dX3_stand_81 rfl ?_
                refine n_iload_n hC dX3_stand_82 rfl ?_
                refine m_astN hC 5 (M2 := mset M 5 (upd (M 5) j (nI z))) dX3_stand_83 rfl rfl (by have h9 : mLen 5 = 9 := rfl; omega) rfl ?_
                refine n_iload_n hC dX3_stand_84 rfl ?_
                exact n_iret hC dX3_stand_85 (by decide) (by decide) (⟨rfl, by simp [o_stand, c_5, c_13, c_22, hh, nI_clamp (show z < 2 ^ 31 by omega), nI_clamp (show j < 2 ^ 31 by omega), c_64], mset M 5 (upd (M 5) j (nI z)), rfl, mEq.of (by simp [o_stand, c_5, c_13, c_22, hh, nI_clamp (show z < 2 ^ 31 by omega), nI_clamp (show j < 2 ^ 31 by omega), c_64])⟩)
              · skip
                refine n_bipush hC (v := (-12)) dX3_stand_67 (by decide) ?_
                exact n_iret hC dX3_stand_69 (by decide) (by decide) (⟨rfl, by simp [o_stand, c_5, c_13, c_22, hh, nI_clamp (show z < 2 ^ 31 by omega), c_64], M, rfl, mEq.of (by simp [o_stand, c_5, c_13, c_22, hh, nI_clamp (show z < 2 ^ 31 by omega), c_64])⟩)
            · skip
              refine n_aload_n hC dX3_stand_38 rfl ?_
              refine m_getA hC 5 dX3_stand_39 rfl rfl ?_
              refine n_iload_n hC dX3_stand_42 rfl ?_
              refine m_aldN hC 5 (v := M 5 i) dX3_stand_43 rfl rfl (by have h9 : mLen 5 = 9 := rfl; omega) rfl ?_
              refine n_iload_n hC dX3_stand_44 rfl ?_
              refine n_icmp_ne hC (tgt := 51) dX3_stand_45 (by decide) (fun c_45 => ?_) (fun c_45 => ?_)
              · skip
                refine n_iincN hC dX3_stand_51 (j := 1) (c := i + 1) rfl (by decide) rfl ?_
                refine n_goto hC (tgt := 30) dX3_stand_54 (by decide) ?_
                exact WN.forget (L' := [some (.ref (na 61)), some (.int (nI j)), some (.int (nI z)), some (.int (nI (i + 1)))]) (⟨Or.inr rfl, Or.inr rfl, Or.inr rfl, Or.inr rfl, trivial⟩) (ih30 _ (by omega) (i + 1) rfl (by omega) (lt_s hN (by assumption)))
              · skip
                refine n_bipush hC (v := (-3)) dX3_stand_48 (by decide) ?_
                exact n_iret hC dX3_stand_50 (by decide) (by decide) (by have hh : mHas (M 5) (nI z) (mN M 1) := ⟨i, by omega, by assumption⟩; exact ⟨rfl, by simp [o_stand, c_5, c_13, c_22, hh], M, rfl, mEq.of (by simp [o_stand, c_5, c_13, c_22, hh])⟩)
        exact WN.forget (L' := [some (.ref (na 61)), some (.int (nI j)), some (.int (nI z)), some (.int (nI 0))]) (⟨Or.inr rfl, Or.inr rfl, Or.inr rfl, Or.inr rfl, trivial⟩) (lp30 _ 0 rfl (by omega) lt_0)
      · skip
        refine n_bipush hC (v := (-3)) dX3_stand_25 (by decide) ?_
        exact n_iret hC dX3_stand_27 (by decide) (by decide) (⟨rfl, by simp [o_stand, c_5, c_13, c_22], M, rfl, mEq.of (by simp [o_stand, c_5, c_13, c_22])⟩)
    · skip
      refine n_iconst hC (v := (-1)) dX3_stand_16 (by decide) ?_
      exact n_iret hC dX3_stand_17 (by decide) (by decide) (⟨rfl, by simp [o_stand, c_5, c_13], M, rfl, mEq.of (by simp [o_stand, c_5, c_13])⟩)

def o_ribbon (p c l : Int32) (M : nMem) : Int32 × nMem :=
  if nin p (mN M 1) = false then (-1, M) else if nrg c (nI 0) (nI 7) = false then (-2, M) else if nrg l (nI 0) 99999 = false then (-2, M) else if mB M 11 = true then (-3, M)
  else (nI 1, mset (mset M 7 (upd (M 7) p.toNatClampNeg c)) 8 (upd (M 8) p.toNatClampNeg l))
set_option maxHeartbeats 4000000 in
set_option maxRecDepth 100000 in
theorem mt_X3_ribbon (na : nA) (h : nH) (M : nMem) (hI : mInv M) (p c l : Int32) : nM yX3_ribbon cX3_ribbon 4 (some .int) (nRm 3 0 0) [.ref (na 61), .int p, .int c, .int l] na (mPut na h M) (nQi (mOp na h (o_ribbon p c l M))) 0 0 := by
  refine nM.ofN RX3 rfl (by decide) (by intro v hv; simp only [List.mem_cons, List.not_mem_nil, or_false] at hv; rcases hv with rfl | rfl | rfl | rfl <;> rfl) (Nat.le_of_ble_eq_true rfl) (fun K hC hnm => ?_)
  show WN K na (mPut na h M) 0 0 (nE K (nQi (mOp na h (o_ribbon p c l M))) 0 0) 0 [some (.ref (na 61)), some (.int p), some (.int c), some (.int l)] []
  let Q9 : State → Prop := nE K (nQi (mOp na h (o_ribbon p c l M))) 0 0
  show WN K na (mPut na h M) 0 0 Q9 0 [some (.ref (na 61)), some (.int p), some (.int c), some (.int l)] []
  obtain ⟨⟨h0, b0⟩, ⟨h1, b1a, b1⟩, ⟨h11, b11⟩, ⟨h14, b14⟩, ⟨h15, b15, b15n⟩, ⟨h20, b20⟩, ⟨h26, b26⟩, ⟨h27, b27⟩, ⟨h55, b55⟩, iP, iH, iHi, iHd, iC, iT, iF, iG, iS, iZ⟩ := hI
  refine n_aload_n hC dX3_ribbon_0 rfl ?_
  refine n_iload_n hC dX3_ribbon_1 rfl ?_
  refine n_callV1z hC (mt_X3_isPlace na h (M) (p) (n := mN M 1) h1 (by omega)) md_X3_isPlace q1305 dX3_ribbon_2 rfl (mPut_o _ _ _) rfl rfl ⟨rfl, rfl, by decide, by decide⟩ rfl (Nat.le_of_ble_eq_true rfl) (by decide) (by decide) (fun r0 na0 h0 hp0 => ?_)
  obtain ⟨rfl, rfl, rfl⟩ := hp0
  refine n_if_neB hC (tgt := 10) dX3_ribbon_5 (by decide) (fun c_5 => ?_) (fun c_5 => ?_)
  · skip
    refine n_aload_n hC dX3_ribbon_10 rfl ?_
    refine n_iload_n hC dX3_ribbon_11 rfl ?_
    refine n_iconst hC (v := nI 0) dX3_ribbon_12 (by decide) ?_
    refine n_bipush hC (v := nI 7) dX3_ribbon_13 (by decide) ?_
    refine n_callV3z hC (mt_X3_in na h (M) (c) (nI 0) (nI 7)) md_X3_in q1293 dX3_ribbon_15 rfl (mPut_o _ _ _) rfl rfl ⟨rfl, rfl, by decide, by decide⟩ rfl (Nat.le_of_ble_eq_true rfl) (by decide) (by decide) (fun r1 na1 h1 hp1 => ?_)
    obtain ⟨rfl, rfl, rfl⟩ := hp1
    refine n_if_eqB hC (tgt := 32) dX3_ribbon_18 (by decide) (fun c_18 => ?_) (fun c_18 => ?_)
    · skip
      refine n_bipush hC (v := (-2)) dX3_ribbon_32 (by decide) ?_
      exact n_iret hC dX3_ribbon_34 (by decide) (by decide) (⟨rfl, by simp [o_ribbon, c_5, c_18], M, rfl, mEq.of (by simp [o_ribbon, c_5, c_18])⟩)
    · skip
      refine n_aload_n hC dX3_ribbon_21 rfl ?_
      refine n_iload_n hC dX3_ribbon_22 rfl ?_
      refine n_iconst hC (v := nI 0) dX3_ribbon_23 (by decide) ?_
      refine n_ldc hC q1317 dX3_ribbon_24 ?_
      refine n_callV3z hC (mt_X3_in na h (M) (l) (nI 0) (99999)) md_X3_in q1293 dX3_ribbon_26 rfl (mPut_o _ _ _) rfl rfl ⟨rfl, rfl, by decide, by decide⟩ rfl (Nat.le_of_ble_eq_true rfl) (by decide) (by decide) (fun r2 na2 h2 hp2 => ?_)
      obtain ⟨rfl, rfl, rfl⟩ := hp2
      refine n_if_neB hC (tgt := 35) dX3_ribbon_29 (by decide) (fun c_29 => ?_) (fun c_29 => ?_)
      · skip
        refine n_aload_n hC dX3_ribbon_35 rfl ?_
        refine m_getI hC 11 (v := nbo (mB M 11)) dX3_ribbon_36 rfl rfl (by decide) h11 ?_
        refine n_if_eqB hC (tgt := 45) dX3_ribbon_39 (by decide) (fun c_39 => ?_) (fun c_39 => ?_)
        · skip
          obtain ⟨j, hj, ej⟩ := (nin_t (by omega)).mp c_5
          subst ej
          refine n_aload_n hC dX3_ribbon_45 rfl ?_
          refine m_getA hC 7 dX3_ribbon_46 rfl rfl ?_
          refine n_iload_n hC dX3_ribbon_49 rfl ?_
          refine n_iload_n hC dX3_ribbon_50 rfl ?_
          refine m_astN hC 7 (M2 := mset M 7 (upd (M 7) j c)) dX3_ribbon_51 rfl rfl (by have h9 : mLen 7 = 9 := rfl; omega) rfl ?_
          refine n_aload_n hC dX3_ribbon_52 rfl ?_
          refine m_getA hC 8 dX3_ribbon_53 rfl rfl ?_
          refine n_iload_n hC dX3_ribbon_56 rfl ?_
          refine n_iload_n hC dX3_ribbon_57 rfl ?_
          refine m_astN hC 8 (M2 := mset (mset M 7 (upd (M 7) j c)) 8 (upd (M 8) j l)) dX3_ribbon_58 rfl rfl (by have h9 : mLen 8 = 9 := rfl; omega) rfl ?_
          refine n_iconst hC (v := nI 1) dX3_ribbon_59 (by decide) ?_
          exact n_iret hC dX3_ribbon_60 (by decide) (by decide) (⟨rfl, by simp [o_ribbon, c_5, c_18, c_29, c_39, nI_clamp (show j < 2 ^ 31 by omega)], mset (mset M 7 (upd (M 7) j c)) 8 (upd (M 8) j l), rfl, mEq.of (by simp [o_ribbon, c_5, c_18, c_29, c_39, nI_clamp (show j < 2 ^ 31 by omega)])⟩)
        · skip
          refine n_bipush hC (v := (-3)) dX3_ribbon_42 (by decide) ?_
          exact n_iret hC dX3_ribbon_44 (by decide) (by decide) (⟨rfl, by simp [o_ribbon, c_5, c_18, c_29, c_39], M, rfl, mEq.of (by simp [o_ribbon, c_5, c_18, c_29, c_39])⟩)
      · skip
        refine n_bipush hC (v := (-2)) dX3_ribbon_32 (by decide) ?_
        exact n_iret hC dX3_ribbon_34 (by decide) (by decide) (⟨rfl, by simp [o_ribbon, c_5, c_18, c_29], M, rfl, mEq.of (by simp [o_ribbon, c_5, c_18, c_29])⟩)
  · skip
    refine n_iconst hC (v := (-1)) dX3_ribbon_8 (by decide) ?_
    exact n_iret hC dX3_ribbon_9 (by decide) (by decide) (⟨rfl, by simp [o_ribbon, c_5], M, rfl, mEq.of (by simp [o_ribbon, c_5])⟩)

def o_at (p w : Int32) (M : nMem) : Int32 × nMem :=
  if nin p (mN M 1) = false then (-6, M) else if nrg w (nI 0) (nI 3) = false then (-6, M)
  else (if w.toNatClampNeg = 0 then M 5 p.toNatClampNeg else if w.toNatClampNeg = 1 then M 7 (mA M 6 p.toNatClampNeg) else if w.toNatClampNeg = 2 then M 8 (mA M 6 p.toNatClampNeg) else nI (mA M 6 p.toNatClampNeg), M)
set_option maxHeartbeats 4000000 in
set_option maxRecDepth 100000 in
theorem mt_X3_at (na : nA) (h : nH) (M : nMem) (hI : mInv M) (p w : Int32) : nM yX3_at cX3_at 3 (some .int) (nRm 3 0 0) [.ref (na 61), .int p, .int w] na (mPut na h M) (nQi (mOp na h (o_at p w M))) 0 0 := by
  refine nM.ofN RX3 rfl (by decide) (by intro v hv; simp only [List.mem_cons, List.not_mem_nil, or_false] at hv; rcases hv with rfl | rfl | rfl <;> rfl) (Nat.le_of_ble_eq_true rfl) (fun K hC hnm => ?_)
  show WN K na (mPut na h M) 0 0 (nE K (nQi (mOp na h (o_at p w M))) 0 0) 0 [some (.ref (na 61)), some (.int p), some (.int w)] []
  let Q9 : State → Prop := nE K (nQi (mOp na h (o_at p w M))) 0 0
  show WN K na (mPut na h M) 0 0 Q9 0 [some (.ref (na 61)), some (.int p), some (.int w)] []
  obtain ⟨⟨h0, b0⟩, ⟨h1, b1a, b1⟩, ⟨h11, b11⟩, ⟨h14, b14⟩, ⟨h15, b15, b15n⟩, ⟨h20, b20⟩, ⟨h26, b26⟩, ⟨h27, b27⟩, ⟨h55, b55⟩, iP, iH, iHi, iHd, iC, iT, iF, iG, iS, iZ⟩ := hI
  refine n_aload_n hC dX3_at_0 rfl ?_
  refine n_iload_n hC dX3_at_1 rfl ?_
  refine n_callV1z hC (mt_X3_isPlace na h (M) (p) (n := mN M 1) h1 (by omega)) md_X3_isPlace q1305 dX3_at_2 rfl (mPut_o _ _ _) rfl rfl ⟨rfl, rfl, by decide, by decide⟩ rfl (Nat.le_of_ble_eq_true rfl) (by decide) (by decide) (fun r0 na0 h0 hp0 => ?_)
  obtain ⟨rfl, rfl, rfl⟩ := hp0
  refine n_if_eqB hC (tgt := 18) dX3_at_5 (by decide) (fun c_5 => ?_) (fun c_5 => ?_)
  · skip
    refine n_bipush hC (v := (-6)) dX3_at_18 (by decide) ?_
    exact n_iret hC dX3_at_20 (by decide) (by decide) (⟨rfl, by simp [o_at, c_5], M, rfl, mEq.of (by simp [o_at, c_5])⟩)
  · skip
    refine n_aload_n hC dX3_at_8 rfl ?_
    refine n_iload_n hC dX3_at_9 rfl ?_
    refine n_iconst hC (v := nI 0) dX3_at_10 (by decide) ?_
    refine n_iconst hC (v := nI 3) dX3_at_11 (by decide) ?_
    refine n_callV3z hC (mt_X3_in na h (M) (w) (nI 0) (nI 3)) md_X3_in q1293 dX3_at_12 rfl (mPut_o _ _ _) rfl rfl ⟨rfl, rfl, by decide, by decide⟩ rfl (Nat.le_of_ble_eq_true rfl) (by decide) (by decide) (fun r1 na1 h1 hp1 => ?_)
    obtain ⟨rfl, rfl, rfl⟩ := hp1
    refine n_if_neB hC (tgt := 21) dX3_at_15 (by decide) (fun c_15 => ?_) (fun c_15 => ?_)
    · skip
      obtain ⟨j, hj, ej⟩ := (nin_t (by omega)).mp c_5
      obtain ⟨z, -, hz, ez⟩ := (nrg_nn (by decide) (by decide)).mp c_15
      subst ej
      subst ez
      have hjc : (nI j).toNatClampNeg = j := nI_clamp (by omega)
      have hzc : (nI z).toNatClampNeg = z := nI_clamp (by omega)
      have iHj := (iH j hj).2
      refine n_iload_n hC dX3_at_21 rfl ?_
      refine n_if_neN hC (tgt := 34) dX3_at_22 (by decide) (by omega) (fun c_22 => ?_) (fun c_22 => ?_)
      · skip
        refine n_iload_n hC dX3_at_34 rfl ?_
        refine n_iconst hC (v := nI 1) dX3_at_35 (by decide) ?_
        refine n_icmp_neN hC (tgt := 53) dX3_at_36 (by decide) (by omega) (by omega) (fun c_36 => ?_) (fun c_36 => ?_)
        · skip
          refine n_iload_n hC dX3_at_53 rfl ?_
          refine n_iconst hC (v := nI 2) dX3_at_54 (by decide) ?_
          refine n_icmp_neN hC (tgt := 72) dX3_at_55 (by decide) (by omega) (by omega) (fun c_55 => ?_) (fun c_55 => ?_)
          · skip
            refine n_aload_n hC dX3_at_72 rfl ?_
            refine m_getA hC 6 dX3_at_73 rfl rfl ?_
            refine n_iload_n hC dX3_at_76 rfl ?_
            refine m_aldN hC 6 (v := nI (mA M 6 j)) dX3_at_77 rfl rfl (by have h9 : mLen 6 = 9 := rfl; omega) ((iH j hj).1) ?_
            exact n_iret hC dX3_at_78 (by decide) (by decide) (⟨rfl, by simp only [o_at, c_5, c_15, hjc, hzc, Bool.true_eq_false, if_false]; simp [c_22, c_36, c_55], M, rfl, mEq.of (by simp [o_at, c_5, c_15, hjc, hzc])⟩)
          · skip
            refine n_aload_n hC dX3_at_58 rfl ?_
            refine m_getA hC 8 dX3_at_59 rfl rfl ?_
            refine n_aload_n hC dX3_at_62 rfl ?_
            refine m_getA hC 6 dX3_at_63 rfl rfl ?_
            refine n_iload_n hC dX3_at_66 rfl ?_
            refine m_aldN hC 6 (v := nI (mA M 6 j)) dX3_at_67 rfl rfl (by have h9 : mLen 6 = 9 := rfl; omega) ((iH j hj).1) ?_
            refine m_aldN hC 8 (v := M 8 (mA M 6 j)) dX3_at_68 rfl rfl (by have h9 : mLen 8 = 9 := rfl; omega) rfl ?_
            refine n_goto hC (tgt := 78) dX3_at_69 (by decide) ?_
            exact n_iret hC dX3_at_78 (by decide) (by decide) (⟨rfl, by simp only [o_at, c_5, c_15, hjc, hzc, Bool.true_eq_false, if_false]; simp [c_22, c_36, c_55], M, rfl, mEq.of (by simp [o_at, c_5, c_15, hjc, hzc])⟩)
        · skip
          refine n_aload_n hC dX3_at_39 rfl ?_
          refine m_getA hC 7 dX3_at_40 rfl rfl ?_
          refine n_aload_n hC dX3_at_43 rfl ?_
          refine m_getA hC 6 dX3_at_44 rfl rfl ?_
          refine n_iload_n hC dX3_at_47 rfl ?_
          refine m_aldN hC 6 (v := nI (mA M 6 j)) dX3_at_48 rfl rfl (by have h9 : mLen 6 = 9 := rfl; omega) ((iH j hj).1) ?_
          refine m_aldN hC 7 (v := M 7 (mA M 6 j)) dX3_at_49 rfl rfl (by have h9 : mLen 7 = 9 := rfl; omega) rfl ?_
          refine n_goto hC (tgt := 78) dX3_at_50 (by decide) ?_
          exact n_iret hC dX3_at_78 (by decide) (by decide) (⟨rfl, by simp only [o_at, c_5, c_15, hjc, hzc, Bool.true_eq_false, if_false]; simp [c_22, c_36], M, rfl, mEq.of (by simp [o_at, c_5, c_15, hjc, hzc])⟩)
      · skip
        refine n_aload_n hC dX3_at_25 rfl ?_
        refine m_getA hC 5 dX3_at_26 rfl rfl ?_
        refine n_iload_n hC dX3_at_29 rfl ?_
        refine m_aldN hC 5 (v := M 5 j) dX3_at_30 rfl rfl (by have h9 : mLen 5 = 9 := rfl; omega) rfl ?_
        refine n_goto hC (tgt := 78) dX3_at_31 (by decide) ?_
        exact n_iret hC dX3_at_78 (by decide) (by decide) (⟨rfl, by simp only [o_at, c_5, c_15, hjc, hzc, Bool.true_eq_false, if_false]; simp [c_22], M, rfl, mEq.of (by simp [o_at, c_5, c_15, hjc, hzc])⟩)
    · skip
      refine n_bipush hC (v := (-6)) dX3_at_18 (by decide) ?_
      exact n_iret hC dX3_at_20 (by decide) (by decide) (⟨rfl, by simp [o_at, c_5, c_15], M, rfl, mEq.of (by simp [o_at, c_5, c_15])⟩)

noncomputable def o_begin (M : nMem) : Int32 × nMem :=
  if mB M 11 = true then (-3, M) else if mN M 1 = 0 then (-3, M) else @ite _ (mHas (M 5) (-5) (mN M 1)) (Classical.propDecidable _) (-3, M)
  (nI (mN M 1), mset (mset (mset (mset (mset (mset M 11 (fun _ => nI 1)) 14 (fun _ => nI 0)) 15 (fun _ => nI 0)) 9 (fil (M 8) (M 9) (mN M 1))) 10 (fil (M 7) (M 10) (mN M 1))) 17 (fil (fun _ => nI 0) (M 17) (mN M 1)))
set_option maxHeartbeats 4000000 in
set_option maxRecDepth 100000 in
theorem mt_X3_begin (na : nA) (h : nH) (M : nMem) (hI : mInv M) : nM yX3_begin cX3_begin 2 (some .int) (nRm 3 0 0) [.ref (na 61)] na (mPut na h M) (nQi (mOp na h (o_begin M))) 0 0 := by
  refine nM.ofN RX3 rfl (by decide) (by intro v hv; simp only [List.mem_cons, List.not_mem_nil, or_false] at hv; subst hv; rfl) (Nat.le_of_ble_eq_true rfl) (fun K hC hnm => ?_)
  show WN K na (mPut na h M) 0 0 (nE K (nQi (mOp na h (o_begin M))) 0 0) 0 [some (.ref (na 61)), none] []
  let Q9 : State → Prop := nE K (nQi (mOp na h (o_begin M))) 0 0
  show WN K na (mPut na h M) 0 0 Q9 0 [some (.ref (na 61)), none] []
  obtain ⟨⟨h0, b0⟩, ⟨h1, b1a, b1⟩, ⟨h11, b11⟩, ⟨h14, b14⟩, ⟨h15, b15, b15n⟩, ⟨h20, b20⟩, ⟨h26, b26⟩, ⟨h27, b27⟩, ⟨h55, b55⟩, iP, iH, iHi, iHd, iC, iT, iF, iG, iS, iZ⟩ := hI
  refine n_aload_n hC dX3_begin_0 rfl ?_
  refine m_getI hC 11 (v := nbo (mB M 11)) dX3_begin_1 rfl rfl (by decide) h11 ?_
  refine n_if_neB hC (tgt := 14) dX3_begin_4 (by decide) (fun c_4 => ?_) (fun c_4 => ?_)
  · skip
    refine n_bipush hC (v := (-3)) dX3_begin_14 (by decide) ?_
    exact n_iret hC dX3_begin_16 (by decide) (by decide) (⟨rfl, by simp [o_begin, c_4], M, rfl, mEq.of (by simp [o_begin, c_4])⟩)
  · skip
    refine n_aload_n hC dX3_begin_7 rfl ?_
    refine m_getI hC 1 (v := nI (mN M 1)) dX3_begin_8 rfl rfl (by decide) h1 ?_
    refine n_if_neN hC (tgt := 17) dX3_begin_11 (by decide) (by omega) (fun c_11 => ?_) (fun c_11 => ?_)
    · skip
      refine n_iconst hC (v := nI 0) dX3_begin_17 (by decide) ?_
      refine n_istore_n hC dX3_begin_18 (Nat.le_of_ble_eq_true rfl) ?_
      have lp19 : ∀ d9 : Nat, ∀ (i : Nat), mN M 1 - i = d9 → (i ≤ mN M 1) → (∀ q, q < i → M 5 q ≠ -5) → WN K na (mPut na h M) 0 0 Q9 19 [some (.ref (na 61)), some (.int (nI i))] [] := by
        intro d9
        induction d9 using Nat.strongRecOn with
        | _ d9 ih19 =>
          intro i hd19 hi hN
          refine n_iload_n hC dX3_begin_19 rfl ?_
          refine n_aload_n hC dX3_begin_20 rfl ?_
          refine m_getI hC 1 (v := nI (mN M 1)) dX3_begin_21 rfl rfl (by decide) h1 ?_
          refine n_icmp_geN hC (tgt := 47) dX3_begin_24 (by decide) (by omega) (by omega) (fun c_24 => ?_) (fun c_24 => ?_)
          · skip
            have hh : ¬ mHas (M 5) (-5) (mN M 1) := fun ⟨q, hq, eq⟩ => hN q (by omega) eq
            refine n_aload_n hC dX3_begin_47 rfl ?_
            refine n_iconst hC (v := nI 1) dX3_begin_48 (by decide) ?_
            refine m_putI hC 11 (M2 := mset M 11 (fun _ => nI 1)) dX3_begin_49 rfl rfl (by decide) rfl rfl rfl rfl rfl ?_
            refine n_aload_n hC dX3_begin_52 rfl ?_
            refine n_iconst hC (v := nI 0) dX3_begin_53 (by decide) ?_
            refine m_putI hC 14 (M2 := mset (mset M 11 (fun _ => nI 1)) 14 (fun _ => nI 0)) dX3_begin_54 rfl rfl (by decide) rfl rfl rfl rfl rfl ?_
            refine n_aload_n hC dX3_begin_57 rfl ?_
            refine n_iconst hC (v := nI 0) dX3_begin_58 (by decide) ?_
            refine m_putI hC 15 (M2 := mset (mset (mset M 11 (fun _ => nI 1)) 14 (fun _ => nI 0)) 15 (fun _ => nI 0)) dX3_begin_59 rfl rfl (by decide) rfl rfl rfl rfl rfl ?_
            refine n_iconst hC (v := nI 0) dX3_begin_62 (by decide) ?_
            refine n_istore_n hC dX3_begin_63 (Nat.le_of_ble_eq_true rfl) ?_
            have lp64 : ∀ d9 : Nat, ∀ (i : Nat) (M2 : nMem), mN M 1 - i = d9 → (i ≤ mN M 1) → (mFr [9, 10, 17] (mset (mset (mset M 11 (fun _ => nI 1)) 14 (fun _ => nI 0)) 15 (fun _ => nI 0)) M2) → (M2 9 = fil (M 8) (M 9) i) → (M2 10 = fil (M 7) (M 10) i) → (M2 17 = fil (fun _ => nI 0) (M 17) i) → WN K na (mPut na h M2) 0 0 Q9 64 [some (.ref (na 61)), some (.int (nI i))] [] := by
              intro d9
              induction d9 using Nat.strongRecOn with
              | _ d9 ih64 =>
                intro i M2 hd64 hi hF w9 w10 w17
                refine n_iload_n hC dX3_begin_64 rfl ?_
                refine n_aload_n hC dX3_begin_65 rfl ?_
                refine m_getI hC 1 (v := nI (mN M 1)) dX3_begin_66 rfl rfl (by decide) ((congrFun (hF 1 (by decide)) 0).trans h1) ?_
                refine n_icmp_geN hC (tgt := 109) dX3_begin_69 (by decide) (by omega) (by omega) (fun c_69 => ?_) (fun c_69 => ?_)
                · skip
                  have hi9 : i = mN M 1 := by omega
                  subst hi9
                  refine n_aload_n hC dX3_begin_109 rfl ?_
                  refine m_getI hC 1 (v := nI (mN M 1)) dX3_begin_110 rfl rfl (by decide) ((congrFun (hF 1 (by decide)) 0).trans h1) ?_
                  exact n_iret hC dX3_begin_113 (by decide) (by decide) (⟨rfl, by simp [o_begin, c_4, c_11, hh], M2, rfl, mEq.of (by
      simp only [o_begin, c_4, c_11, hh, if_false, Bool.false_eq_true]
      funext k
      by_cases e9 : k = 9
      · subst e9; rw [w9]; rfl
      · by_cases e10 : k = 10
        · subst e10; rw [w10]; rfl
        · by_cases e17 : k = 17
          · subst e17; rw [w17]; rfl
          · rw [hF k (by simp [e9, e10, e17])]; simp [mset, e9, e10, e17])⟩)
                · skip
                  refine n_aload_n hC dX3_begin_72 rfl ?_
                  refine m_getA hC 9 dX3_begin_73 rfl rfl ?_
                  refine n_iload_n hC dX3_begin_76 rfl ?_
                  refine n_aload_n hC dX3_begin_77 rfl ?_
                  refine m_getA hC 8 dX3_begin_78 rfl rfl ?_
                  refine n_iload_n hC dX3_begin_81 rfl ?_
                  refine m_aldN hC 8 (v := M2 8 i) dX3_begin_82 rfl rfl (by have h9 : mLen 8 = 9 := rfl; omega) rfl ?_
                  refine m_astN hC 9 (M2 := mset M2 9 (upd (M2 9) i (M2 8 i))) dX3_begin_83 rfl rfl (by have h9 : mLen 9 = 9 := rfl; omega) rfl ?_
                  refine n_aload_n hC dX3_begin_84 rfl ?_
                  refine m_getA hC 10 dX3_begin_85 rfl rfl ?_
                  refine n_iload_n hC dX3_begin_88 rfl ?_
                  refine n_aload_n hC dX3_begin_89 rfl ?_
                  refine m_getA hC 7 dX3_begin_90 rfl rfl ?_
                  refine n_iload_n hC dX3_begin_93 rfl ?_
                  refine m_aldN hC 7 (v := M2 7 i) dX3_begin_94 rfl rfl (by have h9 : mLen 7 = 9 := rfl; omega) rfl ?_
                  refine m_astN hC 10 (M2 := mset (mset M2 9 (upd (M2 9) i (M2 8 i))) 10 (upd (M2 10) i (M2 7 i))) dX3_begin_95 rfl rfl (by have h9 : mLen 10 = 9 := rfl; omega) rfl ?_
                  refine n_aload_n hC dX3_begin_96 rfl ?_
                  refine m_getA hC 17 dX3_begin_97 rfl rfl ?_
                  refine n_iload_n hC dX3_begin_100 rfl ?_
                  refine n_iconst hC (v := nI 0) dX3_begin_101 (by decide) ?_
                  refine m_astN hC 17 (M2 := mset (mset (mset M2 9 (upd (M2 9) i (M2 8 i))) 10 (upd (M2 10) i (M2 7 i))) 17 (upd (M2 17) i (nI 0))) dX3_begin_102 rfl rfl (by have h9 : mLen 17 = 9 := rfl; omega) rfl ?_
                  refine n_iincN hC dX3_begin_103 (j := 1) (c := i + 1) rfl (by decide) rfl ?_
                  refine n_goto hC (tgt := 64) dX3_begin_106 (by decide) ?_
                  exact WN.forget (L' := [some (.ref (na 61)), some (.int (nI (i + 1)))]) (⟨Or.inr rfl, Or.inr rfl, trivial⟩) (ih64 _ (by omega) (i + 1) (mset (mset (mset M2 9 (upd (M2 9) i (M2 8 i))) 10 (upd (M2 10) i (M2 7 i))) 17 (upd (M2 17) i (nI 0))) rfl (by omega) (mFr.set (by decide) (mFr.set (by decide) (mFr.set (by decide) hF))) (by show upd (M2 9) i _ = _; rw [w9]; exact fil_u (by exact congrFun (hF 8 (by decide)) i)) (by show upd (M2 10) i _ = _; rw [w10]; exact fil_u (by exact congrFun (hF 7 (by decide)) i)) (by show upd (M2 17) i _ = _; rw [w17]; exact fil_u (by rfl)))
            exact WN.forget (L' := [some (.ref (na 61)), some (.int (nI 0))]) (⟨Or.inr rfl, Or.inr rfl, trivial⟩) (lp64 _ 0 (mset (mset (mset M 11 (fun _ => nI 1)) 14 (fun _ => nI 0)) 15 (fun _ => nI 0)) rfl (by omega) mFr.rf (by rw [fil_0]; rfl) (by rw [fil_0]; rfl) (by rw [fil_0]; rfl))
          · skip
            refine n_aload_n hC dX3_begin_27 rfl ?_
            refine m_getA hC 5 dX3_begin_28 rfl rfl ?_
            refine n_iload_n hC dX3_begin_31 rfl ?_
            refine m_aldN hC 5 (v := M 5 i) dX3_begin_32 rfl rfl (by have h9 : mLen 5 = 9 := rfl; omega) rfl ?_
            refine n_bipush hC (v := (-5)) dX3_begin_33 (by decide) ?_
            refine n_icmp_ne hC (tgt := 41) dX3_begin_35 (by decide) (fun c_35 => ?_) (fun c_35 => ?_)
            · skip
              refine n_iincN hC dX3_begin_41 (j := 1) (c := i + 1) rfl (by decide) rfl ?_
              refine n_goto hC (tgt := 19) dX3_begin_44 (by decide) ?_
              exact WN.forget (L' := [some (.ref (na 61)), some (.int (nI (i + 1)))]) (⟨Or.inr rfl, Or.inr rfl, trivial⟩) (ih19 _ (by omega) (i + 1) rfl (by omega) (lt_s hN (by assumption)))
            · skip
              refine n_bipush hC (v := (-3)) dX3_begin_38 (by decide) ?_
              exact n_iret hC dX3_begin_40 (by decide) (by decide) (by have hh : mHas (M 5) (-5) (mN M 1) := ⟨i, by omega, by assumption⟩; exact ⟨rfl, by simp [o_begin, c_4, c_11, hh], M, rfl, mEq.of (by simp [o_begin, c_4, c_11, hh])⟩)
      exact WN.forget (L' := [some (.ref (na 61)), some (.int (nI 0))]) (⟨Or.inr rfl, Or.inr rfl, trivial⟩) (lp19 _ 0 rfl (by omega) lt_0)
    · skip
      refine n_bipush hC (v := (-3)) dX3_begin_14 (by decide) ?_
      exact n_iret hC dX3_begin_16 (by decide) (by decide) (⟨rfl, by simp [o_begin, c_4, c_11], M, rfl, mEq.of (by simp [o_begin, c_4, c_11])⟩)

def o_end (M : nMem) : Int32 × nMem :=
  if mB M 11 = false then (-3, M) else (nI (mN M 14), mset (mset (mset (mset M 11 (fun _ => nI 0)) 7 (fil (fun p => M 7 (mA M 6 p)) (M 7) (mN M 1))) 8 (fil (fun p => M 8 (mA M 6 p)) (M 8) (mN M 1))) 6 (fil nI (M 6) (mN M 1)))
set_option maxHeartbeats 4000000 in
set_option maxRecDepth 100000 in
theorem mt_X3_end (na : nA) (h : nH) (M : nMem) (hI : mInv M) : nM yX3_end cX3_end 2 (some .int) (nRm 3 0 0) [.ref (na 61)] na (mPut na h M) (nQi (mOp na h (o_end M))) 0 0 := by
  refine nM.ofN RX3 rfl (by decide) (by intro v hv; simp only [List.mem_cons, List.not_mem_nil, or_false] at hv; subst hv; rfl) (Nat.le_of_ble_eq_true rfl) (fun K hC hnm => ?_)
  show WN K na (mPut na h M) 0 0 (nE K (nQi (mOp na h (o_end M))) 0 0) 0 [some (.ref (na 61)), none] []
  let Q9 : State → Prop := nE K (nQi (mOp na h (o_end M))) 0 0
  show WN K na (mPut na h M) 0 0 Q9 0 [some (.ref (na 61)), none] []
  obtain ⟨⟨h0, b0⟩, ⟨h1, b1a, b1⟩, ⟨h11, b11⟩, ⟨h14, b14⟩, ⟨h15, b15, b15n⟩, ⟨h20, b20⟩, ⟨h26, b26⟩, ⟨h27, b27⟩, ⟨h55, b55⟩, iP, iH, iHi, iHd, iC, iT, iF, iG, iS, iZ⟩ := hI
  refine n_aload_n hC dX3_end_0 rfl ?_
  refine m_getI hC 11 (v := nbo (mB M 11)) dX3_end_1 rfl rfl (by decide) h11 ?_
  refine n_if_neB hC (tgt := 10) dX3_end_4 (by decide) (fun c_4 => ?_) (fun c_4 => ?_)
  · skip
    refine n_aload_n hC dX3_end_10 rfl ?_
    refine n_iconst hC (v := nI 0) dX3_end_11 (by decide) ?_
    refine m_putI hC 11 (M2 := mset M 11 (fun _ => nI 0)) dX3_end_12 rfl rfl (by decide) rfl rfl rfl rfl rfl ?_
    refine n_iconst hC (v := nI 0) dX3_end_15 (by decide) ?_
    refine n_istore_n hC dX3_end_16 (Nat.le_of_ble_eq_true rfl) ?_
    have lp17 : ∀ d9 : Nat, ∀ (i : Nat) (M2 : nMem), mN M 1 - i = d9 → (i ≤ mN M 1) → (mFr [12, 13] (mset M 11 (fun _ => nI 0)) M2) → (∀ q, q < i → M2 12 q = M 7 (mA M 6 q)) → (∀ q, q < i → M2 13 q = M 8 (mA M 6 q)) → WN K na (mPut na h M2) 0 0 Q9 17 [some (.ref (na 61)), some (.int (nI i))] [] := by
      intro d9
      induction d9 using Nat.strongRecOn with
      | _ d9 ih17 =>
        intro i M2 hd17 hi hF w12 w13
        refine n_iload_n hC dX3_end_17 rfl ?_
        refine n_aload_n hC dX3_end_18 rfl ?_
        refine m_getI hC 1 (v := nI (mN M 1)) dX3_end_19 rfl rfl (by decide) ((congrFun (hF 1 (by decide)) 0).trans h1) ?_
        refine n_icmp_geN hC (tgt := 65) dX3_end_22 (by decide) (by omega) (by omega) (fun c_22 => ?_) (fun c_22 => ?_)
        · skip
          have hi9 : i = mN M 1 := by omega
          subst hi9
          refine n_iconst hC (v := nI 0) dX3_end_65 (by decide) ?_
          refine n_istore_n hC dX3_end_66 (Nat.le_of_ble_eq_true rfl) ?_
          have lp67 : ∀ d9 : Nat, ∀ (i : Nat) (M3 : nMem), mN M 1 - i = d9 → (i ≤ mN M 1) → (mFr [7, 8, 6, 12, 13] (mset M 11 (fun _ => nI 0)) M3) → (∀ q, q < mN M 1 → M3 12 q = M 7 (mA M 6 q)) → (∀ q, q < mN M 1 → M3 13 q = M 8 (mA M 6 q)) → (M3 7 = fil (fun p => M 7 (mA M 6 p)) (M 7) i) → (M3 8 = fil (fun p => M 8 (mA M 6 p)) (M 8) i) → (M3 6 = fil (fun p => nI p) (M 6) i) → WN K na (mPut na h M3) 0 0 Q9 67 [some (.ref (na 61)), some (.int (nI i))] [] := by
            intro d9
            induction d9 using Nat.strongRecOn with
            | _ d9 ih67 =>
              intro i M3 hd67 hi3 hF3 w12 w13 w7 w8 w6
              refine n_iload_n hC dX3_end_67 rfl ?_
              refine n_aload_n hC dX3_end_68 rfl ?_
              refine m_getI hC 1 (v := nI (mN M 1)) dX3_end_69 rfl rfl (by decide) ((congrFun (hF3 1 (by decide)) 0).trans h1) ?_
              refine n_icmp_geN hC (tgt := 112) dX3_end_72 (by decide) (by omega) (by omega) (fun c_72 => ?_) (fun c_72 => ?_)
              · skip
                have hi9 : i = mN M 1 := by omega
                subst hi9
                refine n_aload_n hC dX3_end_112 rfl ?_
                refine m_getI hC 14 (v := nI (mN M 14)) dX3_end_113 rfl rfl (by decide) ((congrFun (hF3 14 (by decide)) 0).trans h14) ?_
                exact n_iret hC dX3_end_116 (by decide) (by decide) (⟨rfl, by simp [o_end, c_4], M3, rfl, (by
      simp only [o_end, c_4, if_false, Bool.true_eq_false]
      refine mEq.mk3 (fun k hk h8 h9 => ?_) (fun j _ => by rw [hF3 28 (by decide)]; rfl) (fun j _ => by rw [hF3 29 (by decide)]; rfl)
      have e12 : k ≠ 12 := fun e => hk (by rw [e]; decide)
      have e13 : k ≠ 13 := fun e => hk (by rw [e]; decide)
      by_cases e7 : k = 7
      · subst e7; rw [w7]; rfl
      · by_cases e8 : k = 8
        · subst e8; rw [w8]; rfl
        · by_cases e6 : k = 6
          · subst e6; rw [w6]; rfl
          · rw [hF3 k (by simp [e6, e7, e8, e12, e13])]; simp [mset, e6, e7, e8])⟩)
              · skip
                refine n_aload_n hC dX3_end_75 rfl ?_
                refine m_getA hC 7 dX3_end_76 rfl rfl ?_
                refine n_iload_n hC dX3_end_79 rfl ?_
                refine n_aload_n hC dX3_end_80 rfl ?_
                refine m_getA hC 12 dX3_end_81 rfl rfl ?_
                refine n_iload_n hC dX3_end_84 rfl ?_
                refine m_aldN hC 12 (v := M3 12 i) dX3_end_85 rfl rfl (by have h9 : mLen 12 = 9 := rfl; omega) rfl ?_
                refine m_astN hC 7 (M2 := mset M3 7 (upd (M3 7) i (M3 12 i))) dX3_end_86 rfl rfl (by have h9 : mLen 7 = 9 := rfl; omega) rfl ?_
                refine n_aload_n hC dX3_end_87 rfl ?_
                refine m_getA hC 8 dX3_end_88 rfl rfl ?_
                refine n_iload_n hC dX3_end_91 rfl ?_
                refine n_aload_n hC dX3_end_92 rfl ?_
                refine m_getA hC 13 dX3_end_93 rfl rfl ?_
                refine n_iload_n hC dX3_end_96 rfl ?_
                refine m_aldN hC 13 (v := M3 13 i) dX3_end_97 rfl rfl (by have h9 : mLen 13 = 9 := rfl; omega) rfl ?_
                refine m_astN hC 8 (M2 := mset (mset M3 7 (upd (M3 7) i (M3 12 i))) 8 (upd (M3 8) i (M3 13 i))) dX3_end_98 rfl rfl (by have h9 : mLen 8 = 9 := rfl; omega) rfl ?_
                refine n_aload_n hC dX3_end_99 rfl ?_
                refine m_getA hC 6 dX3_end_100 rfl rfl ?_
                refine n_iload_n hC dX3_end_103 rfl ?_
                refine n_iload_n hC dX3_end_104 rfl ?_
                refine m_astN hC 6 (M2 := mset (mset (mset M3 7 (upd (M3 7) i (M3 12 i))) 8 (upd (M3 8) i (M3 13 i))) 6 (upd (M3 6) i (nI i))) dX3_end_105 rfl rfl (by have h9 : mLen 6 = 9 := rfl; omega) rfl ?_
                refine n_iincN hC dX3_end_106 (j := 1) (c := i + 1) rfl (by decide) rfl ?_
                refine n_goto hC (tgt := 67) dX3_end_109 (by decide) ?_
                exact WN.forget (L' := [some (.ref (na 61)), some (.int (nI (i + 1)))]) (⟨Or.inr rfl, Or.inr rfl, trivial⟩) (ih67 _ (by omega) (i + 1) (mset (mset (mset M3 7 (upd (M3 7) i (M3 12 i))) 8 (upd (M3 8) i (M3 13 i))) 6 (upd (M3 6) i (nI i))) rfl (by omega) (mFr.set (by decide) (mFr.set (by decide) (mFr.set (by decide) hF3))) w12 w13 (by show upd (M3 7) i _ = _; rw [w7]; exact fil_u (by exact w12 i (by omega))) (by show upd (M3 8) i _ = _; rw [w8]; exact fil_u (by exact w13 i (by omega))) (by show upd (M3 6) i _ = _; rw [w6]; exact fil_u (by rfl)))
          exact WN.forget (L' := [some (.ref (na 61)), some (.int (nI 0))]) (⟨Or.inr rfl, Or.inr rfl, trivial⟩) (lp67 _ 0 M2 rfl (by omega) (mFr.wk (by decide) hF) (fun q hq => w12 q (by omega)) (fun q hq => w13 q (by omega)) (by rw [fil_0]; exact hF 7 (by decide)) (by rw [fil_0]; exact hF 8 (by decide)) (by rw [fil_0]; exact hF 6 (by decide)))
        · skip
          have iHi := (iH i (by omega)).2
          refine n_aload_n hC dX3_end_25 rfl ?_
          refine m_getA hC 12 dX3_end_26 rfl rfl ?_
          refine n_iload_n hC dX3_end_29 rfl ?_
          refine n_aload_n hC dX3_end_30 rfl ?_
          refine m_getA hC 7 dX3_end_31 rfl rfl ?_
          refine n_aload_n hC dX3_end_34 rfl ?_
          refine m_getA hC 6 dX3_end_35 rfl rfl ?_
          refine n_iload_n hC dX3_end_38 rfl ?_
          refine m_aldN hC 6 (v := nI (mA M 6 i)) dX3_end_39 rfl rfl (by have h9 : mLen 6 = 9 := rfl; omega) ((congrFun (hF 6 (by decide)) i).trans (iH i (by omega)).1) ?_
          refine m_aldN hC 7 (v := M2 7 (mA M 6 i)) dX3_end_40 rfl rfl (by have h9 : mLen 7 = 9 := rfl; omega) rfl ?_
          refine m_astN hC 12 (M2 := mset M2 12 (upd (M2 12) i (M2 7 (mA M 6 i)))) dX3_end_41 rfl rfl (by have h9 : mLen 12 = 9 := rfl; omega) rfl ?_
          refine n_aload_n hC dX3_end_42 rfl ?_
          refine m_getA hC 13 dX3_end_43 rfl rfl ?_
          refine n_iload_n hC dX3_end_46 rfl ?_
          refine n_aload_n hC dX3_end_47 rfl ?_
          refine m_getA hC 8 dX3_end_48 rfl rfl ?_
          refine n_aload_n hC dX3_end_51 rfl ?_
          refine m_getA hC 6 dX3_end_52 rfl rfl ?_
          refine n_iload_n hC dX3_end_55 rfl ?_
          refine m_aldN hC 6 (v := nI (mA M 6 i)) dX3_end_56 rfl rfl (by have h9 : mLen 6 = 9 := rfl; omega) ((congrFun (hF 6 (by decide)) i).trans (iH i (by omega)).1) ?_
          refine m_aldN hC 8 (v := M2 8 (mA M 6 i)) dX3_end_57 rfl rfl (by have h9 : mLen 8 = 9 := rfl; omega) rfl ?_
          refine m_astN hC 13 (M2 := mset (mset M2 12 (upd (M2 12) i (M2 7 (mA M 6 i)))) 13 (upd (M2 13) i (M2 8 (mA M 6 i)))) dX3_end_58 rfl rfl (by have h9 : mLen 13 = 9 := rfl; omega) rfl ?_
          refine n_iincN hC dX3_end_59 (j := 1) (c := i + 1) rfl (by decide) rfl ?_
          refine n_goto hC (tgt := 17) dX3_end_62 (by decide) ?_
          exact WN.forget (L' := [some (.ref (na 61)), some (.int (nI (i + 1)))]) (⟨Or.inr rfl, Or.inr rfl, trivial⟩) (ih17 _ (by omega) (i + 1) (mset (mset M2 12 (upd (M2 12) i (M2 7 (mA M 6 i)))) 13 (upd (M2 13) i (M2 8 (mA M 6 i)))) rfl (by omega) (mFr.set (by decide) (mFr.set (by decide) hF)) (lt_s (fun q hq => by show upd (M2 12) i _ q = _; unfold upd; rw [if_neg (by omega)]; exact w12 q hq) (by show upd (M2 12) i _ i = _; unfold upd; rw [if_pos rfl]; exact congrFun (hF 7 (by decide)) _)) (lt_s (fun q hq => by show upd (M2 13) i _ q = _; unfold upd; rw [if_neg (by omega)]; exact w13 q hq) (by show upd (M2 13) i _ i = _; unfold upd; rw [if_pos rfl]; exact congrFun (hF 8 (by decide)) _)))
    exact WN.forget (L' := [some (.ref (na 61)), some (.int (nI 0))]) (⟨Or.inr rfl, Or.inr rfl, trivial⟩) (lp17 _ 0 (mset M 11 (fun _ => nI 0)) rfl (by omega) mFr.rf lt_0 lt_0)
  · skip
    refine n_bipush hC (v := (-3)) dX3_end_7 (by decide) ?_
    exact n_iret hC dX3_end_9 (by decide) (by decide) (⟨rfl, by simp [o_end, c_4], M, rfl, mEq.of (by simp [o_end, c_4])⟩)

