/-! ===== THE REFERENCE's methods: people set ===== -/
set_option maxRecDepth 100000
set_option maxHeartbeats 4000000 in
set_option maxRecDepth 100000 in
theorem mt_X3_findSet (na : nA) (h : nH) (M : nMem) (hI : mInv M) (s : Int32) : nM yX3_findSet cX3_findSet 7 (some .int) (nRm 2 0 0) [.ref (na 61), .int s] na (mPut na h M) (nQi (mRel na h (fsP M s))) 0 0 := by
  refine nM.ofN RX3 rfl (by decide) (by intro v hv; simp only [List.mem_cons, List.not_mem_nil, or_false] at hv; rcases hv with rfl | rfl <;> rfl) (Nat.le_of_ble_eq_true rfl) (fun K hC hnm => ?_)
  show WN K na (mPut na h M) 0 0 (nE K (nQi (mRel na h (fsP M s))) 0 0) 0 [some (.ref (na 61)), some (.int s), none, none, none, none, none] []
  let Q9 : State → Prop := nE K (nQi (mRel na h (fsP M s))) 0 0
  show WN K na (mPut na h M) 0 0 Q9 0 [some (.ref (na 61)), some (.int s), none, none, none, none, none] []
  obtain ⟨⟨h0, b0⟩, ⟨h1, b1a, b1⟩, ⟨h11, b11⟩, ⟨h14, b14⟩, ⟨h15, b15, b15n⟩, ⟨h20, b20⟩, ⟨h26, b26⟩, ⟨h27, b27⟩, ⟨h55, b55⟩, iP, iH, iHi, iHd, iC, iT, iF, iG, iS, iZ⟩ := hI
  refine n_aload_n hC dX3_findSet_0 rfl ?_
  refine m_getI hC 1 (v := nI (mN M 1)) dX3_findSet_1 rfl rfl (by decide) h1 ?_
  refine n_if_eqN hC (tgt := 16) dX3_findSet_4 (by decide) (by omega) (fun c_4 => ?_) (fun c_4 => ?_)
  · skip
    refine n_bipush hC (v := (-3)) dX3_findSet_16 (by decide) ?_
    exact n_iret hC dX3_findSet_18 (by decide) (by decide) (⟨rfl, M, rfl, fsP_n mFr.rf (by unfold whyS; exact if_pos (Or.inl c_4)) (by decide)⟩)
  · skip
    refine n_aload_n hC dX3_findSet_7 rfl ?_
    refine m_getI hC 1 (v := nI (mN M 1)) dX3_findSet_8 rfl rfl (by decide) h1 ?_
    refine n_bipush hC (v := nI 7) dX3_findSet_11 (by decide) ?_
    refine n_icmp_leN hC (tgt := 19) dX3_findSet_13 (by decide) (by omega) (by omega) (fun c_13 => ?_) (fun c_13 => ?_)
    · skip
      have hn7 : ¬ (mN M 1 = 0 ∨ 7 < mN M 1) := by omega
      refine n_iload_n hC dX3_findSet_19 rfl ?_
      refine n_if_lt hC (tgt := 32) dX3_findSet_20 (by decide) (fun c_20 => ?_) (fun c_20 => ?_)
      · skip
        refine n_bipush hC (v := (-2)) dX3_findSet_32 (by decide) ?_
        exact n_iret hC dX3_findSet_34 (by decide) (by decide) (⟨rfl, M, rfl, fsP_n mFr.rf (by unfold whyS; rw [if_neg hn7]; exact if_pos (Or.inl c_20)) (by decide)⟩)
      · skip
        obtain ⟨w, hw, ew⟩ := nI_of c_20
        subst ew
        have hwc : (nI w).toNatClampNeg = w := nI_clamp hw
        refine n_iload_n hC dX3_findSet_23 rfl ?_
        refine n_aload_n hC dX3_findSet_24 rfl ?_
        refine m_getI hC 0 (v := nI (mN M 0)) dX3_findSet_25 rfl rfl (by decide) h0 ?_
        refine n_ishr hC dX3_findSet_28 ?_
        rw [show (nI w) >>> ((nI (mN M 0)) &&& 31) = nI (w / 2 ^ mN M 0) from pk_shrN hw _ (mN M 0) (sh_c (by omega))]
        refine n_if_eqN hC (tgt := 35) dX3_findSet_29 (by decide) (Nat.lt_of_le_of_lt (Nat.div_le_self _ _) hw) (fun c_29 => ?_) (fun c_29 => ?_)
        · skip
          have hsw : ¬ (nI w < 0 ∨ 2 ^ mN M 0 ≤ w) := by rintro (z | z); exact c_20 z; exact absurd ((shr_z hw).mp c_29) (by omega)
          refine n_iconst hC (v := nI 0) dX3_findSet_35 (by decide) ?_
          refine n_istore_n hC dX3_findSet_36 (Nat.le_of_ble_eq_true rfl) ?_
          refine n_iconst hC (v := nI 0) dX3_findSet_37 (by decide) ?_
          refine n_istore_n hC dX3_findSet_38 (Nat.le_of_ble_eq_true rfl) ?_
          have lp39 : ∀ d9 : Nat, ∀ (k : Nat) (M2 : nMem), mN M 0 - k = d9 → (k ≤ mN M 0) → (mFr [50, 51, 52, 53, 54] M M2) → ((plw w k).length ≤ mN M 1) → (∀ j, j < (plw w k).length → M2 51 j = nI ((plw w k).getD j 0)) → (∀ x, x < k → (w.testBit x && decide (mA M 2 x = 4)) = false) → WN K na (mPut na h M2) 0 0 Q9 39 [some (.ref (na 61)), some (.int (nI w)), some (.int (nI ((plw w k).length))), some (.int (nI k)), none, none, none] [] := by
            intro d9
            induction d9 using Nat.strongRecOn with
            | _ d9 ih39 =>
              intro k M2 hd39 hk hF2 hl hm hno
              refine n_iload_n hC dX3_findSet_39 rfl ?_
              refine n_aload_n hC dX3_findSet_40 rfl ?_
              refine m_getI hC 0 (v := nI (mN M 0)) dX3_findSet_41 rfl rfl (by decide) ((congrFun (hF2 0 (by decide)) 0).trans h0) ?_
              refine n_icmp_geN hC (tgt := 95) dX3_findSet_44 (by decide) (by omega) (by omega) (fun c_44 => ?_) (fun c_44 => ?_)
              · skip
                have hk9 : k = mN M 0 := by omega
                have hl9 := hl
                rw [hk9] at hm hl hno
                refine n_iload_n hC dX3_findSet_95 rfl ?_
                refine n_aload_n hC dX3_findSet_96 rfl ?_
                refine m_getI hC 1 (v := nI (mN M 1)) dX3_findSet_97 rfl rfl (by decide) ((congrFun (hF2 1 (by decide)) 0).trans h1) ?_
                refine n_icmp_eqN hC (tgt := 106) dX3_findSet_100 (by decide) (by omega) (by omega) (fun c_100 => ?_) (fun c_100 => ?_)
                · skip
                  have hlen : (plw w (mN M 0)).length = mN M 1 := by rw [hk9] at c_100; exact c_100
                  have hw0 : whyS M (nI w) = 0 := by unfold whyS; rw [if_neg hn7, hwc, if_neg hsw]; exact if_neg (by rintro (z | z); rw [anyb_f (fun p hp => hno p hp)] at z; cases z; exact z hlen)
                  have hf5 := fct_le (show mN M 1 ≤ 7 by omega)
                  have hfp := fct_pos (mN M 1)
                  have hm2 : ∀ j, j < mN M 1 → M2 51 j = nI ((plw w (mN M 0)).getD j 0) := fun j hj => hm j (by omega)
                  refine n_iconst hC (v := nI 1) dX3_findSet_106 (by decide) ?_
                  refine n_istore_n hC dX3_findSet_107 (Nat.le_of_ble_eq_true rfl) ?_
                  refine n_iconst hC (v := nI 2) dX3_findSet_108 (by decide) ?_
                  refine n_istore hC dX3_findSet_109 (Nat.le_of_ble_eq_true rfl) ?_
                  have lp111 : ∀ d9 : Nat, ∀ (kf : Nat), mN M 1 + 1 - kf = d9 → (2 ≤ kf ∧ kf ≤ mN M 1 + 1) → WN K na (mPut na h M2) 0 0 Q9 111 [some (.ref (na 61)), some (.int (nI w)), none, some (.int (nI (fct (kf - 1)))), some (.int (nI kf)), none, none] [] := by
                    intro d9
                    induction d9 using Nat.strongRecOn with
                    | _ d9 ih111 =>
                      intro kf hd111 hk2
                      refine n_iload hC dX3_findSet_111 rfl ?_
                      refine n_aload_n hC dX3_findSet_113 rfl ?_
                      refine m_getI hC 1 (v := nI (mN M 1)) dX3_findSet_114 rfl rfl (by decide) ((congrFun (hF2 1 (by decide)) 0).trans h1) ?_
                      refine n_icmp_gtN hC (tgt := 131) dX3_findSet_117 (by decide) (by omega) (by omega) (fun c_117 => ?_) (fun c_117 => ?_)
                      · skip
                        rw [show kf - 1 = mN M 1 by omega]
                        refine n_aload_n hC dX3_findSet_131 rfl ?_
                        refine n_ldcw hC q1541 dX3_findSet_132 ?_
                        refine m_putI hC 54 (M2 := mset M2 54 (fun _ => nI 1000000)) dX3_findSet_135 rfl rfl (by decide) rfl rfl rfl rfl rfl ?_
                        refine n_iconst hC (v := nI 0) dX3_findSet_138 (by decide) ?_
                        refine n_istore hC dX3_findSet_139 (Nat.le_of_ble_eq_true rfl) ?_
                        have lp141 : ∀ d9 : Nat, ∀ (v : Nat) (bs : Nat) (bi : Nat) (M3 : nMem), fct (mN M 1) - v = d9 → (v ≤ fct (mN M 1)) → (mFr [50, 51, 52, 53, 54] M M3) → (M3 54 0 = nI bs) → (∀ j, j < mN M 1 → M3 51 j = nI ((plw w (mN M 0)).getD j 0)) → (lst2 (cst (mN M 1) (mA M 3) (plw w (mN M 0))) 1000000 v = (bs, bi)) → (bs ≤ 1000000) → (bs < 1000000 → bi < fct (mN M 1) ∧ ∀ p, p < mN M 1 → M3 53 p = nI ((plw w (mN M 0)).getD (unr (mN M 1) bi p) 0)) → WN K na (mPut na h M3) 0 0 Q9 141 [some (.ref (na 61)), some (.int (nI w)), none, some (.int (nI (fct (mN M 1)))), some (.int (nI v)), none, none] [] := by
                          intro d9
                          induction d9 using Nat.strongRecOn with
                          | _ d9 ih141 =>
                            intro v bs bi M3 hd141 hv hF3 h54 h51 hlb hbb hbi
                            refine n_iload hC dX3_findSet_141 rfl ?_
                            refine n_iload_n hC dX3_findSet_143 rfl ?_
                            refine n_icmp_geN hC (tgt := 287) dX3_findSet_144 (by decide) (by omega) (by omega) (fun c_144 => ?_) (fun c_144 => ?_)
                            · skip
                              have hv9 : v = fct (mN M 1) := by omega
                              refine n_iconst hC (v := nI 0) dX3_findSet_287 (by decide) ?_
                              exact n_iret hC dX3_findSet_288 (by decide) (by decide) (by
    rw [hv9] at hlb
    have upm := unr_pm (n := mN M 1) (v := 0) hfp
    have hlt4 : ∀ p, p < mN M 1 → (plw w (mN M 0)).getD (unr (mN M 1) 0 p) 0 < mN M 0 := fun p hp => plw_lt (by rw [hlen]; exact upm.1 p hp)
    have hcl : cst (mN M 1) (mA M 3) (plw w (mN M 0)) 0 ≤ mN M 1 * 20 := sumN_le (fun q hq => by have a1 := (iP _ (hlt4 q hq)).2.1.2.2; have a2 := (iP _ (hlt4 _ (Nat.mod_lt (q + 1) (show 0 < mN M 1 by omega)))).2.1.2.2; unfold dst; split <;> omega)
    have hcl2 : mN M 1 * 20 ≤ 7 * 20 := Nat.mul_le_mul (by omega) (Nat.le_refl _)
    have hlt := lst2_lt (w := cst (mN M 1) (mA M 3) (plw w (mN M 0))) (b := 1000000) (by omega) (k := fct (mN M 1)) hfp
    rw [hlb] at hlt
    have hb9 := hbi hlt
    have upb := unr_pm hb9.1
    refine ⟨rfl, M3, rfl, hF3, hw0.symm, fun _ _ => ?_⟩
    rw [hwc]
    unfold bsR bst
    rw [hlb]
    exact ⟨h54, fun p hp => ⟨hb9.2 p hp, plw_lt (by rw [hlen]; exact upb.1 p hp)⟩⟩)
                            · skip
                              refine n_aload_n hC dX3_findSet_147 rfl ?_
                              refine n_iload hC dX3_findSet_148 rfl ?_
                              refine n_aload_n hC dX3_findSet_150 rfl ?_
                              refine m_getA hC 52 dX3_findSet_151 rfl rfl ?_
                              refine n_callV2v hC (mt_X3_unrank_52 na h (M3) (n := mN M 1) (v := v) ((congrFun (hF3 1 (by decide)) 0).trans h1) (by omega) (by omega) c_144) md_X3_unrank q1525 dX3_findSet_154 rfl (mPut_o _ _ _) rfl rfl ⟨rfl, rfl, by decide, by decide⟩ rfl (Nat.le_of_ble_eq_true rfl) (by decide) (by decide) (fun na0 h0 hp0 => ?_)
                              obtain ⟨rfl, M4, rfl, hFM4, hUM4⟩ := hp0
                              have hF4 : mFr [50, 51, 52, 53, 54] M M4 := mFr.cmp (fun _ z => z) (by decide) hF3 hFM4
                              have h514 : ∀ j, j < mN M 1 → M4 51 j = nI ((plw w (mN M 0)).getD j 0) := fun j hj => (congrFun (hFM4 51 (by decide)) j).trans (h51 j hj)
                              have h544 : M4 54 0 = nI bs := (congrFun (hFM4 54 (by decide)) 0).trans h54
                              have h534 := hFM4 53 (by decide)
                              have upm := unr_pm (n := mN M 1) c_144
                              have hle4 : ∀ p, p < mN M 1 → unr (mN M 1) v p < mN M 1 := upm.1
                              have hlt4 : ∀ p, p < mN M 1 → (plw w (mN M 0)).getD (unr (mN M 1) v p) 0 < mN M 0 := fun p hp => plw_lt (by rw [hlen]; exact hle4 p hp)
                              refine n_iconst hC (v := nI 0) dX3_findSet_157 (by decide) ?_
                              refine n_istore hC dX3_findSet_158 (Nat.le_of_ble_eq_true rfl) ?_
                              refine n_iconst hC (v := nI 0) dX3_findSet_160 (by decide) ?_
                              refine n_istore hC dX3_findSet_161 (Nat.le_of_ble_eq_true rfl) ?_
                              have lp163 : ∀ d9 : Nat, ∀ (p : Nat), mN M 1 - p = d9 → (p ≤ mN M 1) → WN K na (mPut na h M4) 0 0 Q9 163 [some (.ref (na 61)), some (.int (nI w)), none, some (.int (nI (fct (mN M 1)))), some (.int (nI v)), some (.int (nI (sumN p (fun p => dst (mA M 3 ((plw w (mN M 0)).getD (unr (mN M 1) v p) 0)) (mA M 3 ((plw w (mN M 0)).getD (unr (mN M 1) v ((p + 1) % mN M 1)) 0)))))), some (.int (nI p))] [] := by
                                intro d9
                                induction d9 using Nat.strongRecOn with
                                | _ d9 ih163 =>
                                  intro p hd163 hp
                                  refine n_iload hC dX3_findSet_163 rfl ?_
                                  refine n_aload_n hC dX3_findSet_165 rfl ?_
                                  refine m_getI hC 1 (v := nI (mN M 1)) dX3_findSet_166 rfl rfl (by decide) ((congrFun (hF4 1 (by decide)) 0).trans h1) ?_
                                  refine n_icmp_geN hC (tgt := 226) dX3_findSet_169 (by decide) (by omega) (by omega) (fun c_169 => ?_) (fun c_169 => ?_)
                                  · skip
                                    rw [show p = mN M 1 by omega]
                                    have hcl : sumN (mN M 1) (fun p => dst (mA M 3 ((plw w (mN M 0)).getD (unr (mN M 1) v p) 0)) (mA M 3 ((plw w (mN M 0)).getD (unr (mN M 1) v ((p + 1) % mN M 1)) 0))) ≤ mN M 1 * 20 := sumN_le (fun q hq => by have a1 := (iP _ (hlt4 q hq)).2.1.2.2; have a2 := (iP _ (hlt4 _ (Nat.mod_lt (q + 1) (show 0 < mN M 1 by omega)))).2.1.2.2; unfold dst; split <;> omega)
                                    have hcl2 : mN M 1 * 20 ≤ 7 * 20 := Nat.mul_le_mul (by omega) (Nat.le_refl _)
                                    refine n_iload hC dX3_findSet_226 rfl ?_
                                    refine n_aload_n hC dX3_findSet_228 rfl ?_
                                    refine m_getI hC 54 (v := nI bs) dX3_findSet_229 rfl rfl (by decide) h544 ?_
                                    refine n_icmp_ltN hC (tgt := 238) dX3_findSet_232 (by decide) (by omega) (by omega) (fun c_232 => ?_) (fun c_232 => ?_)
                                    · skip
                                      refine n_aload_n hC dX3_findSet_238 rfl ?_
                                      refine n_iload hC dX3_findSet_239 rfl ?_
                                      refine m_putI hC 54 (M2 := mset M4 54 (fun _ => nI (sumN (mN M 1) (fun p => dst (mA M 3 ((plw w (mN M 0)).getD (unr (mN M 1) v p) 0)) (mA M 3 ((plw w (mN M 0)).getD (unr (mN M 1) v ((p + 1) % mN M 1)) 0)))))) dX3_findSet_241 rfl rfl (by decide) rfl rfl rfl rfl rfl ?_
                                      refine n_iconst hC (v := nI 0) dX3_findSet_244 (by decide) ?_
                                      refine n_istore hC dX3_findSet_245 (Nat.le_of_ble_eq_true rfl) ?_
                                      have lp247 : ∀ d9 : Nat, ∀ (p : Nat) (M5 : nMem), mN M 1 - p = d9 → (p ≤ mN M 1) → (mFr [50, 51, 52, 53, 54] M M5) → (M5 54 0 = nI (cst (mN M 1) (mA M 3) (plw w (mN M 0)) v)) → (M5 51 = M4 51) → (M5 52 = M4 52) → (∀ q, q < p → M5 53 q = nI ((plw w (mN M 0)).getD (unr (mN M 1) v q) 0)) → WN K na (mPut na h M5) 0 0 Q9 247 [some (.ref (na 61)), some (.int (nI w)), none, some (.int (nI (fct (mN M 1)))), some (.int (nI v)), some (.int (nI (sumN (mN M 1) (fun p => dst (mA M 3 ((plw w (mN M 0)).getD (unr (mN M 1) v p) 0)) (mA M 3 ((plw w (mN M 0)).getD (unr (mN M 1) v ((p + 1) % mN M 1)) 0)))))), some (.int (nI p))] [] := by
                                        intro d9
                                        induction d9 using Nat.strongRecOn with
                                        | _ d9 ih247 =>
                                          intro p M5 hd247 hp5 hF5 h545 h515 h525 h535
                                          refine n_iload hC dX3_findSet_247 rfl ?_
                                          refine n_aload_n hC dX3_findSet_249 rfl ?_
                                          refine m_getI hC 1 (v := nI (mN M 1)) dX3_findSet_250 rfl rfl (by decide) ((congrFun (hF5 1 (by decide)) 0).trans h1) ?_
                                          refine n_icmp_geN hC (tgt := 281) dX3_findSet_253 (by decide) (by omega) (by omega) (fun c_253 => ?_) (fun c_253 => ?_)
                                          · skip
                                            have hcs : cst (mN M 1) (mA M 3) (plw w (mN M 0)) v < bs := c_232
                                            refine n_iincN hC dX3_findSet_281 (j := 1) (c := v + 1) rfl (by decide) rfl ?_
                                            refine n_goto hC (tgt := 141) dX3_findSet_284 (by decide) ?_
                                            exact WN.forget (L' := [some (.ref (na 61)), some (.int (nI w)), none, some (.int (nI (fct (mN M 1)))), some (.int (nI (v + 1))), none, none]) (⟨Or.inr rfl, Or.inr rfl, Or.inl rfl, Or.inr rfl, Or.inr rfl, Or.inl rfl, Or.inl rfl, trivial⟩) (ih141 _ (by omega) (v + 1) (cst (mN M 1) (mA M 3) (plw w (mN M 0)) v) v M5 rfl (by omega) hF5 h545 (fun j hj => (congrFun h515 j).trans (h514 j hj)) (by rw [lst2_s hlb]; exact if_pos c_232) (by omega) (fun _ => ⟨c_144, fun q hq => h535 q (by omega)⟩))
                                          · skip
                                            refine n_aload_n hC dX3_findSet_256 rfl ?_
                                            refine m_getA hC 53 dX3_findSet_257 rfl rfl ?_
                                            refine n_iload hC dX3_findSet_260 rfl ?_
                                            refine n_aload_n hC dX3_findSet_262 rfl ?_
                                            refine m_getA hC 51 dX3_findSet_263 rfl rfl ?_
                                            refine n_aload_n hC dX3_findSet_266 rfl ?_
                                            refine m_getA hC 52 dX3_findSet_267 rfl rfl ?_
                                            refine n_iload hC dX3_findSet_270 rfl ?_
                                            refine m_aldN hC 52 (v := nI (unr (mN M 1) v p)) dX3_findSet_272 rfl rfl (by have h9 : mLen 52 = 7 := rfl; omega) ((congrFun h525 p).trans (hUM4 p (by omega))) ?_
                                            refine m_aldN hC 51 (v := nI ((plw w (mN M 0)).getD (unr (mN M 1) v p) 0)) dX3_findSet_273 rfl rfl (by have h9 : mLen 51 = 7 := rfl; have := hle4 p (by omega); omega) ((congrFun h515 _).trans (h514 _ (hle4 p (by omega)))) ?_
                                            refine m_astN hC 53 (M2 := mset M5 53 (upd (M5 53) p (nI ((plw w (mN M 0)).getD (unr (mN M 1) v p) 0)))) dX3_findSet_274 rfl rfl (by have h9 : mLen 53 = 7 := rfl; omega) rfl ?_
                                            refine n_iincN hC dX3_findSet_275 (j := 1) (c := p + 1) rfl (by decide) rfl ?_
                                            refine n_goto hC (tgt := 247) dX3_findSet_278 (by decide) ?_
                                            exact WN.forget (L' := [some (.ref (na 61)), some (.int (nI w)), none, some (.int (nI (fct (mN M 1)))), some (.int (nI v)), some (.int (nI (sumN (mN M 1) (fun p => dst (mA M 3 ((plw w (mN M 0)).getD (unr (mN M 1) v p) 0)) (mA M 3 ((plw w (mN M 0)).getD (unr (mN M 1) v ((p + 1) % mN M 1)) 0)))))), some (.int (nI (p + 1)))]) (⟨Or.inr rfl, Or.inr rfl, Or.inl rfl, Or.inr rfl, Or.inr rfl, Or.inr rfl, Or.inr rfl, trivial⟩) (ih247 _ (by omega) (p + 1) (mset M5 53 (upd (M5 53) p (nI ((plw w (mN M 0)).getD (unr (mN M 1) v p) 0)))) rfl (by omega) (mFr.set (by decide) hF5) h545 h515 h525 (lt_s (fun q hq => (if_neg (by omega)).trans (h535 q hq)) (if_pos rfl)))
                                      exact WN.forget (L' := [some (.ref (na 61)), some (.int (nI w)), none, some (.int (nI (fct (mN M 1)))), some (.int (nI v)), some (.int (nI (sumN (mN M 1) (fun p => dst (mA M 3 ((plw w (mN M 0)).getD (unr (mN M 1) v p) 0)) (mA M 3 ((plw w (mN M 0)).getD (unr (mN M 1) v ((p + 1) % mN M 1)) 0)))))), some (.int (nI 0))]) (⟨Or.inr rfl, Or.inr rfl, Or.inl rfl, Or.inr rfl, Or.inr rfl, Or.inr rfl, Or.inr rfl, trivial⟩) (lp247 _ 0 (mset M4 54 (fun _ => nI (sumN (mN M 1) (fun p => dst (mA M 3 ((plw w (mN M 0)).getD (unr (mN M 1) v p) 0)) (mA M 3 ((plw w (mN M 0)).getD (unr (mN M 1) v ((p + 1) % mN M 1)) 0)))))) rfl (by omega) (mFr.set (by decide) hF4) (by show _ = nI (sumN _ _); rfl) rfl rfl lt_0)
                                    · skip
                                      refine n_goto hC (tgt := 281) dX3_findSet_235 (by decide) ?_
                                      refine n_iincN hC dX3_findSet_281 (j := 1) (c := v + 1) rfl (by decide) rfl ?_
                                      refine n_goto hC (tgt := 141) dX3_findSet_284 (by decide) ?_
                                      exact WN.forget (L' := [some (.ref (na 61)), some (.int (nI w)), none, some (.int (nI (fct (mN M 1)))), some (.int (nI (v + 1))), none, none]) (⟨Or.inr rfl, Or.inr rfl, Or.inl rfl, Or.inr rfl, Or.inr rfl, Or.inl rfl, Or.inl rfl, trivial⟩) (ih141 _ (by omega) (v + 1) bs bi M4 rfl (by omega) hF4 h544 h514 (by rw [lst2_s hlb]; exact if_neg (Nat.not_lt.mpr c_232)) (by omega) (fun z => ⟨(hbi z).1, fun p hp => (congrFun h534 p).trans ((hbi z).2 p hp)⟩))
                                  · skip
                                    have hq : (p + 1) % mN M 1 < mN M 1 := Nat.mod_lt _ (by omega)
                                    refine n_iload hC dX3_findSet_172 rfl ?_
                                    refine n_aload_n hC dX3_findSet_174 rfl ?_
                                    refine n_aload_n hC dX3_findSet_175 rfl ?_
                                    refine m_getA hC 3 dX3_findSet_176 rfl rfl ?_
                                    refine n_aload_n hC dX3_findSet_179 rfl ?_
                                    refine m_getA hC 51 dX3_findSet_180 rfl rfl ?_
                                    refine n_aload_n hC dX3_findSet_183 rfl ?_
                                    refine m_getA hC 52 dX3_findSet_184 rfl rfl ?_
                                    refine n_iload hC dX3_findSet_187 rfl ?_
                                    refine m_aldN hC 52 (v := nI (unr (mN M 1) v p)) dX3_findSet_189 rfl rfl (by have h9 : mLen 52 = 7 := rfl; omega) (hUM4 _ (by omega)) ?_
                                    refine m_aldN hC 51 (v := nI ((plw w (mN M 0)).getD (unr (mN M 1) v p) 0)) dX3_findSet_190 rfl rfl (by have h9 : mLen 51 = 7 := rfl; have := hle4 p (by omega); omega) (h514 _ (hle4 p (by omega))) ?_
                                    refine m_aldN hC 3 (v := nI (mA M 3 ((plw w (mN M 0)).getD (unr (mN M 1) v p) 0))) dX3_findSet_191 rfl rfl (by have h9 : mLen 3 = 15 := rfl; have := hlt4 p (by omega); omega) ((congrFun (hF4 3 (by decide)) _).trans (iP _ (hlt4 p (by omega))).2.1.1) ?_
                                    refine n_aload_n hC dX3_findSet_192 rfl ?_
                                    refine m_getA hC 3 dX3_findSet_193 rfl rfl ?_
                                    refine n_aload_n hC dX3_findSet_196 rfl ?_
                                    refine m_getA hC 51 dX3_findSet_197 rfl rfl ?_
                                    refine n_aload_n hC dX3_findSet_200 rfl ?_
                                    refine m_getA hC 52 dX3_findSet_201 rfl rfl ?_
                                    refine n_aload_n hC dX3_findSet_204 rfl ?_
                                    refine n_iload hC dX3_findSet_205 rfl ?_
                                    refine n_callV1i hC (mt_X3_after na h (M4) (p := p) (n := mN M 1) ((congrFun (hF4 1 (by decide)) 0).trans h1) (by omega) (by omega)) md_X3_after q1338 dX3_findSet_207 rfl (mPut_o _ _ _) rfl rfl ⟨rfl, rfl, by decide, by decide⟩ rfl (Nat.le_of_ble_eq_true rfl) (by decide) (by decide) (fun r1 na1 h1 hp1 => ?_)
                                    obtain ⟨rfl, rfl, rfl⟩ := hp1
                                    refine m_aldN hC 52 (v := nI (unr (mN M 1) v ((p + 1) % mN M 1))) dX3_findSet_210 rfl rfl (by have h9 : mLen 52 = 7 := rfl; omega) (hUM4 _ hq) ?_
                                    refine m_aldN hC 51 (v := nI ((plw w (mN M 0)).getD (unr (mN M 1) v ((p + 1) % mN M 1)) 0)) dX3_findSet_211 rfl rfl (by have h9 : mLen 51 = 7 := rfl; have := hle4 _ hq; omega) (h514 _ (hle4 _ hq)) ?_
                                    refine m_aldN hC 3 (v := nI (mA M 3 ((plw w (mN M 0)).getD (unr (mN M 1) v ((p + 1) % mN M 1)) 0))) dX3_findSet_212 rfl rfl (by have h9 : mLen 3 = 15 := rfl; have := hlt4 _ hq; omega) ((congrFun (hF4 3 (by decide)) _).trans (iP _ (hlt4 _ hq)).2.1.1) ?_
                                    have b91 := (iP _ (hlt4 p (by omega))).2.1.2.2
                                    have b92 := (iP _ (hlt4 _ hq)).2.1.2.2
                                    refine n_isub hC dX3_findSet_213 ?_
                                    refine n_callV1i hC (mt_X3_abs na h (M4) (p := (mA M 3 ((plw w (mN M 0)).getD (unr (mN M 1) v p) 0))) (q := (mA M 3 ((plw w (mN M 0)).getD (unr (mN M 1) v ((p + 1) % mN M 1)) 0))) (by omega) (by omega)) md_X3_abs q1469 dX3_findSet_214 rfl (mPut_o _ _ _) rfl rfl ⟨rfl, rfl, by decide, by decide⟩ rfl (Nat.le_of_ble_eq_true rfl) (by decide) (by decide) (fun r2 na2 h2 hp2 => ?_)
                                    obtain ⟨rfl, rfl, rfl⟩ := hp2
                                    refine n_iaddN hC dX3_findSet_217 rfl ?_
                                    rw [show nI ((sumN p (fun p => dst (mA M 3 ((plw w (mN M 0)).getD (unr (mN M 1) v p) 0)) (mA M 3 ((plw w (mN M 0)).getD (unr (mN M 1) v ((p + 1) % mN M 1)) 0)))) + (if (mA M 3 ((plw w (mN M 0)).getD (unr (mN M 1) v p) 0)) < (mA M 3 ((plw w (mN M 0)).getD (unr (mN M 1) v ((p + 1) % mN M 1)) 0)) then (mA M 3 ((plw w (mN M 0)).getD (unr (mN M 1) v ((p + 1) % mN M 1)) 0)) - (mA M 3 ((plw w (mN M 0)).getD (unr (mN M 1) v p) 0)) else (mA M 3 ((plw w (mN M 0)).getD (unr (mN M 1) v p) 0)) - (mA M 3 ((plw w (mN M 0)).getD (unr (mN M 1) v ((p + 1) % mN M 1)) 0)))) = nI (sumN (p + 1) (fun p => dst (mA M 3 ((plw w (mN M 0)).getD (unr (mN M 1) v p) 0)) (mA M 3 ((plw w (mN M 0)).getD (unr (mN M 1) v ((p + 1) % mN M 1)) 0)))) from rfl]
                                    refine n_istore hC dX3_findSet_218 (Nat.le_of_ble_eq_true rfl) ?_
                                    refine n_iincN hC dX3_findSet_220 (j := 1) (c := p + 1) rfl (by decide) rfl ?_
                                    refine n_goto hC (tgt := 163) dX3_findSet_223 (by decide) ?_
                                    exact WN.forget (L' := [some (.ref (na 61)), some (.int (nI w)), none, some (.int (nI (fct (mN M 1)))), some (.int (nI v)), some (.int (nI (sumN (p + 1) (fun p => dst (mA M 3 ((plw w (mN M 0)).getD (unr (mN M 1) v p) 0)) (mA M 3 ((plw w (mN M 0)).getD (unr (mN M 1) v ((p + 1) % mN M 1)) 0)))))), some (.int (nI (p + 1)))]) (⟨Or.inr rfl, Or.inr rfl, Or.inl rfl, Or.inr rfl, Or.inr rfl, Or.inr rfl, Or.inr rfl, trivial⟩) (ih163 _ (by omega) (p + 1) rfl (by omega))
                              exact WN.forget (L' := [some (.ref (na 61)), some (.int (nI w)), none, some (.int (nI (fct (mN M 1)))), some (.int (nI v)), some (.int (nI (sumN 0 (fun p => dst (mA M 3 ((plw w (mN M 0)).getD (unr (mN M 1) v p) 0)) (mA M 3 ((plw w (mN M 0)).getD (unr (mN M 1) v ((p + 1) % mN M 1)) 0)))))), some (.int (nI 0))]) (⟨Or.inr rfl, Or.inr rfl, Or.inl rfl, Or.inr rfl, Or.inr rfl, Or.inr rfl, Or.inr rfl, trivial⟩) (lp163 _ 0 rfl (by omega))
                        exact WN.forget (L' := [some (.ref (na 61)), some (.int (nI w)), none, some (.int (nI (fct (mN M 1)))), some (.int (nI 0)), none, none]) (⟨Or.inr rfl, Or.inr rfl, Or.inl rfl, Or.inr rfl, Or.inr rfl, Or.inl rfl, Or.inl rfl, trivial⟩) (lp141 _ 0 1000000 0 (mset M2 54 (fun _ => nI 1000000)) rfl (by omega) (mFr.set (by decide) hF2) rfl hm2 rfl (Nat.le_refl _) (fun z => absurd z (by decide)))
                      · skip
                        refine n_iload_n hC dX3_findSet_120 rfl ?_
                        refine n_iload hC dX3_findSet_121 rfl ?_
                        refine n_imulN hC dX3_findSet_123 rfl ?_
                        rw [show nI ((fct (kf - 1)) * kf) = nI (fct kf) from (by rw [show kf = (kf - 1) + 1 by omega]; rfl)]
                        refine n_istore_n hC dX3_findSet_124 (Nat.le_of_ble_eq_true rfl) ?_
                        refine n_iincN hC dX3_findSet_125 (j := 1) (c := kf + 1) rfl (by decide) rfl ?_
                        rw [show fct kf = fct (kf + 1 - 1) from rfl]
                        refine n_goto hC (tgt := 111) dX3_findSet_128 (by decide) ?_
                        exact WN.forget (L' := [some (.ref (na 61)), some (.int (nI w)), none, some (.int (nI (fct (kf + 1 - 1)))), some (.int (nI (kf + 1))), none, none]) (⟨Or.inr rfl, Or.inr rfl, Or.inl rfl, Or.inr rfl, Or.inr rfl, Or.inl rfl, Or.inl rfl, trivial⟩) (ih111 _ (by omega) (kf + 1) rfl (by omega))
                  exact WN.forget (L' := [some (.ref (na 61)), some (.int (nI w)), none, some (.int (nI (fct (2 - 1)))), some (.int (nI 2)), none, none]) (⟨Or.inr rfl, Or.inr rfl, Or.inl rfl, Or.inr rfl, Or.inr rfl, Or.inl rfl, Or.inl rfl, trivial⟩) (lp111 _ 2 rfl (by omega))
                · skip
                  rw [hk9] at c_100
                  refine n_bipush hC (v := (-2)) dX3_findSet_103 (by decide) ?_
                  exact n_iret hC dX3_findSet_105 (by decide) (by decide) (⟨rfl, _, rfl, fsP_n hF2 (by unfold whyS; rw [if_neg hn7, hwc, if_neg hsw]; exact if_pos (Or.inr c_100)) (by decide)⟩)
              · skip
                refine n_iload_n hC dX3_findSet_47 rfl ?_
                refine n_iload_n hC dX3_findSet_48 rfl ?_
                refine n_ishr hC dX3_findSet_49 ?_
                refine n_iconst hC (v := nI 1) dX3_findSet_50 (by decide) ?_
                refine n_iand hC dX3_findSet_51 ?_
                rw [show ((nI w) >>> ((nI k) &&& 31)) &&& (nI 1) = nI (w / 2 ^ k % 2) from bitv hw (by omega)]
                refine n_if_neN hC (tgt := 58) dX3_findSet_52 (by decide) (by omega) (fun c_52 => ?_) (fun c_52 => ?_)
                · skip
                  have ht : w.testBit k = true := by rw [bitt] at c_52; cases e : w.testBit k; rw [e] at c_52; exact absurd rfl c_52; rfl
                  refine n_aload_n hC dX3_findSet_58 rfl ?_
                  refine m_getA hC 2 dX3_findSet_59 rfl rfl ?_
                  refine n_iload_n hC dX3_findSet_62 rfl ?_
                  refine m_aldN hC 2 (v := nI (mA M 2 k)) dX3_findSet_63 rfl rfl (by have h9 : mLen 2 = 15 := rfl; omega) ((congrFun (hF2 2 (by decide)) k).trans (iP k (by omega)).1.1) ?_
                  refine n_iconst hC (v := nI 4) dX3_findSet_64 (by decide) ?_
                  refine n_icmp_eqN hC (tgt := 76) dX3_findSet_65 (by decide) (by have := (iP k (by omega)).1.2; omega) (by omega) (fun c_65 => ?_) (fun c_65 => ?_)
                  · skip
                    refine n_bipush hC (v := (-2)) dX3_findSet_76 (by decide) ?_
                    exact n_iret hC dX3_findSet_78 (by decide) (by decide) (⟨rfl, _, rfl, fsP_n hF2 (by unfold whyS; rw [if_neg hn7, hwc, if_neg hsw]; exact if_pos (Or.inl (anyb_t (p := k) (by omega) (by rw [ht, decide_eq_true c_65]; rfl)))) (by decide)⟩)
                  · skip
                    refine n_iload_n hC dX3_findSet_68 rfl ?_
                    refine n_aload_n hC dX3_findSet_69 rfl ?_
                    refine m_getI hC 1 (v := nI (mN M 1)) dX3_findSet_70 rfl rfl (by decide) ((congrFun (hF2 1 (by decide)) 0).trans h1) ?_
                    refine n_icmp_neN hC (tgt := 79) dX3_findSet_73 (by decide) (by omega) (by omega) (fun c_73 => ?_) (fun c_73 => ?_)
                    · skip
                      refine n_aload_n hC dX3_findSet_79 rfl ?_
                      refine m_getA hC 51 dX3_findSet_80 rfl rfl ?_
                      refine n_iload_n hC dX3_findSet_83 rfl ?_
                      refine n_iload_n hC dX3_findSet_84 rfl ?_
                      refine m_astN hC 51 (M2 := mset M2 51 (upd (M2 51) ((plw w k).length) (nI k))) dX3_findSet_85 rfl rfl (by have h9 : mLen 51 = 7 := rfl; omega) rfl ?_
                      refine n_iinc hC dX3_findSet_86 (v := nI ((plw w (k + 1)).length)) rfl (by rw [plw_t ht, List.length_append, List.length_singleton, show Int32.ofInt 1 = nI 1 by decide, nI_add]) ?_
                      refine n_iincN hC dX3_findSet_89 (j := 1) (c := k + 1) rfl (by decide) rfl ?_
                      refine n_goto hC (tgt := 39) dX3_findSet_92 (by decide) ?_
                      exact WN.forget (L' := [some (.ref (na 61)), some (.int (nI w)), some (.int (nI ((plw w (k + 1)).length))), some (.int (nI (k + 1))), none, none, none]) (⟨Or.inr rfl, Or.inr rfl, Or.inr rfl, Or.inr rfl, Or.inl rfl, Or.inl rfl, Or.inl rfl, trivial⟩) (ih39 _ (by omega) (k + 1) (mset M2 51 (upd (M2 51) ((plw w k).length) (nI k))) rfl (by omega) (mFr.set (by decide) hF2) (by rw [plw_t ht]; simp; omega) (fun j hj => by rw [plw_t ht] at hj ⊢; rw [snoc_get hj]; show upd (M2 51) _ _ j = _; unfold upd; split; rfl; rw [List.length_append, List.length_singleton] at hj; exact hm j (by omega)) (lt_s hno (by rw [decide_eq_false c_65, Bool.and_false])))
                    · skip
                      refine n_bipush hC (v := (-2)) dX3_findSet_76 (by decide) ?_
                      exact n_iret hC dX3_findSet_78 (by decide) (by decide) (⟨rfl, _, rfl, fsP_n hF2 (by unfold whyS; rw [if_neg hn7, hwc, if_neg hsw]; exact if_pos (Or.inr (fun z => by have := plw_len_mono (w := w) (show k + 1 ≤ mN M 0 by omega); rw [plw_t ht] at this; simp at this; omega))) (by decide)⟩)
                · skip
                  have ht : w.testBit k = false := by rw [bitt] at c_52; cases e : w.testBit k; rfl; rw [e] at c_52; exact absurd c_52 (by decide)
                  refine n_goto hC (tgt := 89) dX3_findSet_55 (by decide) ?_
                  rw [← plw_f ht]
                  refine n_iincN hC dX3_findSet_89 (j := 1) (c := k + 1) rfl (by decide) rfl ?_
                  refine n_goto hC (tgt := 39) dX3_findSet_92 (by decide) ?_
                  exact WN.forget (L' := [some (.ref (na 61)), some (.int (nI w)), some (.int (nI ((plw w (k + 1)).length))), some (.int (nI (k + 1))), none, none, none]) (⟨Or.inr rfl, Or.inr rfl, Or.inr rfl, Or.inr rfl, Or.inl rfl, Or.inl rfl, Or.inl rfl, trivial⟩) (ih39 _ (by omega) (k + 1) M2 rfl (by omega) hF2 (by rw [plw_f ht]; exact hl) (by rw [plw_f ht]; exact hm) (lt_s hno (by rw [ht, Bool.false_and])))
          exact WN.forget (L' := [some (.ref (na 61)), some (.int (nI w)), some (.int (nI ((plw w 0).length))), some (.int (nI 0)), none, none, none]) (⟨Or.inr rfl, Or.inr rfl, Or.inr rfl, Or.inr rfl, Or.inl rfl, Or.inl rfl, Or.inl rfl, trivial⟩) (lp39 _ 0 M rfl (by omega) mFr.rf (Nat.zero_le _) (fun j hj => absurd hj (Nat.not_lt_zero j)) lt_0)
        · skip
          refine n_bipush hC (v := (-2)) dX3_findSet_32 (by decide) ?_
          exact n_iret hC dX3_findSet_34 (by decide) (by decide) (⟨rfl, M, rfl, fsP_n mFr.rf (by unfold whyS; rw [if_neg hn7]; exact if_pos (Or.inr (by rw [nI_clamp hw]; exact Nat.not_lt.mp (fun z => c_29 ((shr_z hw).mpr z))))) (by decide)⟩)
    · skip
      refine n_bipush hC (v := (-3)) dX3_findSet_16 (by decide) ?_
      exact n_iret hC dX3_findSet_18 (by decide) (by decide) (⟨rfl, M, rfl, fsP_n mFr.rf (by unfold whyS; exact if_pos (Or.inr (by omega))) (by decide)⟩)

set_option maxHeartbeats 4000000 in
set_option maxRecDepth 100000 in
theorem mt_X3_set (na : nA) (h : nH) (M : nMem) (hI : mInv M) (s what : Int32) : nM yX3_set cX3_set 4 (some .int) (nRm 9 0 0) [.ref (na 61), .int s, .int what] na (mPut na h M) (nQi (mOp na h (o_set s what M))) 0 0 := by
  refine nM.ofN RX3 rfl (by decide) (by intro v hv; simp only [List.mem_cons, List.not_mem_nil, or_false] at hv; rcases hv with rfl | rfl | rfl <;> rfl) (Nat.le_of_ble_eq_true rfl) (fun K hC hnm => ?_)
  show WN K na (mPut na h M) 0 0 (nE K (nQi (mOp na h (o_set s what M))) 0 0) 0 [some (.ref (na 61)), some (.int s), some (.int what), none] []
  let Q9 : State → Prop := nE K (nQi (mOp na h (o_set s what M))) 0 0
  show WN K na (mPut na h M) 0 0 Q9 0 [some (.ref (na 61)), some (.int s), some (.int what), none] []
  have hI9 := hI
  obtain ⟨⟨h0, b0⟩, ⟨h1, b1a, b1⟩, ⟨h11, b11⟩, ⟨h14, b14⟩, ⟨h15, b15, b15n⟩, ⟨h20, b20⟩, ⟨h26, b26⟩, ⟨h27, b27⟩, ⟨h55, b55⟩, iP, iH, iHi, iHd, iC, iT, iF, iG, iS, iZ⟩ := hI
  refine n_aload_n hC dX3_set_0 rfl ?_
  refine n_iload_n hC dX3_set_1 rfl ?_
  refine n_callV1i hC (mt_X3_findSet na h M hI9 s) md_X3_findSet q1537 dX3_set_2 rfl (mPut_o _ _ _) rfl rfl ⟨rfl, rfl, by decide, by decide⟩ rfl (Nat.le_of_ble_eq_true rfl) (by decide) (by decide) (fun r0 na0 h0 hp0 => ?_)
  obtain ⟨rfl, M2, rfl, hF2, ew2, hS2⟩ := hp0
  subst ew2
  refine n_istore_n hC dX3_set_5 (Nat.le_of_ble_eq_true rfl) ?_
  refine n_iload_n hC dX3_set_6 rfl ?_
  refine n_if_eq hC (tgt := 12) dX3_set_7 (by decide) (fun c_7 => ?_) (fun c_7 => ?_)
  · skip
    have c_7 : whyS M s = 0 := c_7
    have h3n : 3 ≤ mN M 1 := by
      rcases b1a with z | z
      · exfalso; unfold whyS at c_7; rw [if_pos (Or.inl z)] at c_7; exact absurd c_7 (by decide)
      · exact z
    have hS3 := hS2 c_7 h3n
    have h7n : mN M 1 ≤ 7 := by
      by_cases z : mN M 1 ≤ 7
      · exact z
      · exfalso; unfold whyS at c_7; rw [if_pos (Or.inr (by omega))] at c_7; exact absurd c_7 (by decide)
    refine n_iload_n hC dX3_set_12 rfl ?_
    refine n_iconst hC (v := (-1)) dX3_set_13 (by decide) ?_
    refine n_icmp_ne hC (tgt := 24) dX3_set_14 (by decide) (fun c_14 => ?_) (fun c_14 => ?_)
    · skip
      refine n_aload_n hC dX3_set_24 rfl ?_
      refine n_iload_n hC dX3_set_25 rfl ?_
      refine n_iconst hC (v := nI 0) dX3_set_26 (by decide) ?_
      refine n_aload_n hC dX3_set_27 rfl ?_
      refine m_getI hC 1 (v := nI (mN M 1)) dX3_set_28 rfl rfl (by decide) ((congrFun (hF2 1 (by decide)) 0).trans h1) ?_
      refine n_iconst hC (v := nI 1) dX3_set_31 (by decide) ?_
      refine n_isub hC dX3_set_32 ?_
      refine n_callV3z hC (mt_X3_in na h (M2) (what) (nI 0) ((nI (mN M 1)) - (nI 1))) md_X3_in q1293 dX3_set_33 rfl (mPut_o _ _ _) rfl rfl ⟨rfl, rfl, by decide, by decide⟩ rfl (Nat.le_of_ble_eq_true rfl) (by decide) (by decide) (fun r1 na1 h1 hp1 => ?_)
      obtain ⟨rfl, rfl, rfl⟩ := hp1
      rw [show nrg what (nI 0) (nI (mN M 1) - nI 1) = nin what (mN M 1) from nrg_in (by omega)]
      refine n_if_eqB hC (tgt := 48) dX3_set_36 (by decide) (fun c_36 => ?_) (fun c_36 => ?_)
      · skip
        refine n_iconst hC (v := (-1)) dX3_set_48 (by decide) ?_
        exact n_iret hC dX3_set_49 (by decide) (by decide) (⟨rfl, by unfold o_set; rw [if_neg (fun z => z c_7), if_neg c_14, if_neg (by rw [c_36]; decide)], M2, rfl, mEq.fr (by decide) hF2⟩)
      · skip
        obtain ⟨j, hj, ej⟩ := (nin_t (by omega)).mp c_36
        subst ej
        refine n_aload_n hC dX3_set_39 rfl ?_
        refine m_getA hC 53 dX3_set_40 rfl rfl ?_
        refine n_iload_n hC dX3_set_43 rfl ?_
        refine m_aldN hC 53 (v := nI (bsR M s.toNatClampNeg j)) dX3_set_44 rfl rfl (by have h9 : mLen 53 = 7 := rfl; omega) ((hS3.2 j hj).1) ?_
        refine n_goto hC (tgt := 49) dX3_set_45 (by decide) ?_
        exact n_iret hC dX3_set_49 (by decide) (by decide) (⟨rfl, by unfold o_set; rw [if_neg (fun z => z c_7), if_neg c_14, if_pos c_36, nI_clamp (by omega)], M2, rfl, mEq.fr (by decide) hF2⟩)
    · skip
      have c_14 : what = -1 := c_14
      refine n_aload_n hC dX3_set_17 rfl ?_
      refine m_getI hC 54 (v := nI ((bst M s.toNatClampNeg).1)) dX3_set_18 rfl rfl (by decide) hS3.1 ?_
      refine n_goto hC (tgt := 49) dX3_set_21 (by decide) ?_
      exact n_iret hC dX3_set_49 (by decide) (by decide) (⟨rfl, by unfold o_set; rw [if_neg (fun z => z c_7), if_pos c_14], M2, rfl, mEq.fr (by decide) hF2⟩)
  · skip
    refine n_iload_n hC dX3_set_10 rfl ?_
    exact n_iret hC dX3_set_11 (by decide) (by decide) (⟨rfl, by unfold o_set; exact if_pos c_7, M2, rfl, mEq.fr (by decide) hF2⟩)

set_option maxHeartbeats 4000000 in
set_option maxRecDepth 100000 in
theorem mt_X3_spent (na : nA) (h : nH) (M : nMem) (hI : mInv M) (s f : Int32) : nM yX3_spent cX3_spent 9 (some .int) (nRm 9 0 0) [.ref (na 61), .int s, .int f] na (mPut na h M) (nQi (mOp na h (o_spent s f M))) 0 0 := by
  refine nM.ofN RX3 rfl (by decide) (by intro v hv; simp only [List.mem_cons, List.not_mem_nil, or_false] at hv; rcases hv with rfl | rfl | rfl <;> rfl) (Nat.le_of_ble_eq_true rfl) (fun K hC hnm => ?_)
  show WN K na (mPut na h M) 0 0 (nE K (nQi (mOp na h (o_spent s f M))) 0 0) 0 [some (.ref (na 61)), some (.int s), some (.int f), none, none, none, none, none, none] []
  let Q9 : State → Prop := nE K (nQi (mOp na h (o_spent s f M))) 0 0
  show WN K na (mPut na h M) 0 0 Q9 0 [some (.ref (na 61)), some (.int s), some (.int f), none, none, none, none, none, none] []
  have hI9 := hI
  obtain ⟨⟨h0, b0⟩, ⟨h1, b1a, b1⟩, ⟨h11, b11⟩, ⟨h14, b14⟩, ⟨h15, b15, b15n⟩, ⟨h20, b20⟩, ⟨h26, b26⟩, ⟨h27, b27⟩, ⟨h55, b55⟩, iP, iH, iHi, iHd, iC, iT, iF, iG, iS, iZ⟩ := hI
  refine n_aload_n hC dX3_spent_0 rfl ?_
  refine n_iload_n hC dX3_spent_1 rfl ?_
  refine n_callV1z hC (mt_X3_isFigure na h (M) (f) (n := mN M 26) h26 (by omega)) md_X3_isFigure q1419 dX3_spent_2 rfl (mPut_o _ _ _) rfl rfl ⟨rfl, rfl, by decide, by decide⟩ rfl (Nat.le_of_ble_eq_true rfl) (by decide) (by decide) (fun r0 na0 h0 hp0 => ?_)
  obtain ⟨rfl, rfl, rfl⟩ := hp0
  refine n_if_neB hC (tgt := 10) dX3_spent_5 (by decide) (fun c_5 => ?_) (fun c_5 => ?_)
  · skip
    obtain ⟨z, hz, ez⟩ := (nin_t (by omega)).mp c_5
    subst ez
    have hzc : (nI z).toNatClampNeg = z := nI_clamp (by omega)
    have hmz := (iF z hz).2
    refine n_aload_n hC dX3_spent_10 rfl ?_
    refine n_iload_n hC dX3_spent_11 rfl ?_
    refine n_callV1i hC (mt_X3_findSet na h M hI9 s) md_X3_findSet q1537 dX3_spent_12 rfl (mPut_o _ _ _) rfl rfl ⟨rfl, rfl, by decide, by decide⟩ rfl (Nat.le_of_ble_eq_true rfl) (by decide) (by decide) (fun r1 na1 h1 hp1 => ?_)
    obtain ⟨rfl, M2, rfl, hF2, ew2, hS2⟩ := hp1
    subst ew2
    refine n_istore_n hC dX3_spent_15 (Nat.le_of_ble_eq_true rfl) ?_
    refine n_iload_n hC dX3_spent_16 rfl ?_
    refine n_if_eq hC (tgt := 22) dX3_spent_17 (by decide) (fun c_17 => ?_) (fun c_17 => ?_)
    · skip
      have c_17 : whyS M s = 0 := c_17
      have h3n : 3 ≤ mN M 1 := by
        rcases b1a with z | z
        · exfalso; unfold whyS at c_17; rw [if_pos (Or.inl z)] at c_17; exact absurd c_17 (by decide)
        · exact z
      have hS3 := hS2 c_17 h3n
      have h7n : mN M 1 ≤ 7 := by
        by_cases z : mN M 1 ≤ 7
        · exact z
        · exfalso; unfold whyS at c_17; rw [if_pos (Or.inr (by omega))] at c_17; exact absurd c_17 (by decide)
      refine n_iconst hC (v := nI 0) dX3_spent_22 (by decide) ?_
      refine n_istore hC dX3_spent_23 (Nat.le_of_ble_eq_true rfl) ?_
      refine n_iconst hC (v := nI 0) dX3_spent_25 (by decide) ?_
      refine n_istore hC dX3_spent_26 (Nat.le_of_ble_eq_true rfl) ?_
      refine n_iconst hC (v := nI 0) dX3_spent_28 (by decide) ?_
      refine n_istore hC dX3_spent_29 (Nat.le_of_ble_eq_true rfl) ?_
      have lp31 : ∀ d9 : Nat, ∀ (p : Nat), mN M 1 - p = d9 → (p ≤ mN M 1) → WN K na (mPut na h M2) 0 0 Q9 31 [some (.ref (na 61)), some (.int s), some (.int (nI z)), some (.int (whyS M s)), some (.int (nI 0)), some (.int (nI (mxN p (fun p => mA M 4 (bsR M s.toNatClampNeg p))))), some (.int (nI p)), none, none] [] := by
        intro d9
        induction d9 using Nat.strongRecOn with
        | _ d9 ih31 =>
          intro p hd31 hp
          refine n_iload hC dX3_spent_31 rfl ?_
          refine n_aload_n hC dX3_spent_33 rfl ?_
          refine m_getI hC 1 (v := nI (mN M 1)) dX3_spent_34 rfl rfl (by decide) ((congrFun (hF2 1 (by decide)) 0).trans h1) ?_
          refine n_icmp_geN hC (tgt := 82) dX3_spent_37 (by decide) (by omega) (by omega) (fun c_37 => ?_) (fun c_37 => ?_)
          · skip
            obtain ⟨most, emost⟩ : ∃ y, y = mxN (mN M 1) (fun p => mA M 4 (bsR M s.toNatClampNeg p)) := ⟨_, rfl⟩
            have hmost : most ≤ 9 := by rw [emost]; exact mxN_le (fun p hp => (iP _ (hS3.2 p hp).2).2.2.2.2)
            rw [show p = mN M 1 by omega, ← emost]
            obtain ⟨R9, eR9⟩ : ∃ y, y = spr (mN M 1) (mA M 4) most ((mFs M z).drop 0) (bsR M s.toNatClampNeg) 0 := ⟨_, rfl⟩
            rw [List.drop_zero] at eR9
            refine n_iconst hC (v := nI 0) dX3_spent_82 (by decide) ?_
            refine n_istore hC dX3_spent_83 (Nat.le_of_ble_eq_true rfl) ?_
            have lp85 : ∀ d9 : Nat, ∀ (k : Nat) (sum : Nat) (row : Nat → Nat) (M3 : nMem), mA M 28 z - k = d9 → (k ≤ mA M 28 z) → (mFr [50, 51, 52, 53, 54] M M3) → (∀ p, p < mN M 1 → M3 53 p = nI (row p) ∧ row p < mN M 0) → (spr (mN M 1) (mA M 4) most ((mFs M z).drop k) row sum = R9) → WN K na (mPut na h M3) 0 0 Q9 85 [some (.ref (na 61)), some (.int s), some (.int (nI z)), some (.int (whyS M s)), some (.int (nI sum)), some (.int (nI most)), some (.int (nI k)), none, none] [] := by
              intro d9
              induction d9 using Nat.strongRecOn with
              | _ d9 ih85 =>
                intro k sum row M3 hd85 hk hF3 hrow hsp
                refine n_iload hC dX3_spent_85 rfl ?_
                refine n_aload_n hC dX3_spent_87 rfl ?_
                refine m_getA hC 28 dX3_spent_88 rfl rfl ?_
                refine n_iload_n hC dX3_spent_91 rfl ?_
                refine m_aldN hC 28 (v := nI (mA M 28 z)) dX3_spent_92 rfl rfl (by have h9 : mLen 28 = 11 := rfl; omega) ((congrFun (hF3 28 (by decide)) z).trans (iF z hz).1) ?_
                refine n_icmp_geN hC (tgt := 210) dX3_spent_93 (by decide) (by omega) (by omega) (fun c_93 => ?_) (fun c_93 => ?_)
                · skip
                  rw [List.drop_eq_nil_of_le (by rw [mFs_len]; omega)] at hsp
                  have hsp : some sum = R9 := hsp
                  refine n_iload hC dX3_spent_210 rfl ?_
                  exact n_iret hC dX3_spent_212 (by decide) (by decide) (⟨rfl, by unfold o_spent; rw [if_neg (by rw [c_5]; decide), if_neg (fun z => z c_17), hzc, ← emost, ← eR9, ← hsp], M3, rfl, mEq.fr (by decide) hF3⟩)
                · skip
                  have hdl : k < (mFs M z).length := by rw [mFs_len]; omega
                  have hg := mFs_get c_93
                  have hs9 := stp_lt (iG z k hz c_93).2
                  refine n_aload_n hC dX3_spent_96 rfl ?_
                  refine m_getA hC 29 dX3_spent_97 rfl rfl ?_
                  refine n_sipush hC (v := nI 300) dX3_spent_100 (by decide) ?_
                  refine n_iload_n hC dX3_spent_103 rfl ?_
                  refine n_imulN hC dX3_spent_104 rfl ?_
                  refine n_iload hC dX3_spent_105 rfl ?_
                  refine n_iaddN hC dX3_spent_107 rfl ?_
                  refine m_aldN hC 29 (v := nI (mA M 29 (300 * z + k))) dX3_spent_108 rfl rfl (by have h9 : mLen 29 = 3300 := rfl; omega) ((congrFun (hF3 29 (by decide)) _).trans (iG z k hz c_93).1) ?_
                  refine n_istore hC dX3_spent_109 (Nat.le_of_ble_eq_true rfl) ?_
                  refine n_iload hC dX3_spent_111 rfl ?_
                  refine n_bipush hC (v := nI 100) dX3_spent_113 (by decide) ?_
                  refine n_icmp_ltN hC (tgt := 141) dX3_spent_115 (by decide) (by omega) (by omega) (fun c_115 => ?_) (fun c_115 => ?_)
                  · skip
                    rw [drop_cons hdl, hg] at hsp
                    refine n_iload hC dX3_spent_141 rfl ?_
                    refine n_bipush hC (v := nI 10) dX3_spent_143 (by decide) ?_
                    refine n_idivN hC dX3_spent_145 (by omega) (by omega) (by omega) rfl ?_
                    refine n_istore hC dX3_spent_146 (Nat.le_of_ble_eq_true rfl) ?_
                    refine n_iload hC dX3_spent_148 rfl ?_
                    refine n_aload_n hC dX3_spent_150 rfl ?_
                    refine m_getI hC 1 (v := nI (mN M 1)) dX3_spent_151 rfl rfl (by decide) ((congrFun (hF3 1 (by decide)) 0).trans h1) ?_
                    refine n_icmp_ltN hC (tgt := 160) dX3_spent_154 (by decide) (by omega) (by omega) (fun c_154 => ?_) (fun c_154 => ?_)
                    · skip
                      rw [spr_p (by omega) (by omega)] at hsp
                      have hq : (mA M 29 (300 * z + k) / 10 + 1) % mN M 1 < mN M 1 := Nat.mod_lt _ (by omega)
                      refine n_iload hC dX3_spent_160 rfl ?_
                      refine n_aload_n hC dX3_spent_162 rfl ?_
                      refine m_getA hC 4 dX3_spent_163 rfl rfl ?_
                      refine n_aload_n hC dX3_spent_166 rfl ?_
                      refine m_getA hC 53 dX3_spent_167 rfl rfl ?_
                      refine n_iload hC dX3_spent_170 rfl ?_
                      refine m_aldN hC 53 (v := nI (row (mA M 29 (300 * z + k) / 10))) dX3_spent_172 rfl rfl (by have h9 : mLen 53 = 7 := rfl; omega) ((hrow _ c_154).1) ?_
                      refine m_aldN hC 4 (v := nI (mA M 4 (row (mA M 29 (300 * z + k) / 10)))) dX3_spent_173 rfl rfl (by have h9 : mLen 4 = 15 := rfl; have := (hrow _ c_154).2; omega) ((congrFun (hF3 4 (by decide)) _).trans (iP _ (hrow _ c_154).2).2.2.1) ?_
                      refine n_aload_n hC dX3_spent_174 rfl ?_
                      refine m_getA hC 4 dX3_spent_175 rfl rfl ?_
                      refine n_aload_n hC dX3_spent_178 rfl ?_
                      refine m_getA hC 53 dX3_spent_179 rfl rfl ?_
                      refine n_aload_n hC dX3_spent_182 rfl ?_
                      refine n_iload hC dX3_spent_183 rfl ?_
                      refine n_callV1i hC (mt_X3_after na h (M3) (p := (mA M 29 (300 * z + k)) / 10) (n := mN M 1) ((congrFun (hF3 1 (by decide)) 0).trans h1) (by omega) (by omega)) md_X3_after q1338 dX3_spent_185 rfl (mPut_o _ _ _) rfl rfl ⟨rfl, rfl, by decide, by decide⟩ rfl (Nat.le_of_ble_eq_true rfl) (by decide) (by decide) (fun r2 na2 h2 hp2 => ?_)
                      obtain ⟨rfl, rfl, rfl⟩ := hp2
                      refine m_aldN hC 53 (v := nI (row ((mA M 29 (300 * z + k) / 10 + 1) % mN M 1))) dX3_spent_188 rfl rfl (by have h9 : mLen 53 = 7 := rfl; omega) ((hrow _ hq).1) ?_
                      refine m_aldN hC 4 (v := nI (mA M 4 (row ((mA M 29 (300 * z + k) / 10 + 1) % mN M 1)))) dX3_spent_189 rfl rfl (by have h9 : mLen 4 = 15 := rfl; have := (hrow _ hq).2; omega) ((congrFun (hF3 4 (by decide)) _).trans (iP _ (hrow _ hq).2).2.2.1) ?_
                      refine n_iaddN hC dX3_spent_190 rfl ?_
                      refine n_iaddN hC dX3_spent_191 rfl ?_
                      refine n_istore hC dX3_spent_192 (Nat.le_of_ble_eq_true rfl) ?_
                      refine n_aload_n hC dX3_spent_194 rfl ?_
                      refine n_aload_n hC dX3_spent_195 rfl ?_
                      refine m_getA hC 53 dX3_spent_196 rfl rfl ?_
                      refine n_iload hC dX3_spent_199 rfl ?_
                      refine n_callV2v hC (mt_X3_swap_53 na h (M3) (n := mN M 1) (p := (mA M 29 (300 * z + k)) / 10) ((congrFun (hF3 1 (by decide)) 0).trans h1) (by omega) (by omega)) md_X3_swap q1529 dX3_spent_201 rfl (mPut_o _ _ _) rfl rfl ⟨rfl, rfl, by decide, by decide⟩ rfl (Nat.le_of_ble_eq_true rfl) (by decide) (by decide) (fun na3 h3 hp3 => ?_)
                      obtain ⟨rfl, M7, rfl, eM7⟩ := hp3
                      have hF7 : mFr [50, 51, 52, 53, 54] M M7 := by rw [eM7]; exact mFr.set (by decide) hF3
                      have hrow4 : ∀ p, p < mN M 1 → M7 53 p = nI (swo (mN M 1) row (mA M 29 (300 * z + k) / 10) p) ∧ swo (mN M 1) row (mA M 29 (300 * z + k) / 10) p < mN M 0 := fun p hp => by
                        rw [eM7, mset_s, swp_tsp]
                        exact hrow _ (tsp_lt c_154 hq hp)
                      have hsp4 := hsp
                      refine n_iincN hC dX3_spent_204 (j := 1) (c := k + 1) rfl (by decide) rfl ?_
                      refine n_goto hC (tgt := 85) dX3_spent_207 (by decide) ?_
                      exact WN.forget (L' := [some (.ref (na 61)), some (.int s), some (.int (nI z)), some (.int (whyS M s)), some (.int (nI (sum + (mA M 4 (row (mA M 29 (300 * z + k) / 10)) + (mA M 4 (row ((mA M 29 (300 * z + k) / 10 + 1) % mN M 1))))))), some (.int (nI most)), some (.int (nI (k + 1))), none, none]) (⟨Or.inr rfl, Or.inr rfl, Or.inr rfl, Or.inr rfl, Or.inr rfl, Or.inr rfl, Or.inr rfl, Or.inl rfl, Or.inl rfl, trivial⟩) (ih85 _ (by omega) (k + 1) (sum + (mA M 4 (row (mA M 29 (300 * z + k) / 10)) + (mA M 4 (row ((mA M 29 (300 * z + k) / 10 + 1) % mN M 1))))) (swo (mN M 1) row (mA M 29 (300 * z + k) / 10)) M7 rfl (by omega) hF7 hrow4 hsp4)
                    · skip
                      rw [spr_n (by omega) c_154] at hsp
                      refine n_bipush hC (v := (-3)) dX3_spent_157 (by decide) ?_
                      exact n_iret hC dX3_spent_159 (by decide) (by decide) (⟨rfl, by unfold o_spent; rw [if_neg (by rw [c_5]; decide), if_neg (fun z => z c_17), hzc, ← emost, ← eR9, ← hsp], M3, rfl, mEq.fr (by decide) hF3⟩)
                  · skip
                    rw [drop_cons hdl, hg, spr_w c_115] at hsp
                    refine n_iload hC dX3_spent_118 rfl ?_
                    refine n_iload hC dX3_spent_120 rfl ?_
                    refine n_iaddN hC dX3_spent_122 rfl ?_
                    refine n_istore hC dX3_spent_123 (Nat.le_of_ble_eq_true rfl) ?_
                    refine n_aload_n hC dX3_spent_125 rfl ?_
                    refine n_aload_n hC dX3_spent_126 rfl ?_
                    refine m_getA hC 53 dX3_spent_127 rfl rfl ?_
                    refine n_iload hC dX3_spent_130 rfl ?_
                    refine n_bipush hC (v := nI 100) dX3_spent_132 (by decide) ?_
                    refine n_isubN hC dX3_spent_134 (by omega) rfl ?_
                    refine n_callV2v hC (mt_X3_turn na h (M3) (k := 53) (n := mN M 1) (how := (mA M 29 (300 * z + k)) - 100) rfl ((congrFun (hF3 1 (by decide)) 0).trans h1) (by omega) (by have h9 : mLen 53 = 7 := rfl; omega) (by omega)) md_X3_turn q1347 dX3_spent_135 rfl (mPut_o _ _ _) rfl rfl ⟨rfl, rfl, by decide, by decide⟩ rfl (Nat.le_of_ble_eq_true rfl) (by decide) (by decide) (fun na4 h4 hp4 => ?_)
                    obtain ⟨rfl, M953, rfl, eM953⟩ := hp4
                    rw [show M953 = mset M3 53 (tur ((mA M 29 (300 * z + k)) - 100) (mN M 1) (M3 53)) from eM953.trans rfl]
                    have hrow4 : ∀ p, p < mN M 1 → (mset M3 53 (tur (mA M 29 (300 * z + k) - 100) (mN M 1) (M3 53))) 53 p = nI (row (trn (mA M 29 (300 * z + k) - 100) (mN M 1) p)) ∧ row (trn (mA M 29 (300 * z + k) - 100) (mN M 1) p) < mN M 0 := fun p hp => by
                      rw [mset_s, tur_trn hp]
                      exact hrow _ (trn_lt hp)
                    have hsp4 := hsp
                    refine n_goto hC (tgt := 204) dX3_spent_138 (by decide) ?_
                    refine n_iincN hC dX3_spent_204 (j := 1) (c := k + 1) rfl (by decide) rfl ?_
                    refine n_goto hC (tgt := 85) dX3_spent_207 (by decide) ?_
                    exact WN.forget (L' := [some (.ref (na 61)), some (.int s), some (.int (nI z)), some (.int (whyS M s)), some (.int (nI (sum + most))), some (.int (nI most)), some (.int (nI (k + 1))), none, none]) (⟨Or.inr rfl, Or.inr rfl, Or.inr rfl, Or.inr rfl, Or.inr rfl, Or.inr rfl, Or.inr rfl, Or.inl rfl, Or.inl rfl, trivial⟩) (ih85 _ (by omega) (k + 1) (sum + most) (fun p => row (trn (mA M 29 (300 * z + k) - 100) (mN M 1) p)) (mset M3 53 (tur ((mA M 29 (300 * z + k)) - 100) (mN M 1) (M3 53))) rfl (by omega) (mFr.set (by decide) hF3) hrow4 hsp4)
            exact WN.forget (L' := [some (.ref (na 61)), some (.int s), some (.int (nI z)), some (.int (whyS M s)), some (.int (nI 0)), some (.int (nI most)), some (.int (nI 0)), none, none]) (⟨Or.inr rfl, Or.inr rfl, Or.inr rfl, Or.inr rfl, Or.inr rfl, Or.inr rfl, Or.inr rfl, Or.inl rfl, Or.inl rfl, trivial⟩) (lp85 _ 0 0 (bsR M s.toNatClampNeg) M2 rfl (by omega) hF2 hS3.2 eR9.symm)
          · skip
            have hrb := hS3.2 p c_37
            have hmx : mxN p (fun p => mA M 4 (bsR M s.toNatClampNeg p)) ≤ 9 := mxN_le (fun q hq => (iP _ (hS3.2 q (by omega)).2).2.2.2.2)
            have hp9 := (iP _ hrb.2).2.2.2.2
            refine n_aload_n hC dX3_spent_40 rfl ?_
            refine m_getA hC 4 dX3_spent_41 rfl rfl ?_
            refine n_aload_n hC dX3_spent_44 rfl ?_
            refine m_getA hC 53 dX3_spent_45 rfl rfl ?_
            refine n_iload hC dX3_spent_48 rfl ?_
            refine m_aldN hC 53 (v := nI (bsR M s.toNatClampNeg p)) dX3_spent_50 rfl rfl (by have h9 : mLen 53 = 7 := rfl; omega) hrb.1 ?_
            refine m_aldN hC 4 (v := nI (mA M 4 (bsR M s.toNatClampNeg p))) dX3_spent_51 rfl rfl (by have h9 : mLen 4 = 15 := rfl; have := hrb.2; omega) ((congrFun (hF2 4 (by decide)) _).trans (iP _ hrb.2).2.2.1) ?_
            refine n_iload hC dX3_spent_52 rfl ?_
            refine n_icmp_leN hC (tgt := 72) dX3_spent_54 (by decide) (by omega) (by omega) (fun c_54 => ?_) (fun c_54 => ?_)
            · skip
              refine n_iload hC dX3_spent_72 rfl ?_
              rw [show nI (mxN p (fun p => mA M 4 (bsR M s.toNatClampNeg p))) = nI (mxN (p + 1) (fun p => mA M 4 (bsR M s.toNatClampNeg p))) from congrArg nI (if_neg (show ¬ mxN p (fun p => mA M 4 (bsR M s.toNatClampNeg p)) < mA M 4 (bsR M s.toNatClampNeg p) by omega)).symm]
              refine n_istore hC dX3_spent_74 (Nat.le_of_ble_eq_true rfl) ?_
              refine n_iincN hC dX3_spent_76 (j := 1) (c := p + 1) rfl (by decide) rfl ?_
              refine n_goto hC (tgt := 31) dX3_spent_79 (by decide) ?_
              exact WN.forget (L' := [some (.ref (na 61)), some (.int s), some (.int (nI z)), some (.int (whyS M s)), some (.int (nI 0)), some (.int (nI (mxN (p + 1) (fun p => mA M 4 (bsR M s.toNatClampNeg p))))), some (.int (nI (p + 1))), none, none]) (⟨Or.inr rfl, Or.inr rfl, Or.inr rfl, Or.inr rfl, Or.inr rfl, Or.inr rfl, Or.inr rfl, Or.inl rfl, Or.inl rfl, trivial⟩) (ih31 _ (by omega) (p + 1) rfl (by omega))
            · skip
              refine n_aload_n hC dX3_spent_57 rfl ?_
              refine m_getA hC 4 dX3_spent_58 rfl rfl ?_
              refine n_aload_n hC dX3_spent_61 rfl ?_
              refine m_getA hC 53 dX3_spent_62 rfl rfl ?_
              refine n_iload hC dX3_spent_65 rfl ?_
              refine m_aldN hC 53 (v := nI (bsR M s.toNatClampNeg p)) dX3_spent_67 rfl rfl (by have h9 : mLen 53 = 7 := rfl; omega) hrb.1 ?_
              refine m_aldN hC 4 (v := nI (mA M 4 (bsR M s.toNatClampNeg p))) dX3_spent_68 rfl rfl (by have h9 : mLen 4 = 15 := rfl; have := hrb.2; omega) ((congrFun (hF2 4 (by decide)) _).trans (iP _ hrb.2).2.2.1) ?_
              refine n_goto hC (tgt := 74) dX3_spent_69 (by decide) ?_
              rw [show nI (mA M 4 (bsR M s.toNatClampNeg p)) = nI (mxN (p + 1) (fun p => mA M 4 (bsR M s.toNatClampNeg p))) by unfold mxN; rw [if_pos (by omega)]]
              refine n_istore hC dX3_spent_74 (Nat.le_of_ble_eq_true rfl) ?_
              refine n_iincN hC dX3_spent_76 (j := 1) (c := p + 1) rfl (by decide) rfl ?_
              refine n_goto hC (tgt := 31) dX3_spent_79 (by decide) ?_
              exact WN.forget (L' := [some (.ref (na 61)), some (.int s), some (.int (nI z)), some (.int (whyS M s)), some (.int (nI 0)), some (.int (nI (mxN (p + 1) (fun p => mA M 4 (bsR M s.toNatClampNeg p))))), some (.int (nI (p + 1))), none, none]) (⟨Or.inr rfl, Or.inr rfl, Or.inr rfl, Or.inr rfl, Or.inr rfl, Or.inr rfl, Or.inr rfl, Or.inl rfl, Or.inl rfl, trivial⟩) (ih31 _ (by omega) (p + 1) rfl (by omega))
      exact WN.forget (L' := [some (.ref (na 61)), some (.int s), some (.int (nI z)), some (.int (whyS M s)), some (.int (nI 0)), some (.int (nI (mxN 0 (fun p => mA M 4 (bsR M s.toNatClampNeg p))))), some (.int (nI 0)), none, none]) (⟨Or.inr rfl, Or.inr rfl, Or.inr rfl, Or.inr rfl, Or.inr rfl, Or.inr rfl, Or.inr rfl, Or.inl rfl, Or.inl rfl, trivial⟩) (lp31 _ 0 rfl (by omega))
    · skip
      refine n_iload_n hC dX3_spent_20 rfl ?_
      exact n_iret hC dX3_spent_21 (by decide) (by decide) (⟨rfl, by unfold o_spent; rw [if_neg (by rw [c_5]; decide), if_pos c_17], M2, rfl, mEq.fr (by decide) hF2⟩)
  · skip
    refine n_iconst hC (v := (-1)) dX3_spent_8 (by decide) ?_
    exact n_iret hC dX3_spent_9 (by decide) (by decide) (⟨rfl, by simp [o_spent, c_5], M, rfl, mEq.of (by simp [o_spent, c_5])⟩)

