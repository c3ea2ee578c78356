/-! ===== THE CLASS: colours, feed, told, count, trace ===== -/
set_option maxRecDepth 100000
set_option maxHeartbeats 4000000 in
set_option maxRecDepth 100000 in
theorem xt_X0_colours (na : nA) (h : nH) (C : nMem) (B : Nat → nMem) (P : Nat → Nat × Nat) (I : Nat → Nat) (M : nMem) (hR : xRel (C, B, P, I) M) (hI : mInv M) (c what : Int32) : nM yX0_colours cX0_colours 8 (some .int) (nRm 3 0 0) [.ref (na 130), .int c, .int what] na (xPut na h (C, B, P, I)) (nQi (xOp na h (o_colours c what M))) 0 0 := by
  refine nM.ofN RX0 rfl (by decide) (by intro v hv; simp only [List.mem_cons, List.not_mem_nil, or_false] at hv; rcases hv with rfl | rfl | rfl <;> rfl) (Nat.le_of_ble_eq_true rfl) (fun K hC hnm => ?_)
  show WN K na (xPut na h (C, B, P, I)) 0 0 (nE K (nQi (xOp na h (o_colours c what M))) 0 0) 0 [some (.ref (na 130)), some (.int c), some (.int what), none, none, none, none, none] []
  let Q9 : State → Prop := nE K (nQi (xOp na h (o_colours c what M))) 0 0
  show WN K na (xPut na h (C, B, P, I)) 0 0 Q9 0 [some (.ref (na 130)), some (.int c), some (.int what), none, none, none, none, none] []
  have hR0 := hR
  obtain ⟨hw, gPe, gRi, gCl, gSt, gTh, gFi, gTx, gTr, gTp, gRd, gOr⟩ := hR
  dsimp only at hw gPe gRi gCl gSt gTh gFi gTx gTr gTp gRd gOr
  obtain ⟨⟨h0, b0⟩, ⟨h1, b1a, b1⟩, ⟨h11, b11⟩, ⟨h14, b14⟩, ⟨h15, b15, b15n⟩, ⟨h20, b20⟩, ⟨h26, b26⟩, ⟨h27, b27⟩, ⟨h55, b55⟩, iP, iH, iHi, iHd, iC, iT, iF, iG, iS, iZ⟩ := hI
  refine n_iload_n hC dX0_colours_0 rfl ?_
  refine n_iconst hC (v := (-1)) dX0_colours_1 (by decide) ?_
  refine n_aload_n hC dX0_colours_2 rfl ?_
  refine x_getI hC 2 (v := nI (mN M 1)) q150 dX0_colours_3 rfl (by decide) (by decide) (gRi.1.trans h1) ?_
  refine n_iconst hC (v := nI 1) dX0_colours_6 (by decide) ?_
  refine n_isub hC dX0_colours_7 ?_
  refine n_callS3z hC (ct_X0_in na _ what (-1) ((nI (mN M 1)) - (nI 1))) ms_X0_in q243 dX0_colours_8 ⟨rfl, rfl, by decide, by decide⟩ rfl (Nat.le_of_ble_eq_true rfl) (by decide) (by decide) (fun r0 na0 h0 hp0 => ?_)
  obtain ⟨rfl, rfl, rfl⟩ := hp0
  refine n_if_neB hC (tgt := 16) dX0_colours_11 (by decide) (fun c_11 => ?_) (fun c_11 => ?_)
  · skip
    refine n_iload_n hC dX0_colours_16 rfl ?_
    refine n_iconst hC (v := nI 1) dX0_colours_17 (by decide) ?_
    refine n_iconst hC (v := nI 4) dX0_colours_18 (by decide) ?_
    refine n_callS3z hC (ct_X0_in na _ c (nI 1) (nI 4)) ms_X0_in q243 dX0_colours_19 ⟨rfl, rfl, by decide, by decide⟩ rfl (Nat.le_of_ble_eq_true rfl) (by decide) (by decide) (fun r1 na1 h1 hp1 => ?_)
    obtain ⟨rfl, rfl, rfl⟩ := hp1
    refine n_if_neB hC (tgt := 28) dX0_colours_22 (by decide) (fun c_22 => ?_) (fun c_22 => ?_)
    · skip
      refine n_aload_n hC dX0_colours_28 rfl ?_
      refine n_callV0i hC (ct_X0_rows na _ _ _ _ _ (r := mN M 15) (xr_rows (C := C) gRd b15n)) md_X0_rows q455 dX0_colours_29 rfl xPut_o rfl rfl ⟨rfl, rfl, by decide, by decide⟩ rfl (Nat.le_of_ble_eq_true rfl) (by decide) (by decide) (fun r2 na2 h2 hp2 => ?_)
      obtain ⟨rfl, rfl, rfl⟩ := hp2
      refine n_if_eqN hC (tgt := 44) dX0_colours_32 (by decide) (by omega) (fun c_32 => ?_) (fun c_32 => ?_)
      · skip
        refine n_bipush hC (v := (-3)) dX0_colours_44 (by decide) ?_
        exact n_iret hC dX0_colours_46 (by decide) (by decide) (xOp.mk (M2 := M) (by simp [o_colours, c_11, c_22, c_32]) hR0)
      · skip
        refine n_aload_n hC dX0_colours_35 rfl ?_
        refine x_getI hC 2 (v := nI (mN M 1)) q150 dX0_colours_36 rfl (by decide) (by decide) (gRi.1.trans h1) ?_
        refine n_bipush hC (v := nI 6) dX0_colours_39 (by decide) ?_
        refine n_icmp_leN hC (tgt := 47) dX0_colours_41 (by decide) (by omega) (by omega) (fun c_41 => ?_) (fun c_41 => ?_)
        · skip
          obtain ⟨c9, hc1, hc4, ec⟩ := (nrg_nn (by decide) (by decide)).mp c_22
          subst ec
          have hcc : (nI c9).toNatClampNeg = c9 := nI_clamp (by omega)
          have hpw : c9 ^ mN M 1 ≤ 4 ^ 6 := Nat.le_trans (Nat.pow_le_pow_left hc4 _) (Nat.pow_le_pow_right (by decide) (by omega))
          have hpw1 : 1 ≤ c9 ^ mN M 1 := Nat.pow_pos hc1
          have hn3 : 3 ≤ mN M 1 := b15n c_32
          have hW0 : mGW M c9 0 ≤ 40 := Nat.le_trans (cntb_le _) b20
          refine n_bipush hC (v := nI 41) dX0_colours_47 (by decide) ?_
          refine n_istore_n hC dX0_colours_49 (Nat.le_of_ble_eq_true rfl) ?_
          refine n_iconst hC (v := nI 1) dX0_colours_50 (by decide) ?_
          refine n_istore hC dX0_colours_51 (Nat.le_of_ble_eq_true rfl) ?_
          refine n_iconst hC (v := nI 0) dX0_colours_53 (by decide) ?_
          refine n_istore hC dX0_colours_54 (Nat.le_of_ble_eq_true rfl) ?_
          have lp56 : ∀ d9 : Nat, ∀ (p : Nat) (a : Nat), mN M 1 - p = d9 → (p ≤ mN M 1) → (a = c9 ^ p) → WN K na (xPut na h (C, B, P, I)) 0 0 Q9 56 [some (.ref (na 130)), some (.int (nI c9)), some (.int what), some (.int (nI 41)), some (.int (nI a)), some (.int (nI p)), none, none] [] := by
            intro d9
            induction d9 using Nat.strongRecOn with
            | _ d9 ih56 =>
              intro p a hd56 hp ha
              refine n_iload hC dX0_colours_56 rfl ?_
              refine n_aload_n hC dX0_colours_58 rfl ?_
              refine x_getI hC 2 (v := nI (mN M 1)) q150 dX0_colours_59 rfl (by decide) (by decide) (gRi.1.trans h1) ?_
              refine n_icmp_geN hC (tgt := 77) dX0_colours_62 (by decide) (by omega) (by omega) (fun c_62 => ?_) (fun c_62 => ?_)
              · skip
                have hp9 : p = mN M 1 := by omega
                subst hp9
                subst ha
                refine n_iconst hC (v := nI 0) dX0_colours_77 (by decide) ?_
                refine n_istore hC dX0_colours_78 (Nat.le_of_ble_eq_true rfl) ?_
                have lp80 : ∀ d9 : Nat, ∀ (k : Nat) (best : Nat) (kb : Nat) (C2 : nMem), c9 ^ mN M 1 - k = d9 → (k ≤ c9 ^ mN M 1) → (mFr [24, 25] C C2) → (lst2 (mGW M c9) 41 k = (best, kb)) → (best ≤ 41) → (0 < k → ∀ p, p < mN M 1 → C2 25 p = nI (gsk c9 (mN M 1) kb p)) → WN K na (xPut na h (C2, B, P, I)) 0 0 Q9 80 [some (.ref (na 130)), some (.int (nI c9)), some (.int what), some (.int (nI best)), some (.int (nI (c9 ^ mN M 1))), some (.int (nI k)), none, none] [] := by
                  intro d9
                  induction d9 using Nat.strongRecOn with
                  | _ d9 ih80 =>
                    intro k best kb C2 hd80 hk hF hb hb3 hb2
                    have hWl : mGW M c9 k ≤ 40 := Nat.le_trans (cntb_le _) b20
                    refine n_iload hC dX0_colours_80 rfl ?_
                    refine n_iload hC dX0_colours_82 rfl ?_
                    refine n_icmp_geN hC (tgt := 172) dX0_colours_84 (by decide) (by omega) (by omega) (fun c_84 => ?_) (fun c_84 => ?_)
                    · skip
                      have hk9 : k = c9 ^ mN M 1 := by omega
                      subst hk9
                      rcases (nrg_inm (by omega)).mp c_11 with e9 | ⟨j, hj, e9⟩
                      · skip
                        subst e9
                        refine n_iload_n hC dX0_colours_172 rfl ?_
                        refine n_iconst hC (v := (-1)) dX0_colours_173 (by decide) ?_
                        refine n_icmp_ne hC (tgt := 181) dX0_colours_174 (by decide) (fun c_174 => absurd c_174 (by decide)) (fun c_174 => ?_)
                        refine n_iload_n hC dX0_colours_177 rfl ?_
                        refine n_goto hC (tgt := 187) dX0_colours_178 (by decide) ?_
                        exact n_iret hC dX0_colours_187 (by decide) (by decide) (xOp.mk (M2 := M) (by simp only [o_colours, c_11, c_22, hcc, Bool.true_eq_false, if_false, c_32]; rw [if_neg (by omega), lst2_b (w := mGW M c9) (b := 1000) (c := 41) (by omega) (by omega) hpw1, hb]; simp []) (hR0.c hF (by decide)))
                      · skip
                        subst e9
                        have hjc : (nI j).toNatClampNeg = j := nI_clamp (by omega)
                        have hjn : ¬ nI j = -1 := fun e => absurd (e ▸ nI_pos (n := j) (by omega)) (by decide)
                        refine n_iload_n hC dX0_colours_172 rfl ?_
                        refine n_iconst hC (v := (-1)) dX0_colours_173 (by decide) ?_
                        refine n_icmp_ne hC (tgt := 181) dX0_colours_174 (by decide) (fun c_174 => ?_) (fun c_174 => absurd c_174 (hjn))
                        refine n_aload_n hC dX0_colours_181 rfl ?_
                        refine x_getA hC 25 q173 dX0_colours_182 rfl (by decide) (by decide) ?_
                        refine n_iload_n hC dX0_colours_185 rfl ?_
                        refine x_aldN hC 25 (v := nI (gsk c9 (mN M 1) kb j)) dX0_colours_186 rfl rfl (by have h9 : xLen 25 = 9 := rfl; omega) (hb2 (by omega) j hj) ?_
                        exact n_iret hC dX0_colours_187 (by decide) (by decide) (xOp.mk (M2 := M) (by simp only [o_colours, c_11, c_22, hcc, Bool.true_eq_false, if_false, c_32]; rw [if_neg (by omega), lst2_b (w := mGW M c9) (b := 1000) (c := 41) (by omega) (by omega) hpw1, hb]; simp [hjn, hjc]) (hR0.c hF (by decide)))
                    · skip
                      refine n_iload hC dX0_colours_87 rfl ?_
                      refine n_istore hC dX0_colours_89 (Nat.le_of_ble_eq_true rfl) ?_
                      refine n_aload_n hC dX0_colours_91 rfl ?_
                      refine x_getI hC 2 (v := nI (mN M 1)) q150 dX0_colours_92 rfl (by decide) (by decide) ((congrFun (hF 2 (by decide)) 0).trans (gRi.1.trans h1)) ?_
                      refine n_iconst hC (v := nI 1) dX0_colours_95 (by decide) ?_
                      refine n_isubN hC dX0_colours_96 (by omega) rfl ?_
                      refine n_istore hC dX0_colours_97 (Nat.le_of_ble_eq_true rfl) ?_
                      have lp99 : ∀ d9 : Nat, ∀ (q : Nat) (left : Nat) (C3 : nMem), q = d9 → (q ≤ mN M 1) → (mFr [24] C2 C3) → (left = k / c9 ^ (mN M 1 - q)) → (∀ p, q ≤ p → p < mN M 1 → C3 24 p = nI (gsk c9 (mN M 1) k p)) → WN K na (xPut na h (C3, B, P, I)) 0 0 Q9 99 [some (.ref (na 130)), some (.int (nI c9)), some (.int what), some (.int (nI best)), some (.int (nI (c9 ^ mN M 1))), some (.int (nI k)), some (.int (nI left)), some (.int (pmi q))] [] := by
                        intro d9
                        induction d9 using Nat.strongRecOn with
                        | _ d9 ih99 =>
                          intro q left C3 hd99 hq hF3 hl h24
                          have hFF3 : mFr [24, 25] C C3 := mFr.cmp (by decide) (by decide) hF hF3
                          refine n_iload hC dX0_colours_99 rfl ?_
                          refine n_if_lt hC (tgt := 127) dX0_colours_101 (by decide) (fun c_101 => ?_) (fun c_101 => ?_)
                          · skip
                            have hq0 := pmi_z (by omega) c_101
                            subst hq0
                            refine n_aload_n hC dX0_colours_127 rfl ?_
                            refine n_aload_n hC dX0_colours_128 rfl ?_
                            refine x_getA hC 24 q172 dX0_colours_129 rfl (by decide) (by decide) ?_
                            refine n_callV1i hC (ct_X0_wrongs_24 na _ _ _ _ _ M gRd (gTh.c hFF3 (by decide)) ((congrFun (hFF3 2 (by decide)) 0).trans (gRi.1.trans h1)) b1 b15 b15n h20 b20 iC iT (fun p => nI (gsk c9 (mN M 1) k p)) (fun _ p hp => h24 p (by omega) hp)) md_X0_wrongs q480 dX0_colours_132 rfl xPut_o rfl rfl ⟨rfl, rfl, by decide, by decide⟩ rfl (Nat.le_of_ble_eq_true rfl) (by decide) (by decide) (fun r3 na3 h3 hp3 => ?_)
                            obtain ⟨rfl, rfl, rfl⟩ := hp3
                            rw [show mWrong M (fun p => nI (gsk c9 (mN M 1) k p)) = mGW M c9 k from rfl]
                            refine n_istore hC dX0_colours_135 (Nat.le_of_ble_eq_true rfl) ?_
                            refine n_iload hC dX0_colours_137 rfl ?_
                            refine n_iload_n hC dX0_colours_139 rfl ?_
                            refine n_icmp_ltN hC (tgt := 146) dX0_colours_140 (by decide) (by omega) (by omega) (fun c_140 => ?_) (fun c_140 => ?_)
                            · skip
                              refine n_iload hC dX0_colours_146 rfl ?_
                              refine n_istore_n hC dX0_colours_148 (Nat.le_of_ble_eq_true rfl) ?_
                              refine n_aload_n hC dX0_colours_149 rfl ?_
                              refine x_getA hC 24 q172 dX0_colours_150 rfl (by decide) (by decide) ?_
                              refine n_iconst hC (v := nI 0) dX0_colours_153 (by decide) ?_
                              refine n_aload_n hC dX0_colours_154 rfl ?_
                              refine x_getA hC 25 q173 dX0_colours_155 rfl (by decide) (by decide) ?_
                              refine n_iconst hC (v := nI 0) dX0_colours_158 (by decide) ?_
                              refine n_aload_n hC dX0_colours_159 rfl ?_
                              refine x_getI hC 2 (v := nI (mN M 1)) q150 dX0_colours_160 rfl (by decide) (by decide) ((congrFun (hFF3 2 (by decide)) 0).trans (gRi.1.trans h1)) ?_
                              refine n_copyi hC q394 q396 q395 q89 (t := 0) (ty := .int) (fun d => rfl) rfl dX0_colours_163 rfl rfl (xPut_a (j := 24) rfl) (xPut_a (j := 25) rfl) (by decide) (by decide) (nI_nneg (by omega)) (by rw [show (nI (mN M 1)).toNatClampNeg = mN M 1 from nI_clamp (by omega)]; show 0 + mN M 1 ≤ 9; omega) (by rw [show (nI (mN M 1)).toNatClampNeg = mN M 1 from nI_clamp (by omega)]; show 0 + mN M 1 ≤ 9; omega) (fun _ _ => rfl) rfl (by decide) (by decide) ?_
                              rw [xPut_setA (j := 25) rfl, nI_clamp (show mN M 1 < 2 ^ 31 by omega)]
                              refine n_iincN hC dX0_colours_166 (j := 1) (c := k + 1) rfl (by decide) rfl ?_
                              refine n_goto hC (tgt := 80) dX0_colours_169 (by decide) ?_
                              exact WN.forget (L' := [some (.ref (na 130)), some (.int (nI c9)), some (.int what), some (.int (nI (mGW M c9 k))), some (.int (nI (c9 ^ mN M 1))), some (.int (nI (k + 1))), none, none]) (⟨Or.inr rfl, Or.inr rfl, Or.inr rfl, Or.inr rfl, Or.inr rfl, Or.inr rfl, Or.inl rfl, Or.inl rfl, trivial⟩) (ih80 _ (by omega) (k + 1) (mGW M c9 k) k (mset C3 25 (va_cpy (C3 24) (C3 25) 0 0 (mN M 1))) rfl (by omega) (mFr.set (by decide) hFF3) (by rw [lst2_s hb, if_pos c_140]) (by omega) (fun _ p hp => by show va_cpy _ _ 0 0 _ p = _; unfold va_cpy; rw [if_pos (by omega), show 0 + (p - 0) = p by omega]; exact h24 p (by omega) hp))
                            · skip
                              refine n_goto hC (tgt := 166) dX0_colours_143 (by decide) ?_
                              refine n_iincN hC dX0_colours_166 (j := 1) (c := k + 1) rfl (by decide) rfl ?_
                              refine n_goto hC (tgt := 80) dX0_colours_169 (by decide) ?_
                              exact WN.forget (L' := [some (.ref (na 130)), some (.int (nI c9)), some (.int what), some (.int (nI best)), some (.int (nI (c9 ^ mN M 1))), some (.int (nI (k + 1))), none, none]) (⟨Or.inr rfl, Or.inr rfl, Or.inr rfl, Or.inr rfl, Or.inr rfl, Or.inr rfl, Or.inl rfl, Or.inl rfl, trivial⟩) (ih80 _ (by omega) (k + 1) best kb C3 rfl (by omega) hFF3 (by rw [lst2_s hb, if_neg (by omega)]) (by omega) (fun _ => by rw [hF3 25 (by decide)]; exact hb2 (Nat.pos_of_ne_zero fun z => by subst z; cases hb; omega)))
                          · skip
                            obtain ⟨q1, rfl⟩ := pmi_n c_101
                            simp only [pmi_s]
                            refine n_aload_n hC dX0_colours_104 rfl ?_
                            refine x_getA hC 24 q172 dX0_colours_105 rfl (by decide) (by decide) ?_
                            refine n_iload hC dX0_colours_108 rfl ?_
                            refine n_iload hC dX0_colours_110 rfl ?_
                            refine n_iload_n hC dX0_colours_112 rfl ?_
                            refine n_iremN hC dX0_colours_113 (by omega) (by have := Nat.div_le_self k (c9 ^ (mN M 1 - (q1 + 1))); omega) (by omega) rfl ?_
                            refine x_astN hC 24 (C2 := mset C3 24 (upd (C3 24) q1 (nI (left % c9)))) dX0_colours_114 rfl rfl (by have h9 : xLen 24 = 9 := rfl; omega) rfl ?_
                            refine n_iload hC dX0_colours_115 rfl ?_
                            refine n_iload_n hC dX0_colours_117 rfl ?_
                            refine n_idivN hC dX0_colours_118 (by omega) (by have := Nat.div_le_self k (c9 ^ (mN M 1 - (q1 + 1))); omega) (by omega) rfl ?_
                            refine n_istore hC dX0_colours_119 (Nat.le_of_ble_eq_true rfl) ?_
                            refine n_iinc hC dX0_colours_121 (v := pmi q1) rfl rfl ?_
                            refine n_goto hC (tgt := 99) dX0_colours_124 (by decide) ?_
                            exact WN.forget (L' := [some (.ref (na 130)), some (.int (nI c9)), some (.int what), some (.int (nI best)), some (.int (nI (c9 ^ mN M 1))), some (.int (nI k)), some (.int (nI (left / c9))), some (.int (pmi q1))]) (⟨Or.inr rfl, Or.inr rfl, Or.inr rfl, Or.inr rfl, Or.inr rfl, Or.inr rfl, Or.inr rfl, Or.inr rfl, trivial⟩) (ih99 _ (by omega) q1 (left / c9) (mset C3 24 (upd (C3 24) q1 (nI (left % c9)))) rfl (by omega) (mFr.set (by decide) hF3) (by rw [hl, Nat.div_div_eq_div_mul, ← Nat.pow_succ]; show k / c9 ^ (mN M 1 - (q1 + 1) + 1) = _; rw [show mN M 1 - (q1 + 1) + 1 = mN M 1 - q1 by omega]) (fun p h1 h2 => by show upd (C3 24) q1 _ p = _; unfold upd; by_cases e : p = q1; rw [if_pos e, hl, e]; unfold gsk; rw [show mN M 1 - 1 - q1 = mN M 1 - (q1 + 1) by omega]; rw [if_neg e]; exact h24 p (by omega) h2))
                      rw [pmi_p (show 1 ≤ mN M 1 by omega)]
                      exact WN.forget (L' := [some (.ref (na 130)), some (.int (nI c9)), some (.int what), some (.int (nI best)), some (.int (nI (c9 ^ mN M 1))), some (.int (nI k)), some (.int (nI k)), some (.int (pmi (mN M 1)))]) (⟨Or.inr rfl, Or.inr rfl, Or.inr rfl, Or.inr rfl, Or.inr rfl, Or.inr rfl, Or.inr rfl, Or.inr rfl, trivial⟩) (lp99 _ (mN M 1) k C2 rfl (by omega) mFr.rf (by rw [Nat.sub_self, Nat.pow_zero, Nat.div_one]) (fun p h1 h2 => absurd h1 (by omega)))
                exact WN.forget (L' := [some (.ref (na 130)), some (.int (nI c9)), some (.int what), some (.int (nI 41)), some (.int (nI (c9 ^ mN M 1))), some (.int (nI 0)), none, none]) (⟨Or.inr rfl, Or.inr rfl, Or.inr rfl, Or.inr rfl, Or.inr rfl, Or.inr rfl, Or.inl rfl, Or.inl rfl, trivial⟩) (lp80 _ 0 41 0 C rfl (by omega) mFr.rf rfl (by omega) (fun h => absurd h (Nat.lt_irrefl 0)))
              · skip
                refine n_iload hC dX0_colours_65 rfl ?_
                refine n_iload_n hC dX0_colours_67 rfl ?_
                refine n_imulN hC dX0_colours_68 rfl ?_
                refine n_istore hC dX0_colours_69 (Nat.le_of_ble_eq_true rfl) ?_
                refine n_iincN hC dX0_colours_71 (j := 1) (c := p + 1) rfl (by decide) rfl ?_
                refine n_goto hC (tgt := 56) dX0_colours_74 (by decide) ?_
                exact WN.forget (L' := [some (.ref (na 130)), some (.int (nI c9)), some (.int what), some (.int (nI 41)), some (.int (nI (a * c9))), some (.int (nI (p + 1))), none, none]) (⟨Or.inr rfl, Or.inr rfl, Or.inr rfl, Or.inr rfl, Or.inr rfl, Or.inr rfl, Or.inl rfl, Or.inl rfl, trivial⟩) (ih56 _ (by omega) (p + 1) (a * c9) rfl (by omega) (by rw [ha, Nat.pow_succ]))
          exact WN.forget (L' := [some (.ref (na 130)), some (.int (nI c9)), some (.int what), some (.int (nI 41)), some (.int (nI 1)), some (.int (nI 0)), none, none]) (⟨Or.inr rfl, Or.inr rfl, Or.inr rfl, Or.inr rfl, Or.inr rfl, Or.inr rfl, Or.inl rfl, Or.inl rfl, trivial⟩) (lp56 _ 0 1 rfl (by omega) (by rw [Nat.pow_zero]))
        · skip
          refine n_bipush hC (v := (-3)) dX0_colours_44 (by decide) ?_
          exact n_iret hC dX0_colours_46 (by decide) (by decide) (xOp.mk (M2 := M) (by simp [o_colours, c_11, c_22, c_32, c_41]) hR0)
    · skip
      refine n_bipush hC (v := (-2)) dX0_colours_25 (by decide) ?_
      exact n_iret hC dX0_colours_27 (by decide) (by decide) (xOp.mk (M2 := M) (by simp [o_colours, c_11, c_22]) hR0)
  · skip
    refine n_iconst hC (v := (-1)) dX0_colours_14 (by decide) ?_
    exact n_iret hC dX0_colours_15 (by decide) (by decide) (xOp.mk (M2 := M) (by simp [o_colours, c_11]) hR0)

set_option maxHeartbeats 4000000 in
set_option maxRecDepth 100000 in
theorem xt_X0_feed (na : nA) (h : nH) (C : nMem) (B : Nat → nMem) (P : Nat → Nat × Nat) (I : Nat → Nat) (M : nMem) (hR : xRel (C, B, P, I) M) (hI : mInv M) (b k : Int32) : nM yX0_feed cX0_feed 4 (some .int) (nRm 3 0 0) [.ref (na 130), .int b, .int k] na (xPut na h (C, B, P, I)) (nQi (xOp na h (o_feed b k M))) 0 0 := by
  refine nM.ofN RX0 rfl (by decide) (by intro v hv; simp only [List.mem_cons, List.not_mem_nil, or_false] at hv; rcases hv with rfl | rfl | rfl <;> rfl) (Nat.le_of_ble_eq_true rfl) (fun K hC hnm => ?_)
  show WN K na (xPut na h (C, B, P, I)) 0 0 (nE K (nQi (xOp na h (o_feed b k M))) 0 0) 0 [some (.ref (na 130)), some (.int b), some (.int k), none] []
  let Q9 : State → Prop := nE K (nQi (xOp na h (o_feed b k M))) 0 0
  show WN K na (xPut na h (C, B, P, I)) 0 0 Q9 0 [some (.ref (na 130)), some (.int b), some (.int k), none] []
  have hR0 := hR
  obtain ⟨hw, gPe, gRi, gCl, gSt, gTh, gFi, gTx, gTr, gTp, gRd, gOr⟩ := hR
  dsimp only at hw gPe gRi gCl gSt gTh gFi gTx gTr gTp gRd gOr
  obtain ⟨⟨h0, b0⟩, ⟨h1, b1a, b1⟩, ⟨h11, b11⟩, ⟨h14, b14⟩, ⟨h15, b15, b15n⟩, ⟨h20, b20⟩, ⟨h26, b26⟩, ⟨h27, b27⟩, ⟨h55, b55⟩, iP, iH, iHi, iHd, iC, iT, iF, iG, iS, iZ⟩ := hI
  refine n_iload_n hC dX0_feed_0 rfl ?_
  refine n_iconst hC (v := nI 0) dX0_feed_1 (by decide) ?_
  refine n_iconst hC (v := nI 4) dX0_feed_2 (by decide) ?_
  refine n_callS3z hC (ct_X0_in na _ k (nI 0) (nI 4)) ms_X0_in q243 dX0_feed_3 ⟨rfl, rfl, by decide, by decide⟩ rfl (Nat.le_of_ble_eq_true rfl) (by decide) (by decide) (fun r0 na0 h0 hp0 => ?_)
  obtain ⟨rfl, rfl, rfl⟩ := hp0
  refine n_if_neB hC (tgt := 12) dX0_feed_6 (by decide) (fun c_6 => ?_) (fun c_6 => ?_)
  · skip
    obtain ⟨z, -, hz, ez⟩ := (nrg_nn (by decide) (by decide)).mp c_6
    subst ez
    have hzc : (nI z).toNatClampNeg = z := nI_clamp (by omega)
    refine n_aload_n hC dX0_feed_12 rfl ?_
    refine x_getI hC 16 (v := nI (mN M 27)) q164 dX0_feed_13 rfl (by decide) (by decide) (gTx.1.trans h27) ?_
    refine n_iload_n hC dX0_feed_16 rfl ?_
    refine n_iaddN hC dX0_feed_17 rfl ?_
    refine n_bipush hC (v := nI 80) dX0_feed_18 (by decide) ?_
    refine n_icmp_leN hC (tgt := 26) dX0_feed_20 (by decide) (by omega) (by omega) (fun c_20 => ?_) (fun c_20 => ?_)
    · skip
      rcases Nat.eq_zero_or_pos z with e9 | e9
      · skip
        subst e9
        refine n_iload_n hC dX0_feed_26 rfl ?_
        refine n_iconst hC (v := nI 1) dX0_feed_27 (by decide) ?_
        refine n_isub hC dX0_feed_28 ?_
        refine n_istore_n hC dX0_feed_29 (Nat.le_of_ble_eq_true rfl) ?_
        refine n_iload_n hC dX0_feed_30 rfl ?_
        refine n_if_lt hC (tgt := 63) dX0_feed_31 (by decide) (fun c_31 => ?_) (fun c_31 => absurd c_31 (by decide))
        refine n_aload_n hC dX0_feed_63 rfl ?_
        refine x_getI hC 16 (v := nI (mN M 27)) q164 dX0_feed_64 rfl (by decide) (by decide) (gTx.1.trans h27) ?_
        exact n_iret hC dX0_feed_67 (by decide) (by decide) (xOp.mk (M2 := mset M 27 (fun _ => nI (mN M 27))) (by simp only [o_feed, c_6, hzc, Bool.true_eq_false, if_false]; rw [if_neg (by omega), blk_0, mset_id]; rfl) (by
      refine ⟨hw, gPe, gRi, gCl, gSt, gTh, gFi, ⟨gTx.1.trans h27, fun i hi => gTx.2 i ?_⟩, gTr, gTp, gRd, gOr⟩
      rw [mN_of (n := mN M 27) rfl (by omega)] at hi
      exact hi))
      · skip
        skip
        refine n_iload_n hC dX0_feed_26 rfl ?_
        refine n_iconst hC (v := nI 1) dX0_feed_27 (by decide) ?_
        refine n_isubN hC dX0_feed_28 (by omega) rfl ?_
        refine n_istore_n hC dX0_feed_29 (Nat.le_of_ble_eq_true rfl) ?_
        have lp30 : ∀ d9 : Nat, ∀ (t : Nat) (C2 : nMem), z - t = d9 → (t ≤ z) → (mFr [15, 16] C C2) → (C2 16 0 = nI (mN M 27 + t)) → (C2 15 = blk (C 15) (mN M 27) t (byt b z)) → WN K na (xPut na h (C2, B, P, I)) 0 0 Q9 30 [some (.ref (na 130)), some (.int b), some (.int (nI z)), some (.int (pmi (z - t)))] [] := by
          intro d9
          induction d9 using Nat.strongRecOn with
          | _ d9 ih30 =>
            intro t C2 hd30 ht hF w16 w15
            refine n_iload_n hC dX0_feed_30 rfl ?_
            refine n_if_lt hC (tgt := 63) dX0_feed_31 (by decide) (fun c_31 => ?_) (fun c_31 => ?_)
            · skip
              have hq0 := pmi_z (by omega) c_31
              have ht9 : t = z := by omega
              subst ht9
              refine n_aload_n hC dX0_feed_63 rfl ?_
              refine x_getI hC 16 (v := nI (mN M 27 + t)) q164 dX0_feed_64 rfl (by decide) (by decide) w16 ?_
              exact n_iret hC dX0_feed_67 (by decide) (by decide) (xOp.mk (M2 := mset (mset M 30 (blk (M 30) (mN M 27) t (byt b t))) 27 (fun _ => nI (mN M 27 + t))) (by simp only [o_feed, c_6, hzc, Bool.true_eq_false, if_false]; rw [if_neg (by omega)]) (by
      refine ⟨hw, gPe.c hF (by decide), gRi.c hF (by decide), gCl.c hF (by decide), gSt.c hF (by decide), gTh.c hF (by decide), gFi.c hF (by decide), ⟨w16, fun i hi => ?_⟩, gTr, gTp, gRd, gOr⟩
      rw [mN_of (n := mN M 27 + t) rfl (by omega)] at hi
      show C2 15 i = blk (M 30) (mN M 27) t (byt b t) i
      rw [w15]
      exact blk_cg (fun x hx => gTx.2 x hx) hi))
            · skip
              obtain ⟨q1, eq1⟩ := pmi_n c_31
              rw [eq1]
              simp only [pmi_s]
              refine n_aload_n hC dX0_feed_34 rfl ?_
              refine x_getA hC 15 q163 dX0_feed_35 rfl (by decide) (by decide) ?_
              refine n_aload_n hC dX0_feed_38 rfl ?_
              refine n_dup hC dX0_feed_39 rfl ?_
              refine x_getI hC 16 (v := nI (mN M 27 + t)) q164 dX0_feed_40 rfl (by decide) (by decide) w16 ?_
              refine n_dup_x1 hC dX0_feed_43 rfl rfl ?_
              refine n_iconst hC (v := nI 1) dX0_feed_44 (by decide) ?_
              refine n_iaddN hC dX0_feed_45 rfl ?_
              refine x_putI hC 16 (C2 := mset C2 16 (fun _ => nI (mN M 27 + t + 1))) q164 dX0_feed_46 rfl (by decide) (by decide) rfl rfl rfl rfl rfl ?_
              refine n_iload_n hC dX0_feed_49 rfl ?_
              refine n_bipush hC (v := nI 8) dX0_feed_50 (by decide) ?_
              refine n_iload_n hC dX0_feed_52 rfl ?_
              refine n_imulN hC dX0_feed_53 rfl ?_
              refine n_ishr hC dX0_feed_54 ?_
              refine n_i2b hC dX0_feed_55 ?_
              refine x_bastN hC (C2 := mset (mset C2 16 (fun _ => nI (mN M 27 + t + 1))) 15 (upd (C2 15) (mN M 27 + t) (vp_nar .byte ((b >>> ((nI (8 * q1)) &&& 31)).toInt8.toInt32)))) dX0_feed_56 rfl (by omega) rfl ?_
              refine n_iinc hC dX0_feed_57 (v := pmi (z - (t + 1))) rfl (by rw [show z - (t + 1) = q1 by omega]; rfl) ?_
              refine n_goto hC (tgt := 30) dX0_feed_60 (by decide) ?_
              exact WN.forget (L' := [some (.ref (na 130)), some (.int b), some (.int (nI z)), some (.int (pmi (z - (t + 1))))]) (⟨Or.inr rfl, Or.inr rfl, Or.inr rfl, Or.inr rfl, trivial⟩) (ih30 _ (by omega) (t + 1) (mset (mset C2 16 (fun _ => nI (mN M 27 + t + 1))) 15 (upd (C2 15) (mN M 27 + t) (vp_nar .byte ((b >>> ((nI (8 * q1)) &&& 31)).toInt8.toInt32)))) rfl (by omega) (mFr.set (by decide) (mFr.set (by decide) hF)) rfl (by show upd (C2 15) _ (vp_nar .byte _) = _; rw [w15, nar_b]; exact blk_u (by unfold byt; rw [show z - 1 - t = q1 by omega])))
        rw [pmi_p (show 1 ≤ z by omega)]
        exact WN.forget (L' := [some (.ref (na 130)), some (.int b), some (.int (nI z)), some (.int (pmi z))]) (⟨Or.inr rfl, Or.inr rfl, Or.inr rfl, Or.inr rfl, trivial⟩) (lp30 _ 0 C rfl (by omega) mFr.rf (gTx.1.trans h27) (by rw [blk_0]))
    · skip
      refine n_bipush hC (v := (-4)) dX0_feed_23 (by decide) ?_
      exact n_iret hC dX0_feed_25 (by decide) (by decide) (xOp.mk (M2 := M) (by simp only [o_feed, c_6, hzc, Bool.true_eq_false, if_false]; simp [c_20]) hR0)
  · skip
    refine n_bipush hC (v := (-2)) dX0_feed_9 (by decide) ?_
    exact n_iret hC dX0_feed_11 (by decide) (by decide) (xOp.mk (M2 := M) (by simp [o_feed, c_6]) hR0)

set_option maxHeartbeats 4000000 in
set_option maxRecDepth 100000 in
theorem xt_X0_told (na : nA) (h : nH) (C : nMem) (B : Nat → nMem) (P : Nat → Nat × Nat) (I : Nat → Nat) (M : nMem) (hR : xRel (C, B, P, I) M) (hI : mInv M) (f i : Int32) : nM yX0_told cX0_told 4 (some .int) (nRm 3 0 0) [.ref (na 130), .int f, .int i] na (xPut na h (C, B, P, I)) (nQi (xOp na h (o_told f i M))) 0 0 := by
  refine nM.ofN RX0 rfl (by decide) (by intro v hv; simp only [List.mem_cons, List.not_mem_nil, or_false] at hv; rcases hv with rfl | rfl | rfl <;> rfl) (Nat.le_of_ble_eq_true rfl) (fun K hC hnm => ?_)
  show WN K na (xPut na h (C, B, P, I)) 0 0 (nE K (nQi (xOp na h (o_told f i M))) 0 0) 0 [some (.ref (na 130)), some (.int f), some (.int i), none] []
  let Q9 : State → Prop := nE K (nQi (xOp na h (o_told f i M))) 0 0
  show WN K na (xPut na h (C, B, P, I)) 0 0 Q9 0 [some (.ref (na 130)), some (.int f), some (.int i), none] []
  have hR0 := hR
  obtain ⟨hw, gPe, gRi, gCl, gSt, gTh, gFi, gTx, gTr, gTp, gRd, gOr⟩ := hR
  dsimp only at hw gPe gRi gCl gSt gTh gFi gTx gTr gTp gRd gOr
  obtain ⟨⟨h0, b0⟩, ⟨h1, b1a, b1⟩, ⟨h11, b11⟩, ⟨h14, b14⟩, ⟨h15, b15, b15n⟩, ⟨h20, b20⟩, ⟨h26, b26⟩, ⟨h27, b27⟩, ⟨h55, b55⟩, iP, iH, iHi, iHd, iC, iT, iF, iG, iS, iZ⟩ := hI
  refine n_aload_n hC dX0_told_0 rfl ?_
  refine n_iload_n hC dX0_told_1 rfl ?_
  refine n_callV1z hC (ct_X0_isFigure na _ _ _ _ _ (n := mN M 26) (gFi.1.trans h26) (by omega) f) md_X0_isFigure q739 dX0_told_2 rfl xPut_o rfl rfl ⟨rfl, rfl, by decide, by decide⟩ rfl (Nat.le_of_ble_eq_true rfl) (by decide) (by decide) (fun r0 na0 h0 hp0 => ?_)
  obtain ⟨rfl, rfl, rfl⟩ := hp0
  refine n_if_neB hC (tgt := 10) dX0_told_5 (by decide) (fun c_5 => ?_) (fun c_5 => ?_)
  · skip
    obtain ⟨j, hj, ej⟩ := (nin_t (by omega)).mp c_5
    subst ej
    have hjc : (nI j).toNatClampNeg = j := nI_clamp (by omega)
    obtain ⟨f1, f2, f3, f4, f5⟩ := xr_fig gFi hj
    have fl9 := (iF j hj).2
    refine n_aload_n hC dX0_told_10 rfl ?_
    refine x_getA hC 13 q161 dX0_told_11 rfl (by decide) (by decide) ?_
    refine n_iload_n hC dX0_told_14 rfl ?_
    refine x_fig hC dX0_told_15 rfl (by omega) f1 ?_
    refine n_astore_n hC dX0_told_16 (Nat.le_of_ble_eq_true rfl) ?_
    refine n_iload_n hC dX0_told_17 rfl ?_
    refine n_iconst hC (v := (-1)) dX0_told_18 (by decide) ?_
    refine n_icmp_ne hC (tgt := 29) dX0_told_19 (by decide) (fun c_19 => ?_) (fun c_19 => ?_)
    · skip
      refine n_iload_n hC dX0_told_29 rfl ?_
      refine n_iconst hC (v := nI 0) dX0_told_30 (by decide) ?_
      refine n_aload_n hC dX0_told_31 rfl ?_
      refine o_getIN hC gW_X12 (xBlk_o (na := na) (h := h) (X := (C, B, P, I)) (i := (I (100 + j))) (c := (3, 0)) f2 ⟨by decide, by decide⟩) (host := "MaypoleGreen") 1 (v := nI (mA M 28 j)) (by decide) dX0_told_32 rfl (by decide) (by decide) f3 ?_
      refine n_iconst hC (v := nI 1) dX0_told_35 (by decide) ?_
      refine n_isub hC dX0_told_36 ?_
      refine n_callS3z hC (ct_X0_in na _ i (nI 0) ((nI (mA M 28 j)) - (nI 1))) ms_X0_in q243 dX0_told_37 ⟨rfl, rfl, by decide, by decide⟩ rfl (Nat.le_of_ble_eq_true rfl) (by decide) (by decide) (fun r1 na1 h1 hp1 => ?_)
      obtain ⟨rfl, rfl, rfl⟩ := hp1
      rw [show nrg i (nI 0) (nI (mA M 28 j) - nI 1) = nin i (mA M 28 j) from nrg_in (by omega)]
      refine n_if_eqB hC (tgt := 52) dX0_told_40 (by decide) (fun c_40 => ?_) (fun c_40 => ?_)
      · skip
        refine n_iconst hC (v := (-1)) dX0_told_52 (by decide) ?_
        exact n_iret hC dX0_told_53 (by decide) (by decide) (xOp.mk (M2 := M) (by simp [o_told, c_5, c_19, hjc, c_40]) hR0)
      · skip
        obtain ⟨k, hk, ek⟩ := (nin_t (by omega)).mp c_40
        subst ek
        have hkc : (nI k).toNatClampNeg = k := nI_clamp (by omega)
        refine n_aload_n hC dX0_told_43 rfl ?_
        refine o_getAN hC gW_X12 (xBlk_o (na := na) (h := h) (X := (C, B, P, I)) (i := (I (100 + j))) (c := (3, 0)) f2 ⟨by decide, by decide⟩) (host := "MaypoleGreen") 0 (by decide) dX0_told_44 rfl (by decide) (by decide) ?_
        refine n_iload_n hC dX0_told_47 rfl ?_
        refine o_aldN hC gW_X12 (xBlk_o (na := na) (h := h) (X := (C, B, P, I)) (i := (I (100 + j))) (c := (3, 0)) f2 ⟨by decide, by decide⟩) 0 (v := M 29 (300 * j + k)) dX0_told_48 rfl gI_X12_0 (by show k < 300; omega) ((f5 k hk).trans (iG j k hj hk).1.symm) ?_
        refine n_goto hC (tgt := 53) dX0_told_49 (by decide) ?_
        exact n_iret hC dX0_told_53 (by decide) (by decide) (xOp.mk (M2 := M) (by simp [o_told, c_5, c_19, hjc, hkc, c_40]) hR0)
    · skip
      refine n_aload_n hC dX0_told_22 rfl ?_
      refine o_getIN hC gW_X12 (xBlk_o (na := na) (h := h) (X := (C, B, P, I)) (i := (I (100 + j))) (c := (3, 0)) f2 ⟨by decide, by decide⟩) (host := "MaypoleGreen") 1 (v := nI (mA M 28 j)) (by decide) dX0_told_23 rfl (by decide) (by decide) f3 ?_
      refine n_goto hC (tgt := 53) dX0_told_26 (by decide) ?_
      exact n_iret hC dX0_told_53 (by decide) (by decide) (xOp.mk (M2 := M) (by rw [← (iF j hj).1]; simp [o_told, c_5, c_19, hjc]) hR0)
  · skip
    refine n_iconst hC (v := (-1)) dX0_told_8 (by decide) ?_
    exact n_iret hC dX0_told_9 (by decide) (by decide) (xOp.mk (M2 := M) (by simp [o_told, c_5]) hR0)

theorem cnt_out {w : Int32} {M : nMem} (h : w.toInt < 0 ∨ ((7 : Nat) : Int) < w.toInt) : o_count w M = (-2, M) := by
  have ne : ∀ k, k ≤ 7 → ¬ w = nI k := fun k hk z => by rw [z, nI_toInt (by omega)] at h; omega
  simp [o_count, ne 0, ne 1, ne 2, ne 3, ne 4, ne 5, ne 6, ne 7]
set_option maxHeartbeats 4000000 in
set_option maxRecDepth 100000 in
theorem xt_X0_count (na : nA) (h : nH) (C : nMem) (B : Nat → nMem) (P : Nat → Nat × Nat) (I : Nat → Nat) (M : nMem) (hR : xRel (C, B, P, I) M) (hI : mInv M) (w : Int32) : nM yX0_count cX0_count 2 (some .int) (nRm 3 0 0) [.ref (na 130), .int w] na (xPut na h (C, B, P, I)) (nQi (xOp na h (o_count w M))) 0 0 := by
  refine nM.ofN RX0 rfl (by decide) (by intro v hv; simp only [List.mem_cons, List.not_mem_nil, or_false] at hv; rcases hv with rfl | rfl <;> rfl) (Nat.le_of_ble_eq_true rfl) (fun K hC hnm => ?_)
  show WN K na (xPut na h (C, B, P, I)) 0 0 (nE K (nQi (xOp na h (o_count w M))) 0 0) 0 [some (.ref (na 130)), some (.int w)] []
  let Q9 : State → Prop := nE K (nQi (xOp na h (o_count w M))) 0 0
  show WN K na (xPut na h (C, B, P, I)) 0 0 Q9 0 [some (.ref (na 130)), some (.int w)] []
  have hR0 := hR
  obtain ⟨hw, gPe, gRi, gCl, gSt, gTh, gFi, gTx, gTr, gTp, gRd, gOr⟩ := hR
  dsimp only at hw gPe gRi gCl gSt gTh gFi gTx gTr gTp gRd gOr
  obtain ⟨⟨h0, b0⟩, ⟨h1, b1a, b1⟩, ⟨h11, b11⟩, ⟨h14, b14⟩, ⟨h15, b15, b15n⟩, ⟨h20, b20⟩, ⟨h26, b26⟩, ⟨h27, b27⟩, ⟨h55, b55⟩, iP, iH, iHi, iHd, iC, iT, iF, iG, iS, iZ⟩ := hI
  refine n_iload_n hC dX0_count_0 rfl ?_
  by_cases s_1 : (w).toInt < 0 ∨ (7 : Int) < (w).toInt
  · refine n_tableOut hC (tgt := 99) dX0_count_1 s_1 (by decide) ?_
    refine n_bipush hC (v := (-2)) dX0_count_99 (by decide) ?_
    exact n_iret hC dX0_count_101 (by decide) (by decide) (xOp.mk (M2 := M) (cnt_out s_1) hR0)
  · obtain ⟨j_1, hj_1, ej_1⟩ := sw_c (n := 7) s_1
    rcases (show j_1 = 0 ∨ j_1 = 1 ∨ j_1 = 2 ∨ j_1 = 3 ∨ j_1 = 4 ∨ j_1 = 5 ∨ j_1 = 6 ∨ j_1 = 7 by omega) with rfl | rfl | rfl | rfl | rfl | rfl | rfl | rfl
    · subst ej_1
      refine n_tableIn hC (off := 47) (tgt := 48) dX0_count_1 (by decide) (by decide) (by decide) (by decide) ?_
      refine n_aload_n hC dX0_count_48 rfl ?_
      refine x_getI hC 1 (v := nI (mN M 0)) q149 dX0_count_49 rfl (by decide) (by decide) (gPe.1.trans h0) ?_
      exact n_iret hC dX0_count_52 (by decide) (by decide) (xOp.mk (M2 := M) (by simp [o_count]) hR0)
    · subst ej_1
      refine n_tableIn hC (off := 52) (tgt := 53) dX0_count_1 (by decide) (by decide) (by decide) (by decide) ?_
      refine n_aload_n hC dX0_count_53 rfl ?_
      refine x_getI hC 2 (v := nI (mN M 1)) q150 dX0_count_54 rfl (by decide) (by decide) (gRi.1.trans h1) ?_
      exact n_iret hC dX0_count_57 (by decide) (by decide) (xOp.mk (M2 := M) (by simp [o_count, show ¬ nI 1 = nI 0 from by decide]) hR0)
    · subst ej_1
      refine n_tableIn hC (off := 57) (tgt := 58) dX0_count_1 (by decide) (by decide) (by decide) (by decide) ?_
      refine n_aload_n hC dX0_count_58 rfl ?_
      refine x_getI hC 12 (v := nI (mN M 14)) q160 dX0_count_59 rfl (by decide) (by decide) (gSt.1.trans h14) ?_
      exact n_iret hC dX0_count_62 (by decide) (by decide) (xOp.mk (M2 := M) (by simp [o_count, show ¬ nI 2 = nI 0 from by decide, show ¬ nI 2 = nI 1 from by decide]) hR0)
    · subst ej_1
      refine n_tableIn hC (off := 62) (tgt := 63) dX0_count_1 (by decide) (by decide) (by decide) (by decide) ?_
      refine n_aload_n hC dX0_count_63 rfl ?_
      refine x_getI hC 14 (v := nI (mN M 26)) q162 dX0_count_64 rfl (by decide) (by decide) (gFi.1.trans h26) ?_
      exact n_iret hC dX0_count_67 (by decide) (by decide) (xOp.mk (M2 := M) (by simp [o_count, show ¬ nI 3 = nI 0 from by decide, show ¬ nI 3 = nI 1 from by decide, show ¬ nI 3 = nI 2 from by decide]) hR0)
    · subst ej_1
      refine n_tableIn hC (off := 67) (tgt := 68) dX0_count_1 (by decide) (by decide) (by decide) (by decide) ?_
      refine n_aload_n hC dX0_count_68 rfl ?_
      refine x_getI hC 16 (v := nI (mN M 27)) q164 dX0_count_69 rfl (by decide) (by decide) (gTx.1.trans h27) ?_
      exact n_iret hC dX0_count_72 (by decide) (by decide) (xOp.mk (M2 := M) (by simp [o_count, show ¬ nI 4 = nI 0 from by decide, show ¬ nI 4 = nI 1 from by decide, show ¬ nI 4 = nI 2 from by decide, show ¬ nI 4 = nI 3 from by decide]) hR0)
    · subst ej_1
      refine n_tableIn hC (off := 72) (tgt := 73) dX0_count_1 (by decide) (by decide) (by decide) (by decide) ?_
      refine n_aload_n hC dX0_count_73 rfl ?_
      refine x_getI hC 23 (v := nI (mN M 20)) q171 dX0_count_74 rfl (by decide) (by decide) (gTh.1.trans h20) ?_
      exact n_iret hC dX0_count_77 (by decide) (by decide) (xOp.mk (M2 := M) (by simp [o_count, show ¬ nI 5 = nI 0 from by decide, show ¬ nI 5 = nI 1 from by decide, show ¬ nI 5 = nI 2 from by decide, show ¬ nI 5 = nI 3 from by decide, show ¬ nI 5 = nI 4 from by decide]) hR0)
    · subst ej_1
      refine n_tableIn hC (off := 77) (tgt := 78) dX0_count_1 (by decide) (by decide) (by decide) (by decide) ?_
      refine n_aload_n hC dX0_count_78 rfl ?_
      refine x_getI hC 6 (v := nbo (mB M 11)) q154 dX0_count_79 rfl (by decide) (by decide) (gRi.2.2.1.trans h11) ?_
      refine n_if_eqB hC (tgt := 89) dX0_count_82 (by decide) (fun c_82 => ?_) (fun c_82 => ?_)
      · skip
        refine n_iconst hC (v := nI 0) dX0_count_89 (by decide) ?_
        exact n_iret hC dX0_count_90 (by decide) (by decide) (xOp.mk (M2 := M) (by simp [o_count, show ¬ nI 6 = nI 0 from by decide, show ¬ nI 6 = nI 1 from by decide, show ¬ nI 6 = nI 2 from by decide, show ¬ nI 6 = nI 3 from by decide, show ¬ nI 6 = nI 4 from by decide, show ¬ nI 6 = nI 5 from by decide, c_82]; try rfl) hR0)
      · skip
        refine n_iconst hC (v := nI 1) dX0_count_85 (by decide) ?_
        refine n_goto hC (tgt := 90) dX0_count_86 (by decide) ?_
        exact n_iret hC dX0_count_90 (by decide) (by decide) (xOp.mk (M2 := M) (by simp [o_count, show ¬ nI 6 = nI 0 from by decide, show ¬ nI 6 = nI 1 from by decide, show ¬ nI 6 = nI 2 from by decide, show ¬ nI 6 = nI 3 from by decide, show ¬ nI 6 = nI 4 from by decide, show ¬ nI 6 = nI 5 from by decide, c_82]; try rfl) hR0)
    · subst ej_1
      refine n_tableIn hC (off := 90) (tgt := 91) dX0_count_1 (by decide) (by decide) (by decide) (by decide) ?_
      obtain ⟨t1, t2, t3⟩ := gTr
      refine n_aload_n hC dX0_count_91 rfl ?_
      refine x_getT hC q165 dX0_count_92 rfl ?_
      refine o_getIN hC gW_X1 (xBlk_o (na := na) (h := h) (X := (C, B, P, I)) (i := 0) (c := (1, 0)) t1 ⟨by decide, by decide⟩) (host := "MaypoleGreen") 1 (v := nI (mN M 55)) (by decide) dX0_count_95 rfl (by decide) (by decide) (t2.trans h55) ?_
      exact n_iret hC dX0_count_98 (by decide) (by decide) (xOp.mk (M2 := M) (by simp [o_count, show ¬ nI 7 = nI 0 from by decide, show ¬ nI 7 = nI 1 from by decide, show ¬ nI 7 = nI 2 from by decide, show ¬ nI 7 = nI 3 from by decide, show ¬ nI 7 = nI 4 from by decide, show ¬ nI 7 = nI 5 from by decide, show ¬ nI 7 = nI 6 from by decide]) hR0)

