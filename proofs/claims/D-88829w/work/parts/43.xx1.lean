/-! ===== THE CLASS: rounds ===== -/
set_option maxRecDepth 100000
def shX9 : gS := (9, 8, fun j => [0, 1, 1, 1, 2, 3, 0, 0].getD j 0, fun _ => 9, true)
theorem shX9_hi {i : Nat} (h : 8 ≤ i) : shX9.2.2.1 i = 0 := by
  show [0, 1, 1, 1, 2, 3, 0, 0].getD i 0 = 0
  rw [List.getD_eq_getElem?_getD, List.getElem?_eq_none (by simpa using h)]
  rfl
theorem gL_X9 (i : Nat) : gL shX9 i = 9 := by unfold gL; split <;> rfl
theorem gW_X9 : gW shX9 RX9 TX9 tyX9 := ⟨rfl, in_X9, by decide, tyX9_ok, nmX9, by decide, fun i => by rw [gL_X9]; decide⟩
theorem gI_X9_1 : gI shX9 1 := ⟨by decide, by decide, Or.inl rfl⟩
theorem gI_X9_2 : gI shX9 2 := ⟨by decide, by decide, Or.inl rfl⟩
theorem gI_X9_3 : gI shX9 3 := ⟨by decide, by decide, Or.inl rfl⟩
theorem gI_X9_r {i : Nat} (h : 20 ≤ i ∧ i < 220) : gI shX9 i := ⟨by omega, h.2, Or.inr ⟨shX9_hi (by omega), rfl, h.1⟩⟩
theorem gL_X9_r {i : Nat} (_ : 20 ≤ i ∧ i < 220) : gL shX9 i = 9 := gL_X9 i
/-- a call on a block that changes nothing -/
def gPure (sh : gS) (b : Nat) (na : nA) (h : nH) (R : nMem) (v : Int32) : Int32 → nA → nH → Prop := fun r na' h' => v = r ∧ na = na' ∧ gPut sh b na h R = h'
def gRelV (sh : gS) (b : Nat) (na : nA) (h : nH) (P : nMem → Prop) : nA → nH → Prop := fun na' h' => na = na' ∧ ∃ R2, gPut sh b na h R2 = h' ∧ P R2
set_option maxHeartbeats 4000000 in
set_option maxRecDepth 100000 in
theorem ct_X9_girth (b : Nat) (na : nA) (h : nH) (R : nMem) {r : Nat} (hr : R 6 0 = nI r) (hr9 : r ≤ 100) : nM yX9_girth cX9_girth 1 (some .int) (nRm 0 0 0) [.ref (na (b + 9))] na (gPut shX9 b na h R) (nQi (gPure shX9 b na h R (nI (10 + r / 3)))) 0 0 := by
  refine nM.ofN RX9 rfl (by decide) (by intro v hv; simp only [List.mem_cons, List.not_mem_nil, or_false] at hv; subst hv; rfl) (Nat.le_of_ble_eq_true rfl) (fun K hC hnm => ?_)
  show WN K na (gPut shX9 b na h R) 0 0 (nE K (nQi (gPure shX9 b na h R (nI (10 + r / 3)))) 0 0) 0 [some (.ref (na (b + 9)))] []
  let Q9 : State → Prop := nE K (nQi (gPure shX9 b na h R (nI (10 + r / 3)))) 0 0
  show WN K na (gPut shX9 b na h R) 0 0 Q9 0 [some (.ref (na (b + 9)))] []
  refine n_bipush hC (v := nI 10) dX9_girth_0 (by decide) ?_
  refine n_aload_n hC dX9_girth_2 rfl ?_
  refine g_getI hC gW_X9 6 (v := nI r) q345 dX9_girth_3 rfl (by decide) (by decide) hr ?_
  refine n_iconst hC (v := nI 3) dX9_girth_6 (by decide) ?_
  refine n_idivN hC dX9_girth_7 (by omega) (by omega) (by omega) rfl ?_
  refine n_iaddN hC dX9_girth_8 rfl ?_
  exact n_iret hC dX9_girth_9 (by decide) (by decide) (⟨rfl, rfl, rfl⟩)

set_option maxHeartbeats 4000000 in
set_option maxRecDepth 100000 in
theorem ct_X9_begins (b : Nat) (na : nA) (h : nH) (R : nMem) {n : Nat} (hn : R 0 0 = nI n) (hn3 : 3 ≤ n) (hn9 : n ≤ 9) {kk : Nat} {f : Nat → Int32} (hk : ¬ (b ≤ kk ∧ kk < b + 220)) (hf : h kk = some (.inl (0, 9, .inl f))) : nM yX9_begins cX9_begins 3 (none) (nRm 0 0 0) [.ref (na (b + 9)), .ref (na kk)] na (gPut shX9 b na h R) (nQv (gRelV shX9 b na h (fun R2 => R2 = mset (mset (mset (mset (mset R 1 (fil nI (R 1) n)) 2 (fil f (R 2) n)) 3 (fil (fun _ => nI 0) (R 3) n)) 6 (fun _ => nI 0)) 7 (fun _ => nI 0)))) 0 0 := by
  refine nM.ofN RX9 rfl (by decide) (by intro v hv; simp only [List.mem_cons, List.not_mem_nil, or_false] at hv; rcases hv with rfl | rfl <;> rfl) (Nat.le_of_ble_eq_true rfl) (fun K hC hnm => ?_)
  show WN K na (gPut shX9 b na h R) 0 0 (nE K (nQv (gRelV shX9 b na h (fun R2 => R2 = mset (mset (mset (mset (mset R 1 (fil nI (R 1) n)) 2 (fil f (R 2) n)) 3 (fil (fun _ => nI 0) (R 3) n)) 6 (fun _ => nI 0)) 7 (fun _ => nI 0)))) 0 0) 0 [some (.ref (na (b + 9))), some (.ref (na kk)), none] []
  let Q9 : State → Prop := nE K (nQv (gRelV shX9 b na h (fun R2 => R2 = mset (mset (mset (mset (mset R 1 (fil nI (R 1) n)) 2 (fil f (R 2) n)) 3 (fil (fun _ => nI 0) (R 3) n)) 6 (fun _ => nI 0)) 7 (fun _ => nI 0)))) 0 0
  show WN K na (gPut shX9 b na h R) 0 0 Q9 0 [some (.ref (na (b + 9))), some (.ref (na kk)), none] []
  refine n_iconst hC (v := nI 0) dX9_begins_0 (by decide) ?_
  refine n_istore_n hC dX9_begins_1 (Nat.le_of_ble_eq_true rfl) ?_
  have lp2 : ∀ d9 : Nat, ∀ (p : Nat) (R2 : nMem), n - p = d9 → (p ≤ n) → (mFr [1, 2, 3] R R2) → (R2 1 = fil nI (R 1) p) → (R2 2 = fil f (R 2) p) → (R2 3 = fil (fun _ => nI 0) (R 3) p) → WN K na (gPut shX9 b na h R2) 0 0 Q9 2 [some (.ref (na (b + 9))), some (.ref (na kk)), some (.int (nI p))] [] := by
    intro d9
    induction d9 using Nat.strongRecOn with
    | _ d9 ih2 =>
      intro p R2 hd2 hp hF2 w1 w2 w3
      refine n_iload_n hC dX9_begins_2 rfl ?_
      refine n_aload_n hC dX9_begins_3 rfl ?_
      refine g_getI hC gW_X9 0 (v := nI n) q334 dX9_begins_4 rfl (by decide) (by decide) ((congrFun (hF2 0 (by decide)) 0).trans hn) ?_
      refine n_icmp_geN hC (tgt := 39) dX9_begins_7 (by decide) (by omega) (by omega) (fun c_7 => ?_) (fun c_7 => ?_)
      · skip
        have hp9 : p = n := by omega
        refine n_aload_n hC dX9_begins_39 rfl ?_
        refine n_iconst hC (v := nI 0) dX9_begins_40 (by decide) ?_
        refine g_putI hC gW_X9 6 (R2 := mset R2 6 (fun _ => nI 0)) q345 dX9_begins_41 rfl (by decide) (by decide) rfl rfl rfl rfl rfl ?_
        refine n_aload_n hC dX9_begins_44 rfl ?_
        refine n_iconst hC (v := nI 0) dX9_begins_45 (by decide) ?_
        refine g_putI hC gW_X9 7 (R2 := mset (mset R2 6 (fun _ => nI 0)) 7 (fun _ => nI 0)) q347 dX9_begins_46 rfl (by decide) (by decide) rfl rfl rfl rfl rfl ?_
        exact n_vret hC dX9_begins_49 (by decide) (by decide) (by
    refine ⟨rfl, _, rfl, ?_⟩
    rw [hp9] at w1 w2 w3
    funext k
    by_cases e7 : k = 7
    · subst e7; rfl
    · rw [mset_n e7, mset_n e7]
      by_cases e6 : k = 6
      · subst e6; rfl
      · rw [mset_n e6, mset_n e6]
        by_cases e3 : k = 3
        · subst e3; rw [mset_s]; exact w3
        · rw [mset_n e3]
          by_cases e2 : k = 2
          · subst e2; rw [mset_s]; exact w2
          · rw [mset_n e2]
            by_cases e1 : k = 1
            · subst e1; rw [mset_s]; exact w1
            · rw [mset_n e1, hF2 k (by simp [e1, e2, e3])])
      · skip
        refine n_aload_n hC dX9_begins_10 rfl ?_
        refine g_getA hC gW_X9 1 q336 dX9_begins_11 rfl (by decide) (by decide) ?_
        refine n_iload_n hC dX9_begins_14 rfl ?_
        refine n_iload_n hC dX9_begins_15 rfl ?_
        refine g_astN hC gW_X9 1 (R2 := mset R2 1 (upd (R2 1) p (nI p))) dX9_begins_16 rfl gI_X9_1 (by have h9 : gL shX9 1 = 9 := rfl; omega) rfl ?_
        refine n_aload_n hC dX9_begins_17 rfl ?_
        refine g_getA hC gW_X9 2 q338 dX9_begins_18 rfl (by decide) (by decide) ?_
        refine n_iload_n hC dX9_begins_21 rfl ?_
        refine n_aload_n hC dX9_begins_22 rfl ?_
        refine n_iload_n hC dX9_begins_23 rfl ?_
        refine n_ialdN hC (f := f) dX9_begins_24 rfl ((gPut_out hk).trans hf) (by omega) (by decide) ?_
        refine g_astN hC gW_X9 2 (R2 := mset (mset R2 1 (upd (R2 1) p (nI p))) 2 (upd (R2 2) p (f p))) dX9_begins_25 rfl gI_X9_2 (by have h9 : gL shX9 2 = 9 := rfl; omega) rfl ?_
        refine n_aload_n hC dX9_begins_26 rfl ?_
        refine g_getA hC gW_X9 3 q340 dX9_begins_27 rfl (by decide) (by decide) ?_
        refine n_iload_n hC dX9_begins_30 rfl ?_
        refine n_iconst hC (v := nI 0) dX9_begins_31 (by decide) ?_
        refine g_astN hC gW_X9 3 (R2 := mset (mset (mset R2 1 (upd (R2 1) p (nI p))) 2 (upd (R2 2) p (f p))) 3 (upd (R2 3) p (nI 0))) dX9_begins_32 rfl gI_X9_3 (by have h9 : gL shX9 3 = 9 := rfl; omega) rfl ?_
        refine n_iincN hC dX9_begins_33 (j := 1) (c := p + 1) rfl (by decide) rfl ?_
        refine n_goto hC (tgt := 2) dX9_begins_36 (by decide) ?_
        exact WN.forget (L' := [some (.ref (na (b + 9))), some (.ref (na kk)), some (.int (nI (p + 1)))]) (⟨Or.inr rfl, Or.inr rfl, Or.inr rfl, trivial⟩) (ih2 _ (by omega) (p + 1) (mset (mset (mset R2 1 (upd (R2 1) p (nI p))) 2 (upd (R2 2) p (f p))) 3 (upd (R2 3) p (nI 0))) rfl (by omega) (mFr.set (by decide) (mFr.set (by decide) (mFr.set (by decide) hF2))) (by show upd (R2 1) p _ = _; rw [w1]; exact fil_u rfl) (by show upd (R2 2) p _ = _; rw [w2]; exact fil_u rfl) (by show upd (R2 3) p _ = _; rw [w3]; exact fil_u rfl))
  exact WN.forget (L' := [some (.ref (na (b + 9))), some (.ref (na kk)), some (.int (nI 0))]) (⟨Or.inr rfl, Or.inr rfl, Or.inr rfl, trivial⟩) (lp2 _ 0 R rfl (by omega) mFr.rf (by rw [fil_0]) (by rw [fil_0]) (by rw [fil_0]))

/-- what a round needs: its ribbons at places -/
def rdA (R : nMem) (n : Nat) : Prop := ∀ p, p < n → R 1 p = nI (mA R 1 p) ∧ mA R 1 p < n
def rfP (R : nMem) (n p how : Nat) : Int32 :=
  if R 2 (mA R 1 (if how = 0 then p else (p + 1) % n)) < nI 1 ∨ R 2 (mA R 1 (if how = 0 then (p + 1) % n else p)) < nI 2 then -3 else if mN R 7 = 300 then -4 else 0
def rfW (R : nMem) (n : Nat) : Int32 := if anyb n (fun p => decide (R 2 p < nI (10 + mN R 6 / 3))) = true then -3 else if mN R 7 = 300 ∨ mN R 6 = 100 then -4 else 0
def rfS (R : nMem) (n s : Nat) : Int32 := if s < 100 then rfP R n (s / 10) (s % 10) else rfW R n
set_option maxHeartbeats 4000000 in
set_option maxRecDepth 100000 in
theorem ct_X9_refuses (b : Nat) (na : nA) (h : nH) (R : nMem) {n : Nat} (hn : R 0 0 = nI n) (hn3 : 3 ≤ n) (hn9 : n ≤ 9) (hr : R 6 0 = nI (mN R 6)) (hr9 : mN R 6 ≤ 100) (hd : R 7 0 = nI (mN R 7)) (hd9 : mN R 7 ≤ 300) (hA : rdA R n) {s : Nat} (hs : s < 102) (hs2 : s < 100 → s / 10 < n ∧ s % 10 ≤ 1) : nM yX9_refuses cX9_refuses 6 (some .int) (nRm 1 0 0) [.ref (na (b + 9)), .int (nI s)] na (gPut shX9 b na h R) (nQi (gPure shX9 b na h R (rfS R n s))) 0 0 := by
  refine nM.ofN RX9 rfl (by decide) (by intro v hv; simp only [List.mem_cons, List.not_mem_nil, or_false] at hv; rcases hv with rfl | rfl <;> rfl) (Nat.le_of_ble_eq_true rfl) (fun K hC hnm => ?_)
  show WN K na (gPut shX9 b na h R) 0 0 (nE K (nQi (gPure shX9 b na h R (rfS R n s))) 0 0) 0 [some (.ref (na (b + 9))), some (.int (nI s)), none, none, none, none] []
  let Q9 : State → Prop := nE K (nQi (gPure shX9 b na h R (rfS R n s))) 0 0
  show WN K na (gPut shX9 b na h R) 0 0 Q9 0 [some (.ref (na (b + 9))), some (.int (nI s)), none, none, none, none] []
  refine n_iload_n hC dX9_refuses_0 rfl ?_
  refine n_bipush hC (v := nI 100) dX9_refuses_1 (by decide) ?_
  refine n_icmp_geN hC (tgt := 104) dX9_refuses_3 (by decide) (by omega) (by omega) (fun c_3 => ?_) (fun c_3 => ?_)
  · skip
    have hS : rfS R n s = rfW R n := if_neg (by omega)
    refine n_iconst hC (v := nI 0) dX9_refuses_104 (by decide) ?_
    refine n_istore_n hC dX9_refuses_105 (Nat.le_of_ble_eq_true rfl) ?_
    refine n_iconst hC (v := nI 0) dX9_refuses_106 (by decide) ?_
    refine n_istore_n hC dX9_refuses_107 (Nat.le_of_ble_eq_true rfl) ?_
    have lp108 : ∀ d9 : Nat, ∀ (p : Nat) (g : Bool), n - p = d9 → (p ≤ n) → (anyb p (fun q => decide (R 2 q < nI (10 + mN R 6 / 3))) = g) → WN K na (gPut shX9 b na h R) 0 0 Q9 108 [some (.ref (na (b + 9))), some (.int (nI s)), some (.int (nbo g)), some (.int (nI p)), none, none] [] := by
      intro d9
      induction d9 using Nat.strongRecOn with
      | _ d9 ih108 =>
        intro p g hd108 hp hg
        refine n_iload_n hC dX9_refuses_108 rfl ?_
        refine n_aload_n hC dX9_refuses_109 rfl ?_
        refine g_getI hC gW_X9 0 (v := nI n) q334 dX9_refuses_110 rfl (by decide) (by decide) hn ?_
        refine n_icmp_geN hC (tgt := 143) dX9_refuses_113 (by decide) (by omega) (by omega) (fun c_113 => ?_) (fun c_113 => ?_)
        · skip
          refine n_iload_n hC dX9_refuses_143 rfl ?_
          refine n_if_eqB hC (tgt := 152) dX9_refuses_144 (by decide) (fun c_144 => ?_) (fun c_144 => ?_)
          · skip
            have hgf := hg.trans c_144
            rw [show p = n by omega] at hgf
            refine n_aload_n hC dX9_refuses_152 rfl ?_
            refine g_getI hC gW_X9 7 (v := nI (mN R 7)) q347 dX9_refuses_153 rfl (by decide) (by decide) hd ?_
            refine n_sipush hC (v := nI 300) dX9_refuses_156 (by decide) ?_
            refine n_icmp_eqN hC (tgt := 171) dX9_refuses_159 (by decide) (by omega) (by omega) (fun c_159 => ?_) (fun c_159 => ?_)
            · skip
              refine n_bipush hC (v := (-4)) dX9_refuses_171 (by decide) ?_
              refine n_goto hC (tgt := 177) dX9_refuses_173 (by decide) ?_
              exact n_iret hC dX9_refuses_177 (by decide) (by decide) (⟨by rw [hS]; unfold rfW; rw [if_neg (by rw [hgf]; decide)]; exact if_pos (Or.inl c_159), rfl, rfl⟩)
            · skip
              refine n_aload_n hC dX9_refuses_162 rfl ?_
              refine g_getI hC gW_X9 6 (v := nI (mN R 6)) q345 dX9_refuses_163 rfl (by decide) (by decide) hr ?_
              refine n_bipush hC (v := nI 100) dX9_refuses_166 (by decide) ?_
              refine n_icmp_neN hC (tgt := 176) dX9_refuses_168 (by decide) (by omega) (by omega) (fun c_168 => ?_) (fun c_168 => ?_)
              · skip
                refine n_iconst hC (v := nI 0) dX9_refuses_176 (by decide) ?_
                exact n_iret hC dX9_refuses_177 (by decide) (by decide) (⟨by rw [hS]; unfold rfW; rw [if_neg (by rw [hgf]; decide)]; exact if_neg (by omega), rfl, rfl⟩)
              · skip
                refine n_bipush hC (v := (-4)) dX9_refuses_171 (by decide) ?_
                refine n_goto hC (tgt := 177) dX9_refuses_173 (by decide) ?_
                exact n_iret hC dX9_refuses_177 (by decide) (by decide) (⟨by rw [hS]; unfold rfW; rw [if_neg (by rw [hgf]; decide)]; exact if_pos (Or.inr c_168), rfl, rfl⟩)
          · skip
            have hgt := hg.trans c_144
            rw [show p = n by omega] at hgt
            refine n_bipush hC (v := (-3)) dX9_refuses_147 (by decide) ?_
            refine n_goto hC (tgt := 177) dX9_refuses_149 (by decide) ?_
            exact n_iret hC dX9_refuses_177 (by decide) (by decide) (⟨by rw [hS]; unfold rfW; exact if_pos hgt, rfl, rfl⟩)
        · skip
          refine n_iload_n hC dX9_refuses_116 rfl ?_
          refine n_aload_n hC dX9_refuses_117 rfl ?_
          refine g_getA hC gW_X9 2 q338 dX9_refuses_118 rfl (by decide) (by decide) ?_
          refine n_iload_n hC dX9_refuses_121 rfl ?_
          refine g_aldN hC gW_X9 2 (v := R 2 p) dX9_refuses_122 rfl gI_X9_2 (by have h9 : gL shX9 2 = 9 := rfl; omega) rfl ?_
          refine n_aload_n hC dX9_refuses_123 rfl ?_
          refine n_callV0i hC (ct_X9_girth b na h (R) (r := mN R 6) hr (by omega)) md_X9_girth q413 dX9_refuses_124 rfl gPut_o rfl rfl ⟨rfl, rfl, by decide, by decide⟩ rfl (Nat.le_of_ble_eq_true rfl) (by decide) (by decide) (fun r0 na0 h0 hp0 => ?_)
          obtain ⟨rfl, rfl, rfl⟩ := hp0
          refine n_icmp_ge hC (tgt := 134) dX9_refuses_127 (by decide) (fun c_127 => ?_) (fun c_127 => ?_)
          · skip
            have c_127 := Int32.not_lt.mpr c_127
            refine n_iconst hC (v := nbo false) dX9_refuses_134 (by decide) ?_
            refine n_ior hC dX9_refuses_135 ?_
            rw [show (nbo g) ||| (nbo false) = nbo g from (by cases g <;> decide)]
            refine n_istore_n hC dX9_refuses_136 (Nat.le_of_ble_eq_true rfl) ?_
            refine n_iincN hC dX9_refuses_137 (j := 1) (c := p + 1) rfl (by decide) rfl ?_
            have hg2 : anyb (p + 1) (fun q => decide (R 2 q < nI (10 + mN R 6 / 3))) = g := by show (anyb p _ || decide _) = g; rw [decide_eq_false c_127, Bool.or_false]; exact hg
            refine n_goto hC (tgt := 108) dX9_refuses_140 (by decide) ?_
            exact WN.forget (L' := [some (.ref (na (b + 9))), some (.int (nI s)), some (.int (nbo g)), some (.int (nI (p + 1))), none, none]) (⟨Or.inr rfl, Or.inr rfl, Or.inr rfl, Or.inr rfl, Or.inl rfl, Or.inl rfl, trivial⟩) (ih108 _ (by omega) (p + 1) g rfl (by omega) hg2)
          · skip
            have c_127 := Int32.not_le.mp c_127
            refine n_iconst hC (v := nbo true) dX9_refuses_130 (by decide) ?_
            refine n_goto hC (tgt := 135) dX9_refuses_131 (by decide) ?_
            refine n_ior hC dX9_refuses_135 ?_
            rw [show (nbo g) ||| (nbo true) = nbo true from (by cases g <;> decide)]
            refine n_istore_n hC dX9_refuses_136 (Nat.le_of_ble_eq_true rfl) ?_
            refine n_iincN hC dX9_refuses_137 (j := 1) (c := p + 1) rfl (by decide) rfl ?_
            have hg2 : anyb (p + 1) (fun q => decide (R 2 q < nI (10 + mN R 6 / 3))) = true := by show (anyb p _ || decide _) = true; rw [decide_eq_true c_127, Bool.or_true]
            refine n_goto hC (tgt := 108) dX9_refuses_140 (by decide) ?_
            exact WN.forget (L' := [some (.ref (na (b + 9))), some (.int (nI s)), some (.int (nbo true)), some (.int (nI (p + 1))), none, none]) (⟨Or.inr rfl, Or.inr rfl, Or.inr rfl, Or.inr rfl, Or.inl rfl, Or.inl rfl, trivial⟩) (ih108 _ (by omega) (p + 1) true rfl (by omega) hg2)
    exact WN.forget (L' := [some (.ref (na (b + 9))), some (.int (nI s)), some (.int (nbo false)), some (.int (nI 0)), none, none]) (⟨Or.inr rfl, Or.inr rfl, Or.inr rfl, Or.inr rfl, Or.inl rfl, Or.inl rfl, trivial⟩) (lp108 _ 0 false rfl (by omega) rfl)
  · skip
    obtain ⟨hp, hh⟩ := hs2 (by omega)
    have hq : (s / 10 + 1) % n < n := Nat.mod_lt _ (by omega)
    have hap := hA _ hp
    have haq := hA _ hq
    have hS : rfS R n s = rfP R n (s / 10) (s % 10) := if_pos (by omega)
    refine n_iload_n hC dX9_refuses_6 rfl ?_
    refine n_bipush hC (v := nI 10) dX9_refuses_7 (by decide) ?_
    refine n_idivN hC dX9_refuses_9 (by omega) (by omega) (by omega) rfl ?_
    refine n_istore_n hC dX9_refuses_10 (Nat.le_of_ble_eq_true rfl) ?_
    refine n_iload_n hC dX9_refuses_11 rfl ?_
    refine n_iconst hC (v := nI 1) dX9_refuses_12 (by decide) ?_
    refine n_iaddN hC dX9_refuses_13 rfl ?_
    refine n_aload_n hC dX9_refuses_14 rfl ?_
    refine g_getI hC gW_X9 0 (v := nI n) q334 dX9_refuses_15 rfl (by decide) (by decide) hn ?_
    refine n_iremN hC dX9_refuses_18 (by omega) (by omega) (by omega) rfl ?_
    refine n_istore_n hC dX9_refuses_19 (Nat.le_of_ble_eq_true rfl) ?_
    refine n_iload_n hC dX9_refuses_20 rfl ?_
    refine n_bipush hC (v := nI 10) dX9_refuses_21 (by decide) ?_
    refine n_iremN hC dX9_refuses_23 (by omega) (by omega) (by omega) rfl ?_
    refine n_if_neN hC (tgt := 31) dX9_refuses_24 (by decide) (by omega) (fun c_24 => ?_) (fun c_24 => ?_)
    · skip
      refine n_iload_n hC dX9_refuses_31 rfl ?_
      refine n_istore hC dX9_refuses_32 (Nat.le_of_ble_eq_true rfl) ?_
      refine n_aload_n hC dX9_refuses_34 rfl ?_
      refine g_getA hC gW_X9 2 q338 dX9_refuses_35 rfl (by decide) (by decide) ?_
      refine n_aload_n hC dX9_refuses_38 rfl ?_
      refine g_getA hC gW_X9 1 q336 dX9_refuses_39 rfl (by decide) (by decide) ?_
      refine n_iload hC dX9_refuses_42 rfl ?_
      refine g_aldN hC gW_X9 1 (v := nI (mA R 1 ((s / 10 + 1) % n))) dX9_refuses_44 rfl gI_X9_1 (by have h9 : gL shX9 1 = 9 := rfl; omega) haq.1 ?_
      refine g_aldN hC gW_X9 2 (v := R 2 (mA R 1 ((s / 10 + 1) % n))) dX9_refuses_45 rfl gI_X9_2 (by have h9 : gL shX9 2 = 9 := rfl; omega) rfl ?_
      refine n_iconst hC (v := nI 1) dX9_refuses_46 (by decide) ?_
      refine n_icmp_lt hC (tgt := 70) dX9_refuses_47 (by decide) (fun c_47 => ?_) (fun c_47 => ?_)
      · skip
        refine n_iconst hC (v := nI 1) dX9_refuses_70 (by decide) ?_
        refine n_goto hC (tgt := 75) dX9_refuses_71 (by decide) ?_
        refine n_istore hC dX9_refuses_75 (Nat.le_of_ble_eq_true rfl) ?_
        refine n_iload hC dX9_refuses_77 rfl ?_
        refine n_if_eqN hC (tgt := 87) dX9_refuses_79 (by decide) (by omega) (fun c_79 => absurd c_79 (by decide)) (fun c_79 => ?_)
        refine n_bipush hC (v := (-3)) dX9_refuses_82 (by decide) ?_
        refine n_goto hC (tgt := 103) dX9_refuses_84 (by decide) ?_
        exact n_iret hC dX9_refuses_103 (by decide) (by decide) (⟨by rw [hS]; unfold rfP; simp only [c_24, if_true, if_false]; exact if_pos (Or.inl c_47), rfl, rfl⟩)
      · skip
        refine n_aload_n hC dX9_refuses_50 rfl ?_
        refine g_getA hC gW_X9 2 q338 dX9_refuses_51 rfl (by decide) (by decide) ?_
        refine n_aload_n hC dX9_refuses_54 rfl ?_
        refine g_getA hC gW_X9 1 q336 dX9_refuses_55 rfl (by decide) (by decide) ?_
        refine n_iload_n hC dX9_refuses_58 rfl ?_
        refine n_iload_n hC dX9_refuses_59 rfl ?_
        refine n_iaddN hC dX9_refuses_60 rfl ?_
        refine n_iload hC dX9_refuses_61 rfl ?_
        refine n_isubN hC dX9_refuses_63 (by omega) rfl ?_
        rw [show nI ((s / 10 + ((s / 10 + 1) % n)) - ((s / 10 + 1) % n)) = nI (s / 10) from (by rw [show s / 10 + (s / 10 + 1) % n - ((s / 10 + 1) % n) = s / 10 by omega])]
        refine g_aldN hC gW_X9 1 (v := nI (mA R 1 (s / 10))) dX9_refuses_64 rfl gI_X9_1 (by have h9 : gL shX9 1 = 9 := rfl; omega) hap.1 ?_
        refine g_aldN hC gW_X9 2 (v := R 2 (mA R 1 (s / 10))) dX9_refuses_65 rfl gI_X9_2 (by have h9 : gL shX9 2 = 9 := rfl; omega) rfl ?_
        refine n_iconst hC (v := nI 2) dX9_refuses_66 (by decide) ?_
        refine n_icmp_ge hC (tgt := 74) dX9_refuses_67 (by decide) (fun c_67 => ?_) (fun c_67 => ?_)
        · skip
          have c_67 := Int32.not_lt.mpr c_67
          refine n_iconst hC (v := nI 0) dX9_refuses_74 (by decide) ?_
          refine n_istore hC dX9_refuses_75 (Nat.le_of_ble_eq_true rfl) ?_
          refine n_iload hC dX9_refuses_77 rfl ?_
          refine n_if_eqN hC (tgt := 87) dX9_refuses_79 (by decide) (by omega) (fun c_79 => ?_) (fun c_79 => absurd c_79 (by decide))
          refine n_aload_n hC dX9_refuses_87 rfl ?_
          refine g_getI hC gW_X9 7 (v := nI (mN R 7)) q347 dX9_refuses_88 rfl (by decide) (by decide) hd ?_
          refine n_sipush hC (v := nI 300) dX9_refuses_91 (by decide) ?_
          refine n_icmp_neN hC (tgt := 102) dX9_refuses_94 (by decide) (by omega) (by omega) (fun c_94 => ?_) (fun c_94 => ?_)
          · skip
            refine n_iconst hC (v := nI 0) dX9_refuses_102 (by decide) ?_
            exact n_iret hC dX9_refuses_103 (by decide) (by decide) (⟨by rw [hS]; unfold rfP; simp only [c_24, if_true, if_false]; rw [if_neg (by rintro (z | z); exact c_47 z; exact c_67 z)]; exact if_neg c_94, rfl, rfl⟩)
          · skip
            refine n_bipush hC (v := (-4)) dX9_refuses_97 (by decide) ?_
            refine n_goto hC (tgt := 103) dX9_refuses_99 (by decide) ?_
            exact n_iret hC dX9_refuses_103 (by decide) (by decide) (⟨by rw [hS]; unfold rfP; simp only [c_24, if_true, if_false]; rw [if_neg (by rintro (z | z); exact c_47 z; exact c_67 z)]; exact if_pos c_94, rfl, rfl⟩)
        · skip
          have c_67 := Int32.not_le.mp c_67
          refine n_iconst hC (v := nI 1) dX9_refuses_70 (by decide) ?_
          refine n_goto hC (tgt := 75) dX9_refuses_71 (by decide) ?_
          refine n_istore hC dX9_refuses_75 (Nat.le_of_ble_eq_true rfl) ?_
          refine n_iload hC dX9_refuses_77 rfl ?_
          refine n_if_eqN hC (tgt := 87) dX9_refuses_79 (by decide) (by omega) (fun c_79 => absurd c_79 (by decide)) (fun c_79 => ?_)
          refine n_bipush hC (v := (-3)) dX9_refuses_82 (by decide) ?_
          refine n_goto hC (tgt := 103) dX9_refuses_84 (by decide) ?_
          exact n_iret hC dX9_refuses_103 (by decide) (by decide) (⟨by rw [hS]; unfold rfP; simp only [c_24, if_true, if_false]; exact if_pos (Or.inr c_67), rfl, rfl⟩)
    · skip
      refine n_iload_n hC dX9_refuses_27 rfl ?_
      refine n_goto hC (tgt := 32) dX9_refuses_28 (by decide) ?_
      refine n_istore hC dX9_refuses_32 (Nat.le_of_ble_eq_true rfl) ?_
      refine n_aload_n hC dX9_refuses_34 rfl ?_
      refine g_getA hC gW_X9 2 q338 dX9_refuses_35 rfl (by decide) (by decide) ?_
      refine n_aload_n hC dX9_refuses_38 rfl ?_
      refine g_getA hC gW_X9 1 q336 dX9_refuses_39 rfl (by decide) (by decide) ?_
      refine n_iload hC dX9_refuses_42 rfl ?_
      refine g_aldN hC gW_X9 1 (v := nI (mA R 1 (s / 10))) dX9_refuses_44 rfl gI_X9_1 (by have h9 : gL shX9 1 = 9 := rfl; omega) hap.1 ?_
      refine g_aldN hC gW_X9 2 (v := R 2 (mA R 1 (s / 10))) dX9_refuses_45 rfl gI_X9_2 (by have h9 : gL shX9 2 = 9 := rfl; omega) rfl ?_
      refine n_iconst hC (v := nI 1) dX9_refuses_46 (by decide) ?_
      refine n_icmp_lt hC (tgt := 70) dX9_refuses_47 (by decide) (fun c_47 => ?_) (fun c_47 => ?_)
      · skip
        refine n_iconst hC (v := nI 1) dX9_refuses_70 (by decide) ?_
        refine n_goto hC (tgt := 75) dX9_refuses_71 (by decide) ?_
        refine n_istore hC dX9_refuses_75 (Nat.le_of_ble_eq_true rfl) ?_
        refine n_iload hC dX9_refuses_77 rfl ?_
        refine n_if_eqN hC (tgt := 87) dX9_refuses_79 (by decide) (by omega) (fun c_79 => absurd c_79 (by decide)) (fun c_79 => ?_)
        refine n_bipush hC (v := (-3)) dX9_refuses_82 (by decide) ?_
        refine n_goto hC (tgt := 103) dX9_refuses_84 (by decide) ?_
        exact n_iret hC dX9_refuses_103 (by decide) (by decide) (⟨by rw [hS]; unfold rfP; simp only [c_24, if_true, if_false]; exact if_pos (Or.inl c_47), rfl, rfl⟩)
      · skip
        refine n_aload_n hC dX9_refuses_50 rfl ?_
        refine g_getA hC gW_X9 2 q338 dX9_refuses_51 rfl (by decide) (by decide) ?_
        refine n_aload_n hC dX9_refuses_54 rfl ?_
        refine g_getA hC gW_X9 1 q336 dX9_refuses_55 rfl (by decide) (by decide) ?_
        refine n_iload_n hC dX9_refuses_58 rfl ?_
        refine n_iload_n hC dX9_refuses_59 rfl ?_
        refine n_iaddN hC dX9_refuses_60 rfl ?_
        refine n_iload hC dX9_refuses_61 rfl ?_
        refine n_isubN hC dX9_refuses_63 (by omega) rfl ?_
        rw [show nI ((s / 10 + ((s / 10 + 1) % n)) - (s / 10)) = nI ((s / 10 + 1) % n) from (by rw [show s / 10 + (s / 10 + 1) % n - (s / 10) = (s / 10 + 1) % n by omega])]
        refine g_aldN hC gW_X9 1 (v := nI (mA R 1 ((s / 10 + 1) % n))) dX9_refuses_64 rfl gI_X9_1 (by have h9 : gL shX9 1 = 9 := rfl; omega) haq.1 ?_
        refine g_aldN hC gW_X9 2 (v := R 2 (mA R 1 ((s / 10 + 1) % n))) dX9_refuses_65 rfl gI_X9_2 (by have h9 : gL shX9 2 = 9 := rfl; omega) rfl ?_
        refine n_iconst hC (v := nI 2) dX9_refuses_66 (by decide) ?_
        refine n_icmp_ge hC (tgt := 74) dX9_refuses_67 (by decide) (fun c_67 => ?_) (fun c_67 => ?_)
        · skip
          have c_67 := Int32.not_lt.mpr c_67
          refine n_iconst hC (v := nI 0) dX9_refuses_74 (by decide) ?_
          refine n_istore hC dX9_refuses_75 (Nat.le_of_ble_eq_true rfl) ?_
          refine n_iload hC dX9_refuses_77 rfl ?_
          refine n_if_eqN hC (tgt := 87) dX9_refuses_79 (by decide) (by omega) (fun c_79 => ?_) (fun c_79 => absurd c_79 (by decide))
          refine n_aload_n hC dX9_refuses_87 rfl ?_
          refine g_getI hC gW_X9 7 (v := nI (mN R 7)) q347 dX9_refuses_88 rfl (by decide) (by decide) hd ?_
          refine n_sipush hC (v := nI 300) dX9_refuses_91 (by decide) ?_
          refine n_icmp_neN hC (tgt := 102) dX9_refuses_94 (by decide) (by omega) (by omega) (fun c_94 => ?_) (fun c_94 => ?_)
          · skip
            refine n_iconst hC (v := nI 0) dX9_refuses_102 (by decide) ?_
            exact n_iret hC dX9_refuses_103 (by decide) (by decide) (⟨by rw [hS]; unfold rfP; simp only [c_24, if_true, if_false]; rw [if_neg (by rintro (z | z); exact c_47 z; exact c_67 z)]; exact if_neg c_94, rfl, rfl⟩)
          · skip
            refine n_bipush hC (v := (-4)) dX9_refuses_97 (by decide) ?_
            refine n_goto hC (tgt := 103) dX9_refuses_99 (by decide) ?_
            exact n_iret hC dX9_refuses_103 (by decide) (by decide) (⟨by rw [hS]; unfold rfP; simp only [c_24, if_true, if_false]; rw [if_neg (by rintro (z | z); exact c_47 z; exact c_67 z)]; exact if_pos c_94, rfl, rfl⟩)
        · skip
          have c_67 := Int32.not_le.mp c_67
          refine n_iconst hC (v := nI 1) dX9_refuses_70 (by decide) ?_
          refine n_goto hC (tgt := 75) dX9_refuses_71 (by decide) ?_
          refine n_istore hC dX9_refuses_75 (Nat.le_of_ble_eq_true rfl) ?_
          refine n_iload hC dX9_refuses_77 rfl ?_
          refine n_if_eqN hC (tgt := 87) dX9_refuses_79 (by decide) (by omega) (fun c_79 => absurd c_79 (by decide)) (fun c_79 => ?_)
          refine n_bipush hC (v := (-3)) dX9_refuses_82 (by decide) ?_
          refine n_goto hC (tgt := 103) dX9_refuses_84 (by decide) ?_
          exact n_iret hC dX9_refuses_103 (by decide) (by decide) (⟨by rw [hS]; unfold rfP; simp only [c_24, if_true, if_false]; exact if_pos (Or.inr c_67), rfl, rfl⟩)

def rdPass (R : nMem) (n p how : Nat) : nMem :=
  let q := (p + 1) % n
  let l1 := upd (R 2) (mA R 1 p) (R 2 (mA R 1 p) - (if how = 0 then nI 1 else nI 2))
  mset (mset (mset R 2 (upd l1 (mA R 1 q) (l1 (mA R 1 q) - (if how = 0 then nI 2 else nI 1)))) 1 (swp (R 1) p q)) 3 (upd (R 3) p (nI (1 + how)))
set_option maxHeartbeats 4000000 in
set_option maxRecDepth 100000 in
theorem ct_X9_passes (b : Nat) (na : nA) (h : nH) (R : nMem) {n : Nat} (hn : R 0 0 = nI n) (hn3 : 3 ≤ n) (hn9 : n ≤ 9) (hA : rdA R n) {p how : Nat} (hp : p < n) (hh : how ≤ 1) : nM yX9_passes cX9_passes 6 (none) (nRm 0 0 0) [.ref (na (b + 9)), .int (nI p), .int (nI how)] na (gPut shX9 b na h R) (nQv (gRelV shX9 b na h (fun R2 => R2 = rdPass R n p how))) 0 0 := by
  refine nM.ofN RX9 rfl (by decide) (by intro v hv; simp only [List.mem_cons, List.not_mem_nil, or_false] at hv; rcases hv with rfl | rfl | rfl <;> rfl) (Nat.le_of_ble_eq_true rfl) (fun K hC hnm => ?_)
  show WN K na (gPut shX9 b na h R) 0 0 (nE K (nQv (gRelV shX9 b na h (fun R2 => R2 = rdPass R n p how))) 0 0) 0 [some (.ref (na (b + 9))), some (.int (nI p)), some (.int (nI how)), none, none, none] []
  let Q9 : State → Prop := nE K (nQv (gRelV shX9 b na h (fun R2 => R2 = rdPass R n p how))) 0 0
  show WN K na (gPut shX9 b na h R) 0 0 Q9 0 [some (.ref (na (b + 9))), some (.int (nI p)), some (.int (nI how)), none, none, none] []
  have hq : (p + 1) % n < n := Nat.mod_lt _ (by omega)
  have hap := hA _ hp
  have haq := hA _ hq
  have hap2 := hap.2
  have haq2 := haq.2
  rcases (show how = 0 ∨ how = 1 by omega) with e9 | e9
  · skip
    subst e9
    refine n_iload_n hC dX9_passes_0 rfl ?_
    refine n_iconst hC (v := nI 1) dX9_passes_1 (by decide) ?_
    refine n_iaddN hC dX9_passes_2 rfl ?_
    refine n_aload_n hC dX9_passes_3 rfl ?_
    refine g_getI hC gW_X9 0 (v := nI n) q334 dX9_passes_4 rfl (by decide) (by decide) hn ?_
    refine n_iremN hC dX9_passes_7 (by omega) (by omega) (by omega) rfl ?_
    refine n_istore_n hC dX9_passes_8 (Nat.le_of_ble_eq_true rfl) ?_
    refine n_aload_n hC dX9_passes_9 rfl ?_
    refine g_getA hC gW_X9 1 q336 dX9_passes_10 rfl (by decide) (by decide) ?_
    refine n_iload_n hC dX9_passes_13 rfl ?_
    refine g_aldN hC gW_X9 1 (v := nI (mA R 1 p)) dX9_passes_14 rfl gI_X9_1 (by have h9 : gL shX9 1 = 9 := rfl; omega) hap.1 ?_
    refine n_istore hC dX9_passes_15 (Nat.le_of_ble_eq_true rfl) ?_
    refine n_aload_n hC dX9_passes_17 rfl ?_
    refine g_getA hC gW_X9 1 q336 dX9_passes_18 rfl (by decide) (by decide) ?_
    refine n_iload_n hC dX9_passes_21 rfl ?_
    refine g_aldN hC gW_X9 1 (v := nI (mA R 1 ((p + 1) % n))) dX9_passes_22 rfl gI_X9_1 (by have h9 : gL shX9 1 = 9 := rfl; omega) haq.1 ?_
    refine n_istore hC dX9_passes_23 (Nat.le_of_ble_eq_true rfl) ?_
    refine n_aload_n hC dX9_passes_25 rfl ?_
    refine g_getA hC gW_X9 2 q338 dX9_passes_26 rfl (by decide) (by decide) ?_
    refine n_iload hC dX9_passes_29 rfl ?_
    refine n_dup2 hC dX9_passes_31 rfl rfl ?_
    refine g_aldN hC gW_X9 2 (v := R 2 (mA R 1 p)) dX9_passes_32 rfl gI_X9_2 (by have h9 : gL shX9 2 = 9 := rfl; omega) rfl ?_
    refine n_iload_n hC dX9_passes_33 rfl ?_
    refine n_if_neN hC (tgt := 41) dX9_passes_34 (by decide) (by omega) (fun c_34 => absurd c_34 (by decide)) (fun c_34 => ?_)
    refine n_iconst hC (v := nI 1) dX9_passes_37 (by decide) ?_
    refine n_goto hC (tgt := 42) dX9_passes_38 (by decide) ?_
    refine n_isub hC dX9_passes_42 ?_
    refine g_astN hC gW_X9 2 (R2 := mset R 2 (upd (R 2) (mA R 1 p) ((R 2 (mA R 1 p)) - (nI 1)))) dX9_passes_43 rfl gI_X9_2 (by have h9 : gL shX9 2 = 9 := rfl; omega) rfl ?_
    refine n_aload_n hC dX9_passes_44 rfl ?_
    refine g_getA hC gW_X9 2 q338 dX9_passes_45 rfl (by decide) (by decide) ?_
    refine n_iload hC dX9_passes_48 rfl ?_
    refine n_dup2 hC dX9_passes_50 rfl rfl ?_
    refine g_aldN hC gW_X9 2 (v := (upd (R 2) (mA R 1 p) ((R 2 (mA R 1 p)) - (nI 1))) (mA R 1 ((p + 1) % n))) dX9_passes_51 rfl gI_X9_2 (by have h9 : gL shX9 2 = 9 := rfl; omega) rfl ?_
    refine n_iload_n hC dX9_passes_52 rfl ?_
    refine n_if_neN hC (tgt := 60) dX9_passes_53 (by decide) (by omega) (fun c_53 => absurd c_53 (by decide)) (fun c_53 => ?_)
    refine n_iconst hC (v := nI 2) dX9_passes_56 (by decide) ?_
    refine n_goto hC (tgt := 61) dX9_passes_57 (by decide) ?_
    refine n_isub hC dX9_passes_61 ?_
    refine g_astN hC gW_X9 2 (R2 := mset R 2 (upd (upd (R 2) (mA R 1 p) ((R 2 (mA R 1 p)) - (nI 1))) (mA R 1 ((p + 1) % n)) (((upd (R 2) (mA R 1 p) ((R 2 (mA R 1 p)) - (nI 1))) (mA R 1 ((p + 1) % n))) - (nI 2)))) dX9_passes_62 rfl gI_X9_2 (by have h9 : gL shX9 2 = 9 := rfl; omega) (mset_ss _ _ _ _) ?_
    refine n_aload_n hC dX9_passes_63 rfl ?_
    refine g_getA hC gW_X9 1 q336 dX9_passes_64 rfl (by decide) (by decide) ?_
    refine n_iload_n hC dX9_passes_67 rfl ?_
    refine n_iload hC dX9_passes_68 rfl ?_
    refine g_astN hC gW_X9 1 (R2 := mset (mset R 2 (upd (upd (R 2) (mA R 1 p) ((R 2 (mA R 1 p)) - (nI 1))) (mA R 1 ((p + 1) % n)) (((upd (R 2) (mA R 1 p) ((R 2 (mA R 1 p)) - (nI 1))) (mA R 1 ((p + 1) % n))) - (nI 2)))) 1 (upd (R 1) p (R 1 ((p + 1) % n)))) dX9_passes_70 rfl gI_X9_1 (by have h9 : gL shX9 1 = 9 := rfl; omega) (by rw [haq.1]; rfl) ?_
    refine n_aload_n hC dX9_passes_71 rfl ?_
    refine g_getA hC gW_X9 1 q336 dX9_passes_72 rfl (by decide) (by decide) ?_
    refine n_iload_n hC dX9_passes_75 rfl ?_
    refine n_iload hC dX9_passes_76 rfl ?_
    refine g_astN hC gW_X9 1 (R2 := mset (mset R 2 (upd (upd (R 2) (mA R 1 p) ((R 2 (mA R 1 p)) - (nI 1))) (mA R 1 ((p + 1) % n)) (((upd (R 2) (mA R 1 p) ((R 2 (mA R 1 p)) - (nI 1))) (mA R 1 ((p + 1) % n))) - (nI 2)))) 1 (swp (R 1) p ((p + 1) % n))) dX9_passes_78 rfl gI_X9_1 (by have h9 : gL shX9 1 = 9 := rfl; omega) (by rw [mset_s, mset_ss]; unfold swp; rw [hap.1, haq.1]) ?_
    refine n_aload_n hC dX9_passes_79 rfl ?_
    refine g_getA hC gW_X9 3 q340 dX9_passes_80 rfl (by decide) (by decide) ?_
    refine n_iload_n hC dX9_passes_83 rfl ?_
    refine n_iconst hC (v := nI 1) dX9_passes_84 (by decide) ?_
    refine n_iload_n hC dX9_passes_85 rfl ?_
    refine n_iaddN hC dX9_passes_86 rfl ?_
    refine g_astN hC gW_X9 3 (R2 := mset (mset (mset R 2 (upd (upd (R 2) (mA R 1 p) ((R 2 (mA R 1 p)) - (nI 1))) (mA R 1 ((p + 1) % n)) (((upd (R 2) (mA R 1 p) ((R 2 (mA R 1 p)) - (nI 1))) (mA R 1 ((p + 1) % n))) - (nI 2)))) 1 (swp (R 1) p ((p + 1) % n))) 3 (upd (R 3) p (nI (1 + 0)))) dX9_passes_87 rfl gI_X9_3 (by have h9 : gL shX9 3 = 9 := rfl; omega) rfl ?_
    exact n_vret hC dX9_passes_88 (by decide) (by decide) (⟨rfl, _, rfl, rfl⟩)
  · skip
    subst e9
    refine n_iload_n hC dX9_passes_0 rfl ?_
    refine n_iconst hC (v := nI 1) dX9_passes_1 (by decide) ?_
    refine n_iaddN hC dX9_passes_2 rfl ?_
    refine n_aload_n hC dX9_passes_3 rfl ?_
    refine g_getI hC gW_X9 0 (v := nI n) q334 dX9_passes_4 rfl (by decide) (by decide) hn ?_
    refine n_iremN hC dX9_passes_7 (by omega) (by omega) (by omega) rfl ?_
    refine n_istore_n hC dX9_passes_8 (Nat.le_of_ble_eq_true rfl) ?_
    refine n_aload_n hC dX9_passes_9 rfl ?_
    refine g_getA hC gW_X9 1 q336 dX9_passes_10 rfl (by decide) (by decide) ?_
    refine n_iload_n hC dX9_passes_13 rfl ?_
    refine g_aldN hC gW_X9 1 (v := nI (mA R 1 p)) dX9_passes_14 rfl gI_X9_1 (by have h9 : gL shX9 1 = 9 := rfl; omega) hap.1 ?_
    refine n_istore hC dX9_passes_15 (Nat.le_of_ble_eq_true rfl) ?_
    refine n_aload_n hC dX9_passes_17 rfl ?_
    refine g_getA hC gW_X9 1 q336 dX9_passes_18 rfl (by decide) (by decide) ?_
    refine n_iload_n hC dX9_passes_21 rfl ?_
    refine g_aldN hC gW_X9 1 (v := nI (mA R 1 ((p + 1) % n))) dX9_passes_22 rfl gI_X9_1 (by have h9 : gL shX9 1 = 9 := rfl; omega) haq.1 ?_
    refine n_istore hC dX9_passes_23 (Nat.le_of_ble_eq_true rfl) ?_
    refine n_aload_n hC dX9_passes_25 rfl ?_
    refine g_getA hC gW_X9 2 q338 dX9_passes_26 rfl (by decide) (by decide) ?_
    refine n_iload hC dX9_passes_29 rfl ?_
    refine n_dup2 hC dX9_passes_31 rfl rfl ?_
    refine g_aldN hC gW_X9 2 (v := R 2 (mA R 1 p)) dX9_passes_32 rfl gI_X9_2 (by have h9 : gL shX9 2 = 9 := rfl; omega) rfl ?_
    refine n_iload_n hC dX9_passes_33 rfl ?_
    refine n_if_neN hC (tgt := 41) dX9_passes_34 (by decide) (by omega) (fun c_34 => ?_) (fun c_34 => absurd c_34 (by decide))
    refine n_iconst hC (v := nI 2) dX9_passes_41 (by decide) ?_
    refine n_isub hC dX9_passes_42 ?_
    refine g_astN hC gW_X9 2 (R2 := mset R 2 (upd (R 2) (mA R 1 p) ((R 2 (mA R 1 p)) - (nI 2)))) dX9_passes_43 rfl gI_X9_2 (by have h9 : gL shX9 2 = 9 := rfl; omega) rfl ?_
    refine n_aload_n hC dX9_passes_44 rfl ?_
    refine g_getA hC gW_X9 2 q338 dX9_passes_45 rfl (by decide) (by decide) ?_
    refine n_iload hC dX9_passes_48 rfl ?_
    refine n_dup2 hC dX9_passes_50 rfl rfl ?_
    refine g_aldN hC gW_X9 2 (v := (upd (R 2) (mA R 1 p) ((R 2 (mA R 1 p)) - (nI 2))) (mA R 1 ((p + 1) % n))) dX9_passes_51 rfl gI_X9_2 (by have h9 : gL shX9 2 = 9 := rfl; omega) rfl ?_
    refine n_iload_n hC dX9_passes_52 rfl ?_
    refine n_if_neN hC (tgt := 60) dX9_passes_53 (by decide) (by omega) (fun c_53 => ?_) (fun c_53 => absurd c_53 (by decide))
    refine n_iconst hC (v := nI 1) dX9_passes_60 (by decide) ?_
    refine n_isub hC dX9_passes_61 ?_
    refine g_astN hC gW_X9 2 (R2 := mset R 2 (upd (upd (R 2) (mA R 1 p) ((R 2 (mA R 1 p)) - (nI 2))) (mA R 1 ((p + 1) % n)) (((upd (R 2) (mA R 1 p) ((R 2 (mA R 1 p)) - (nI 2))) (mA R 1 ((p + 1) % n))) - (nI 1)))) dX9_passes_62 rfl gI_X9_2 (by have h9 : gL shX9 2 = 9 := rfl; omega) (mset_ss _ _ _ _) ?_
    refine n_aload_n hC dX9_passes_63 rfl ?_
    refine g_getA hC gW_X9 1 q336 dX9_passes_64 rfl (by decide) (by decide) ?_
    refine n_iload_n hC dX9_passes_67 rfl ?_
    refine n_iload hC dX9_passes_68 rfl ?_
    refine g_astN hC gW_X9 1 (R2 := mset (mset R 2 (upd (upd (R 2) (mA R 1 p) ((R 2 (mA R 1 p)) - (nI 2))) (mA R 1 ((p + 1) % n)) (((upd (R 2) (mA R 1 p) ((R 2 (mA R 1 p)) - (nI 2))) (mA R 1 ((p + 1) % n))) - (nI 1)))) 1 (upd (R 1) p (R 1 ((p + 1) % n)))) dX9_passes_70 rfl gI_X9_1 (by have h9 : gL shX9 1 = 9 := rfl; omega) (by rw [haq.1]; rfl) ?_
    refine n_aload_n hC dX9_passes_71 rfl ?_
    refine g_getA hC gW_X9 1 q336 dX9_passes_72 rfl (by decide) (by decide) ?_
    refine n_iload_n hC dX9_passes_75 rfl ?_
    refine n_iload hC dX9_passes_76 rfl ?_
    refine g_astN hC gW_X9 1 (R2 := mset (mset R 2 (upd (upd (R 2) (mA R 1 p) ((R 2 (mA R 1 p)) - (nI 2))) (mA R 1 ((p + 1) % n)) (((upd (R 2) (mA R 1 p) ((R 2 (mA R 1 p)) - (nI 2))) (mA R 1 ((p + 1) % n))) - (nI 1)))) 1 (swp (R 1) p ((p + 1) % n))) dX9_passes_78 rfl gI_X9_1 (by have h9 : gL shX9 1 = 9 := rfl; omega) (by rw [mset_s, mset_ss]; unfold swp; rw [hap.1, haq.1]) ?_
    refine n_aload_n hC dX9_passes_79 rfl ?_
    refine g_getA hC gW_X9 3 q340 dX9_passes_80 rfl (by decide) (by decide) ?_
    refine n_iload_n hC dX9_passes_83 rfl ?_
    refine n_iconst hC (v := nI 1) dX9_passes_84 (by decide) ?_
    refine n_iload_n hC dX9_passes_85 rfl ?_
    refine n_iaddN hC dX9_passes_86 rfl ?_
    refine g_astN hC gW_X9 3 (R2 := mset (mset (mset R 2 (upd (upd (R 2) (mA R 1 p) ((R 2 (mA R 1 p)) - (nI 2))) (mA R 1 ((p + 1) % n)) (((upd (R 2) (mA R 1 p) ((R 2 (mA R 1 p)) - (nI 2))) (mA R 1 ((p + 1) % n))) - (nI 1)))) 1 (swp (R 1) p ((p + 1) % n))) 3 (upd (R 3) p (nI (1 + 1)))) dX9_passes_87 rfl gI_X9_3 (by have h9 : gL shX9 3 = 9 := rfl; omega) rfl ?_
    exact n_vret hC dX9_passes_88 (by decide) (by decide) (⟨rfl, _, rfl, rfl⟩)

def rdTop (R : nMem) (n i p : Nat) : Int32 := if R (120 + i) p = nI 1 ∧ R (120 + i) ((p + (n - 1)) % n) ≠ nI 2 then R (20 + i) ((p + 1) % n) else R (20 + i) p
set_option maxHeartbeats 4000000 in
set_option maxRecDepth 100000 in
theorem ct_X9_top (b : Nat) (na : nA) (h : nH) (R : nMem) {n : Nat} (hn : R 0 0 = nI n) (hn3 : 3 ≤ n) (hn9 : n ≤ 9) {i p : Nat} (hi : i < 100) (hp : p < n) : nM yX9_top cX9_top 4 (some .int) (nRm 0 0 0) [.ref (na (b + 9)), .int (nI i), .int (nI p)] na (gPut shX9 b na h R) (nQi (gPure shX9 b na h R (rdTop R n i p))) 0 0 := by
  refine nM.ofN RX9 rfl (by decide) (by intro v hv; simp only [List.mem_cons, List.not_mem_nil, or_false] at hv; rcases hv with rfl | rfl | rfl <;> rfl) (Nat.le_of_ble_eq_true rfl) (fun K hC hnm => ?_)
  show WN K na (gPut shX9 b na h R) 0 0 (nE K (nQi (gPure shX9 b na h R (rdTop R n i p))) 0 0) 0 [some (.ref (na (b + 9))), some (.int (nI i)), some (.int (nI p)), none] []
  let Q9 : State → Prop := nE K (nQi (gPure shX9 b na h R (rdTop R n i p))) 0 0
  show WN K na (gPut shX9 b na h R) 0 0 Q9 0 [some (.ref (na (b + 9))), some (.int (nI i)), some (.int (nI p)), none] []
  have hq : (p + 1) % n < n := Nat.mod_lt _ (by omega)
  have hq2 : (p + (n - 1)) % n < n := Nat.mod_lt _ (by omega)
  refine n_aload_n hC dX9_top_0 rfl ?_
  refine g_getA hC gW_X9 5 q343 dX9_top_1 rfl (by decide) (by decide) ?_
  refine n_iload_n hC dX9_top_4 rfl ?_
  refine g_rowN hC 5 120 dX9_top_5 rfl (by decide) (Or.inr ⟨rfl, rfl⟩) (by omega) ?_
  refine n_iload_n hC dX9_top_6 rfl ?_
  refine g_aldN hC gW_X9 (120 + i) (v := R (120 + i) p) dX9_top_7 rfl (gI_X9_r (by omega)) (by rw [gL_X9_r (by omega)]; omega) rfl ?_
  refine n_iconst hC (v := nI 1) dX9_top_8 (by decide) ?_
  refine n_icmp_ne hC (tgt := 40) dX9_top_9 (by decide) (fun c_9 => ?_) (fun c_9 => ?_)
  · skip
    refine n_iconst hC (v := nI 0) dX9_top_40 (by decide) ?_
    refine n_istore_n hC dX9_top_41 (Nat.le_of_ble_eq_true rfl) ?_
    refine n_aload_n hC dX9_top_42 rfl ?_
    refine g_getA hC gW_X9 4 q341 dX9_top_43 rfl (by decide) (by decide) ?_
    refine n_iload_n hC dX9_top_46 rfl ?_
    refine g_rowN hC 4 20 dX9_top_47 rfl (by decide) (Or.inl ⟨rfl, rfl⟩) (by omega) ?_
    refine n_iload_n hC dX9_top_48 rfl ?_
    refine n_if_eqN hC (tgt := 63) dX9_top_49 (by decide) (by omega) (fun c_49 => ?_) (fun c_49 => absurd c_49 (by decide))
    refine n_iload_n hC dX9_top_63 rfl ?_
    refine g_aldN hC gW_X9 (20 + i) (v := R (20 + i) p) dX9_top_64 rfl (gI_X9_r (by omega)) (by rw [gL_X9_r (by omega)]; omega) rfl ?_
    exact n_iret hC dX9_top_65 (by decide) (by decide) (⟨by unfold rdTop; exact if_neg (fun z => c_9 z.1), rfl, rfl⟩)
  · skip
    refine n_aload_n hC dX9_top_12 rfl ?_
    refine g_getA hC gW_X9 5 q343 dX9_top_13 rfl (by decide) (by decide) ?_
    refine n_iload_n hC dX9_top_16 rfl ?_
    refine g_rowN hC 5 120 dX9_top_17 rfl (by decide) (Or.inr ⟨rfl, rfl⟩) (by omega) ?_
    refine n_iload_n hC dX9_top_18 rfl ?_
    refine n_aload_n hC dX9_top_19 rfl ?_
    refine g_getI hC gW_X9 0 (v := nI n) q334 dX9_top_20 rfl (by decide) (by decide) hn ?_
    refine n_iaddN hC dX9_top_23 rfl ?_
    refine n_iconst hC (v := nI 1) dX9_top_24 (by decide) ?_
    refine n_isubN hC dX9_top_25 (by omega) rfl ?_
    rw [show nI ((p + n) - 1) = nI (p + (n - 1)) from (by rw [show p + n - 1 = p + (n - 1) by omega])]
    refine n_aload_n hC dX9_top_26 rfl ?_
    refine g_getI hC gW_X9 0 (v := nI n) q334 dX9_top_27 rfl (by decide) (by decide) hn ?_
    refine n_iremN hC dX9_top_30 (by omega) (by omega) (by omega) rfl ?_
    refine g_aldN hC gW_X9 (120 + i) (v := R (120 + i) ((p + (n - 1)) % n)) dX9_top_31 rfl (gI_X9_r (by omega)) (by rw [gL_X9_r (by omega)]; omega) rfl ?_
    refine n_iconst hC (v := nI 2) dX9_top_32 (by decide) ?_
    refine n_icmp_eq hC (tgt := 40) dX9_top_33 (by decide) (fun c_33 => ?_) (fun c_33 => ?_)
    · skip
      refine n_iconst hC (v := nI 0) dX9_top_40 (by decide) ?_
      refine n_istore_n hC dX9_top_41 (Nat.le_of_ble_eq_true rfl) ?_
      refine n_aload_n hC dX9_top_42 rfl ?_
      refine g_getA hC gW_X9 4 q341 dX9_top_43 rfl (by decide) (by decide) ?_
      refine n_iload_n hC dX9_top_46 rfl ?_
      refine g_rowN hC 4 20 dX9_top_47 rfl (by decide) (Or.inl ⟨rfl, rfl⟩) (by omega) ?_
      refine n_iload_n hC dX9_top_48 rfl ?_
      refine n_if_eqN hC (tgt := 63) dX9_top_49 (by decide) (by omega) (fun c_49 => ?_) (fun c_49 => absurd c_49 (by decide))
      refine n_iload_n hC dX9_top_63 rfl ?_
      refine g_aldN hC gW_X9 (20 + i) (v := R (20 + i) p) dX9_top_64 rfl (gI_X9_r (by omega)) (by rw [gL_X9_r (by omega)]; omega) rfl ?_
      exact n_iret hC dX9_top_65 (by decide) (by decide) (⟨by unfold rdTop; exact if_neg (fun z => z.2 c_33), rfl, rfl⟩)
    · skip
      refine n_iconst hC (v := nI 1) dX9_top_36 (by decide) ?_
      refine n_goto hC (tgt := 41) dX9_top_37 (by decide) ?_
      refine n_istore_n hC dX9_top_41 (Nat.le_of_ble_eq_true rfl) ?_
      refine n_aload_n hC dX9_top_42 rfl ?_
      refine g_getA hC gW_X9 4 q341 dX9_top_43 rfl (by decide) (by decide) ?_
      refine n_iload_n hC dX9_top_46 rfl ?_
      refine g_rowN hC 4 20 dX9_top_47 rfl (by decide) (Or.inl ⟨rfl, rfl⟩) (by omega) ?_
      refine n_iload_n hC dX9_top_48 rfl ?_
      refine n_if_eqN hC (tgt := 63) dX9_top_49 (by decide) (by omega) (fun c_49 => absurd c_49 (by decide)) (fun c_49 => ?_)
      refine n_iload_n hC dX9_top_52 rfl ?_
      refine n_iconst hC (v := nI 1) dX9_top_53 (by decide) ?_
      refine n_iaddN hC dX9_top_54 rfl ?_
      refine n_aload_n hC dX9_top_55 rfl ?_
      refine g_getI hC gW_X9 0 (v := nI n) q334 dX9_top_56 rfl (by decide) (by decide) hn ?_
      refine n_iremN hC dX9_top_59 (by omega) (by omega) (by omega) rfl ?_
      refine n_goto hC (tgt := 64) dX9_top_60 (by decide) ?_
      refine g_aldN hC gW_X9 (20 + i) (v := R (20 + i) ((p + 1) % n)) dX9_top_64 rfl (gI_X9_r (by omega)) (by rw [gL_X9_r (by omega)]; omega) rfl ?_
      exact n_iret hC dX9_top_65 (by decide) (by decide) (⟨by unfold rdTop; exact if_pos ⟨c_9, c_33⟩, rfl, rfl⟩)

/-- a round behind a walk -/
def rdWalk (R : nMem) (n how : Nat) (R2 : nMem) : Prop := mFr [1, 2, 3, 6, 20 + mN R 6, 120 + mN R 6] R R2 ∧ (∀ q, q < n → R2 1 q = tur how n (R 1) q) ∧ (∀ q, q < n → R2 2 q = R 2 q - nI (10 + mN R 6 / 3)) ∧ (∀ q, q < n → R2 3 q = nI 0) ∧ R2 6 0 = nI (mN R 6 + 1) ∧
  (∀ q, q < n → R2 (20 + mN R 6) q = tur how n (R 1) q) ∧ ∀ q, q < n → R2 (120 + mN R 6) q = R 3 q
theorem by_trn {how n p : Nat} (hp : p < n) (hh : how ≤ 1) (h3 : 3 ≤ n) : trn how n ((p + (if how = 0 then 1 else n - 1)) % n) = p := by
  rcases (show how = 0 ∨ how = 1 by omega) with rfl | rfl
  · unfold trn
    rw [if_pos rfl, if_pos rfl, mod_w hp]
    split
    · rw [mod_v (by omega), if_pos rfl]; omega
    · rw [mod_v (by omega), if_neg (by omega)]; omega
  · unfold trn
    rw [if_neg (by decide), if_neg (by decide), mod_v hp]
    split
    · rw [mod_w (by omega), if_pos (by omega)]; omega
    · rw [mod_w (by omega), if_neg (by omega)]; omega
theorem trn_by {how n q : Nat} (hq : q < n) (hh : how ≤ 1) (h3 : 3 ≤ n) : (trn how n q + (if how = 0 then 1 else n - 1)) % n = q := by
  have h1 := trn_lt (how := how) hq
  have h2 : (trn how n q + (if how = 0 then 1 else n - 1)) % n < n := Nat.mod_lt _ (by omega)
  exact trn_inj h2 hq (by_trn h1 hh h3)
theorem nI_nneg {n : Nat} (h : n < 2 ^ 31) : ¬ nI n < 0 := by
  rw [Int32.lt_iff_toInt_lt, nI_toInt h, Int32.toInt_zero]
  omega
set_option maxHeartbeats 4000000 in
set_option maxRecDepth 100000 in
theorem ct_X9_walks (b : Nat) (na : nA) (h : nH) (R : nMem) {n : Nat} (hn : R 0 0 = nI n) (hn3 : 3 ≤ n) (hn9 : n ≤ 9) (hr : R 6 0 = nI (mN R 6)) (hr9 : mN R 6 < 100) {how : Nat} (hh : how ≤ 1) : nM yX9_walks cX9_walks 4 (none) (nRm 1 0 0) [.ref (na (b + 9)), .int (nI (if how = 0 then 1 else n - 1))] na (gPut shX9 b na h R) (nQv (gRelV shX9 b na h (rdWalk R n how))) 0 0 := by
  refine nM.ofN RX9 rfl (by decide) (by intro v hv; simp only [List.mem_cons, List.not_mem_nil, or_false] at hv; rcases hv with rfl | rfl <;> rfl) (Nat.le_of_ble_eq_true rfl) (fun K hC hnm => ?_)
  show WN K na (gPut shX9 b na h R) 0 0 (nE K (nQv (gRelV shX9 b na h (rdWalk R n how))) 0 0) 0 [some (.ref (na (b + 9))), some (.int (nI (if how = 0 then 1 else n - 1))), none, none] []
  let Q9 : State → Prop := nE K (nQv (gRelV shX9 b na h (rdWalk R n how))) 0 0
  show WN K na (gPut shX9 b na h R) 0 0 Q9 0 [some (.ref (na (b + 9))), some (.int (nI (if how = 0 then 1 else n - 1))), none, none] []
  have hby : (if how = 0 then 1 else n - 1) < n := by split <;> omega
  refine n_aload_n hC dX9_walks_0 rfl ?_
  refine n_callV0i hC (ct_X9_girth b na h (R) (r := mN R 6) hr (by omega)) md_X9_girth q413 dX9_walks_1 rfl gPut_o rfl rfl ⟨rfl, rfl, by decide, by decide⟩ rfl (Nat.le_of_ble_eq_true rfl) (by decide) (by decide) (fun r0 na0 h0 hp0 => ?_)
  obtain ⟨rfl, rfl, rfl⟩ := hp0
  refine n_istore_n hC dX9_walks_4 (Nat.le_of_ble_eq_true rfl) ?_
  refine n_iconst hC (v := nI 0) dX9_walks_5 (by decide) ?_
  refine n_istore_n hC dX9_walks_6 (Nat.le_of_ble_eq_true rfl) ?_
  have lp7 : ∀ d9 : Nat, ∀ (p : Nat) (R2 : nMem), n - p = d9 → (p ≤ n) → (mFr [2, 3, 20 + mN R 6, 120 + mN R 6] R R2) → (R2 0 0 = nI n) → (R2 6 0 = nI (mN R 6)) → (R2 1 = R 1) → (R2 2 = fil (fun q => R 2 q - nI (10 + mN R 6 / 3)) (R 2) p) → (R2 3 = fil (fun _ => nI 0) (R 3) p) → (∀ q, q < p → R2 (20 + mN R 6) ((q + (if how = 0 then 1 else n - 1)) % n) = R 1 q) → (∀ q, q < p → R2 (120 + mN R 6) q = R 3 q) → WN K na (gPut shX9 b na h R2) 0 0 Q9 7 [some (.ref (na (b + 9))), some (.int (nI (if how = 0 then 1 else n - 1))), some (.int (nI (10 + mN R 6 / 3))), some (.int (nI p))] [] := by
    intro d9
    induction d9 using Nat.strongRecOn with
    | _ d9 ih7 =>
      intro p R2 hd7 hp hF2 hn2 hr2 h1 w2 w3 wr wm
      refine n_iload_n hC dX9_walks_7 rfl ?_
      refine n_aload_n hC dX9_walks_8 rfl ?_
      refine g_getI hC gW_X9 0 (v := nI n) q334 dX9_walks_9 rfl (by decide) (by decide) hn2 ?_
      refine n_icmp_geN hC (tgt := 79) dX9_walks_12 (by decide) (by omega) (by omega) (fun c_12 => ?_) (fun c_12 => ?_)
      · skip
        have hpn : p = n := by omega
        refine n_aload_n hC dX9_walks_79 rfl ?_
        refine g_getA hC gW_X9 4 q341 dX9_walks_80 rfl (by decide) (by decide) ?_
        refine n_aload_n hC dX9_walks_83 rfl ?_
        refine g_getI hC gW_X9 6 (v := nI (mN R 6)) q345 dX9_walks_84 rfl (by decide) (by decide) hr2 ?_
        refine g_rowN hC 4 20 dX9_walks_87 rfl (by decide) (Or.inl ⟨rfl, rfl⟩) (by omega) ?_
        refine n_iconst hC (v := nI 0) dX9_walks_88 (by decide) ?_
        refine n_aload_n hC dX9_walks_89 rfl ?_
        refine g_getA hC gW_X9 1 q336 dX9_walks_90 rfl (by decide) (by decide) ?_
        refine n_iconst hC (v := nI 0) dX9_walks_93 (by decide) ?_
        refine n_aload_n hC dX9_walks_94 rfl ?_
        refine g_getI hC gW_X9 0 (v := nI n) q334 dX9_walks_95 rfl (by decide) (by decide) hn2 ?_
        refine n_copyi hC q429 q396 q395 q89 (t := 0) (ty := .int) (fun d => rfl) rfl dX9_walks_98 rfl rfl (gPut_i (gI_X9_r (by omega))) (gPut_i gI_X9_1) (by decide) (by decide) (nI_nneg (by omega)) (by rw [show (nI n).toNatClampNeg = n from nI_clamp (by omega), gL_X9]; show 0 + n ≤ 9; omega) (by rw [show (nI n).toNatClampNeg = n from nI_clamp (by omega), gL_X9]; show 0 + n ≤ 9; omega) (fun _ _ => rfl) rfl (by decide) (by decide) ?_
        rw [gPut_setA gI_X9_1 (by decide), nI_clamp (show n < 2 ^ 31 by omega)]
        refine n_aload_n hC dX9_walks_101 rfl ?_
        refine n_dup hC dX9_walks_102 rfl ?_
        refine g_getI hC gW_X9 6 (v := nI (mN R 6)) q345 dX9_walks_103 rfl (by decide) (by decide) hr2 ?_
        refine n_iconst hC (v := nI 1) dX9_walks_106 (by decide) ?_
        refine n_iaddN hC dX9_walks_107 rfl ?_
        refine g_putI hC gW_X9 6 (R2 := mset (mset R2 1 (va_cpy (R2 (20 + mN R 6)) (R2 1) 0 0 n)) 6 (fun _ => nI (mN R 6 + 1))) q345 dX9_walks_108 rfl (by decide) (by decide) rfl rfl rfl rfl rfl ?_
        exact n_vret hC dX9_walks_111 (by decide) (by decide) (by
    rw [hpn] at wr wm w2 w3
    have hrow : ∀ q, q < n → R2 (20 + mN R 6) q = tur how n (R 1) q := fun q hq => by
      have := wr (trn how n q) (trn_lt hq)
      rw [trn_by hq hh hn3] at this
      rw [this, tur_trn hq]
    refine ⟨rfl, _, rfl, mFr.set (by simp) (mFr.set (by simp) (mFr.wk (by simp) hF2)), fun q hq => ?_, fun q hq => ?_, fun q hq => ?_, ?_, fun q hq => ?_, fun q hq => ?_⟩
    · rw [mset_n (by decide), mset_s]
      unfold va_cpy
      rw [if_pos (by omega), show 0 + (q - 0) = q by omega]
      exact hrow q hq
    · rw [mset_n (by decide), mset_n (by decide), w2]; exact fil_lt hq
    · rw [mset_n (by decide), mset_n (by decide), w3]; exact fil_lt hq
    · rw [mset_s]
    · rw [mset_n (by omega), mset_n (by omega)]; exact hrow q hq
    · rw [mset_n (by omega), mset_n (by omega)]; exact wm q hq)
      · skip
        have hbp : (p + (if how = 0 then 1 else n - 1)) % n < n := Nat.mod_lt _ (by omega)
        refine n_aload_n hC dX9_walks_15 rfl ?_
        refine g_getA hC gW_X9 2 q338 dX9_walks_16 rfl (by decide) (by decide) ?_
        refine n_iload_n hC dX9_walks_19 rfl ?_
        refine n_dup2 hC dX9_walks_20 rfl rfl ?_
        refine g_aldN hC gW_X9 2 (v := R 2 p) dX9_walks_21 rfl gI_X9_2 (by have h9 : gL shX9 2 = 9 := rfl; omega) (by rw [w2]; exact fil_ge (Nat.le_refl p)) ?_
        refine n_iload_n hC dX9_walks_22 rfl ?_
        refine n_isub hC dX9_walks_23 ?_
        refine g_astN hC gW_X9 2 (R2 := mset R2 2 (upd (R2 2) p ((R 2 p) - (nI (10 + mN R 6 / 3))))) dX9_walks_24 rfl gI_X9_2 (by have h9 : gL shX9 2 = 9 := rfl; omega) rfl ?_
        refine n_aload_n hC dX9_walks_25 rfl ?_
        refine g_getA hC gW_X9 4 q341 dX9_walks_26 rfl (by decide) (by decide) ?_
        refine n_aload_n hC dX9_walks_29 rfl ?_
        refine g_getI hC gW_X9 6 (v := nI (mN R 6)) q345 dX9_walks_30 rfl (by decide) (by decide) hr2 ?_
        refine g_rowN hC 4 20 dX9_walks_33 rfl (by decide) (Or.inl ⟨rfl, rfl⟩) (by omega) ?_
        refine n_iload_n hC dX9_walks_34 rfl ?_
        refine n_iload_n hC dX9_walks_35 rfl ?_
        refine n_iaddN hC dX9_walks_36 rfl ?_
        refine n_aload_n hC dX9_walks_37 rfl ?_
        refine g_getI hC gW_X9 0 (v := nI n) q334 dX9_walks_38 rfl (by decide) (by decide) hn2 ?_
        refine n_iremN hC dX9_walks_41 (by omega) (by omega) (by omega) rfl ?_
        refine n_aload_n hC dX9_walks_42 rfl ?_
        refine g_getA hC gW_X9 1 q336 dX9_walks_43 rfl (by decide) (by decide) ?_
        refine n_iload_n hC dX9_walks_46 rfl ?_
        refine g_aldN hC gW_X9 1 (v := R 1 p) dX9_walks_47 rfl gI_X9_1 (by have h9 : gL shX9 1 = 9 := rfl; omega) (congrFun h1 p) ?_
        refine g_astN hC gW_X9 (20 + (mN R 6)) (R2 := mset (mset R2 2 (upd (R2 2) p ((R 2 p) - (nI (10 + mN R 6 / 3))))) (20 + (mN R 6)) (upd (R2 (20 + (mN R 6))) ((p + (if how = 0 then 1 else n - 1)) % n) (R 1 p))) dX9_walks_48 rfl (gI_X9_r (by omega)) (by rw [gL_X9_r (by omega)]; omega) (by rw [mset_n (by omega)]) ?_
        refine n_aload_n hC dX9_walks_49 rfl ?_
        refine g_getA hC gW_X9 5 q343 dX9_walks_50 rfl (by decide) (by decide) ?_
        refine n_aload_n hC dX9_walks_53 rfl ?_
        refine g_getI hC gW_X9 6 (v := nI (mN R 6)) q345 dX9_walks_54 rfl (by decide) (by decide) (by rw [mset_n (by omega), mset_n (by decide)]; exact hr2) ?_
        refine g_rowN hC 5 120 dX9_walks_57 rfl (by decide) (Or.inr ⟨rfl, rfl⟩) (by omega) ?_
        refine n_iload_n hC dX9_walks_58 rfl ?_
        refine n_aload_n hC dX9_walks_59 rfl ?_
        refine g_getA hC gW_X9 3 q340 dX9_walks_60 rfl (by decide) (by decide) ?_
        refine n_iload_n hC dX9_walks_63 rfl ?_
        refine g_aldN hC gW_X9 3 (v := R 3 p) dX9_walks_64 rfl gI_X9_3 (by have h9 : gL shX9 3 = 9 := rfl; omega) (by rw [mset_n (by omega), mset_n (by decide), w3]; exact fil_ge (Nat.le_refl p)) ?_
        refine g_astN hC gW_X9 (120 + (mN R 6)) (R2 := mset (mset (mset R2 2 (upd (R2 2) p ((R 2 p) - (nI (10 + mN R 6 / 3))))) (20 + (mN R 6)) (upd (R2 (20 + (mN R 6))) ((p + (if how = 0 then 1 else n - 1)) % n) (R 1 p))) (120 + (mN R 6)) (upd (R2 (120 + (mN R 6))) p (R 3 p))) dX9_walks_65 rfl (gI_X9_r (by omega)) (by rw [gL_X9_r (by omega)]; omega) (by rw [mset_n (by omega), mset_n (by omega)]) ?_
        refine n_aload_n hC dX9_walks_66 rfl ?_
        refine g_getA hC gW_X9 3 q340 dX9_walks_67 rfl (by decide) (by decide) ?_
        refine n_iload_n hC dX9_walks_70 rfl ?_
        refine n_iconst hC (v := nI 0) dX9_walks_71 (by decide) ?_
        refine g_astN hC gW_X9 3 (R2 := mset (mset (mset (mset R2 2 (upd (R2 2) p ((R 2 p) - (nI (10 + mN R 6 / 3))))) (20 + (mN R 6)) (upd (R2 (20 + (mN R 6))) ((p + (if how = 0 then 1 else n - 1)) % n) (R 1 p))) (120 + (mN R 6)) (upd (R2 (120 + (mN R 6))) p (R 3 p))) 3 (upd (R2 3) p (nI 0))) dX9_walks_72 rfl gI_X9_3 (by have h9 : gL shX9 3 = 9 := rfl; omega) (by rw [mset_n (by omega), mset_n (by omega), mset_n (by decide)]) ?_
        obtain ⟨R9, eR9⟩ : ∃ z, z = mset (mset (mset (mset R2 2 (upd (R2 2) p ((R 2 p) - (nI (10 + mN R 6 / 3))))) (20 + (mN R 6)) (upd (R2 (20 + (mN R 6))) ((p + (if how = 0 then 1 else n - 1)) % n) (R 1 p))) (120 + (mN R 6)) (upd (R2 (120 + (mN R 6))) p (R 3 p))) 3 (upd (R2 3) p (nI 0)) := ⟨_, rfl⟩
        rw [← eR9]
        have hF9 : mFr [2, 3, 20 + mN R 6, 120 + mN R 6] R R9 := by rw [eR9]; exact mFr.set (by simp) (mFr.set (by simp) (mFr.set (by simp) (mFr.set (by simp) hF2)))
        have hn9b : R9 0 0 = nI n := (congrFun (hF9 0 (by simp; omega)) 0).trans hn
        have hr9b : R9 6 0 = nI (mN R 6) := (congrFun (hF9 6 (by simp; omega)) 0).trans hr
        have h19 : R9 1 = R 1 := hF9 1 (by simp; omega)
        have h29 : R9 2 = fil (fun q => R 2 q - nI (10 + mN R 6 / 3)) (R 2) (p + 1) := by
          rw [eR9, mset_n (by decide), mset_n (by omega), mset_n (by omega), mset_s, w2]; exact fil_u rfl
        have h39 : R9 3 = fil (fun _ => nI 0) (R 3) (p + 1) := by
          rw [eR9, mset_s, w3]; exact fil_u rfl
        have hr99 : ∀ q, q < p + 1 → R9 (20 + mN R 6) ((q + (if how = 0 then 1 else n - 1)) % n) = R 1 q := fun q hq => by
          rw [eR9, mset_n (by omega), mset_n (by omega), mset_s]
          unfold upd
          by_cases e : q = p
          · subst e; rw [if_pos rfl]
          · rw [if_neg (fun z => e (by
              have z2 := congrArg (trn how n) z
              rw [by_trn (by omega) hh hn3, by_trn (by omega) hh hn3] at z2
              exact z2))]
            exact wr q (by omega)
        have hm99 : ∀ q, q < p + 1 → R9 (120 + mN R 6) q = R 3 q := fun q hq => by
          rw [eR9, mset_n (by omega), mset_s]
          unfold upd
          by_cases e : q = p
          · rw [if_pos e, e]
          · rw [if_neg e]; exact wm q (by omega)
        refine n_iincN hC dX9_walks_73 (j := 1) (c := p + 1) rfl (by decide) rfl ?_
        refine n_goto hC (tgt := 7) dX9_walks_76 (by decide) ?_
        exact WN.forget (L' := [some (.ref (na (b + 9))), some (.int (nI (if how = 0 then 1 else n - 1))), some (.int (nI (10 + mN R 6 / 3))), some (.int (nI (p + 1)))]) (⟨Or.inr rfl, Or.inr rfl, Or.inr rfl, Or.inr rfl, trivial⟩) (ih7 _ (by omega) (p + 1) R9 rfl (by omega) hF9 hn9b hr9b h19 h29 h39 hr99 hm99)
  exact WN.forget (L' := [some (.ref (na (b + 9))), some (.int (nI (if how = 0 then 1 else n - 1))), some (.int (nI (10 + mN R 6 / 3))), some (.int (nI 0))]) (⟨Or.inr rfl, Or.inr rfl, Or.inr rfl, Or.inr rfl, trivial⟩) (lp7 _ 0 R rfl (by omega) mFr.rf hn hr rfl (by rw [fil_0]) (by rw [fil_0]) lt_0 lt_0)

def rdDone (R : nMem) : nMem := mset R 7 (fun _ => nI (mN R 7 + 1))
def rdDoes (R : nMem) (n s : Nat) (R2 : nMem) : Prop := if s < 100 then R2 = rdPass (rdDone R) n (s / 10) (s % 10) else rdWalk (rdDone R) n (s - 100) R2
theorem mA_done (R : nMem) {k : Nat} (h : k ≠ 7) (i : Nat) : mA (rdDone R) k i = mA R k i := by unfold mA rdDone; rw [mset_n h]
set_option maxHeartbeats 4000000 in
set_option maxRecDepth 100000 in
theorem ct_X9_does (b : Nat) (na : nA) (h : nH) (R : nMem) {n : Nat} (hn : R 0 0 = nI n) (hn3 : 3 ≤ n) (hn9 : n ≤ 9) (hr : R 6 0 = nI (mN R 6)) (hd : R 7 0 = nI (mN R 7)) (hd9 : mN R 7 ≤ 300) (hA : rdA R n) {s : Nat} (hs : s < 102) (hs2 : s < 100 → s / 10 < n ∧ s % 10 ≤ 1) (hr9 : 100 ≤ s → mN R 6 < 100) : nM yX9_does cX9_does 2 (none) (nRm 2 0 0) [.ref (na (b + 9)), .int (nI s)] na (gPut shX9 b na h R) (nQv (gRelV shX9 b na h (rdDoes R n s))) 0 0 := by
  refine nM.ofN RX9 rfl (by decide) (by intro v hv; simp only [List.mem_cons, List.not_mem_nil, or_false] at hv; rcases hv with rfl | rfl <;> rfl) (Nat.le_of_ble_eq_true rfl) (fun K hC hnm => ?_)
  show WN K na (gPut shX9 b na h R) 0 0 (nE K (nQv (gRelV shX9 b na h (rdDoes R n s))) 0 0) 0 [some (.ref (na (b + 9))), some (.int (nI s))] []
  let Q9 : State → Prop := nE K (nQv (gRelV shX9 b na h (rdDoes R n s))) 0 0
  show WN K na (gPut shX9 b na h R) 0 0 Q9 0 [some (.ref (na (b + 9))), some (.int (nI s))] []
  refine n_aload_n hC dX9_does_0 rfl ?_
  refine n_dup hC dX9_does_1 rfl ?_
  refine g_getI hC gW_X9 7 (v := nI (mN R 7)) q347 dX9_does_2 rfl (by decide) (by decide) hd ?_
  refine n_iconst hC (v := nI 1) dX9_does_5 (by decide) ?_
  refine n_iaddN hC dX9_does_6 rfl ?_
  refine g_putI hC gW_X9 7 (R2 := mset R 7 (fun _ => nI (mN R 7 + 1))) q347 dX9_does_7 rfl (by decide) (by decide) rfl rfl rfl rfl rfl ?_
  rw [show mset R 7 (fun _ => nI (mN R 7 + 1)) = rdDone R from rfl]
  refine n_iload_n hC dX9_does_10 rfl ?_
  refine n_bipush hC (v := nI 100) dX9_does_11 (by decide) ?_
  refine n_icmp_geN hC (tgt := 31) dX9_does_13 (by decide) (by omega) (by omega) (fun c_13 => ?_) (fun c_13 => ?_)
  · skip
    replace hr9 := hr9 (by omega)
    refine n_aload_n hC dX9_does_31 rfl ?_
    refine n_iload_n hC dX9_does_32 rfl ?_
    refine n_bipush hC (v := nI 100) dX9_does_33 (by decide) ?_
    refine n_icmp_neN hC (tgt := 42) dX9_does_35 (by decide) (by omega) (by omega) (fun c_35 => ?_) (fun c_35 => ?_)
    · skip
      refine n_aload_n hC dX9_does_42 rfl ?_
      refine g_getI hC gW_X9 0 (v := nI n) q334 dX9_does_43 rfl (by decide) (by decide) hn ?_
      refine n_iconst hC (v := nI 1) dX9_does_46 (by decide) ?_
      refine n_isubN hC dX9_does_47 (by omega) rfl ?_
      refine n_callV1v hC (ct_X9_walks b na h (rdDone R) (n := n) hn hn3 hn9 hr hr9 (how := 1) (by decide)) md_X9_walks q425 dX9_does_48 rfl gPut_o rfl rfl ⟨rfl, rfl, by decide, by decide⟩ rfl (Nat.le_of_ble_eq_true rfl) (by decide) (by decide) (fun na0 h0 hp0 => ?_)
      obtain ⟨rfl, R9, rfl, eR9⟩ := hp0
      exact n_vret hC dX9_does_51 (by decide) (by decide) (⟨rfl, R9, rfl, by unfold rdDoes; rw [if_neg (by omega), show s - 100 = 1 by omega]; exact eR9⟩)
    · skip
      refine n_iconst hC (v := nI 1) dX9_does_38 (by decide) ?_
      refine n_goto hC (tgt := 48) dX9_does_39 (by decide) ?_
      refine n_callV1v hC (ct_X9_walks b na h (rdDone R) (n := n) hn hn3 hn9 hr hr9 (how := 0) (by decide)) md_X9_walks q425 dX9_does_48 rfl gPut_o rfl rfl ⟨rfl, rfl, by decide, by decide⟩ rfl (Nat.le_of_ble_eq_true rfl) (by decide) (by decide) (fun na1 h1 hp1 => ?_)
      obtain ⟨rfl, R9, rfl, eR9⟩ := hp1
      exact n_vret hC dX9_does_51 (by decide) (by decide) (⟨rfl, R9, rfl, by unfold rdDoes; rw [if_neg (by omega), show s - 100 = 0 by omega]; exact eR9⟩)
  · skip
    obtain ⟨hp, hh⟩ := hs2 (by omega)
    refine n_aload_n hC dX9_does_16 rfl ?_
    refine n_iload_n hC dX9_does_17 rfl ?_
    refine n_bipush hC (v := nI 10) dX9_does_18 (by decide) ?_
    refine n_idivN hC dX9_does_20 (by omega) (by omega) (by omega) rfl ?_
    refine n_iload_n hC dX9_does_21 rfl ?_
    refine n_bipush hC (v := nI 10) dX9_does_22 (by decide) ?_
    refine n_iremN hC dX9_does_24 (by omega) (by omega) (by omega) rfl ?_
    refine n_callV2v hC (ct_X9_passes b na h (rdDone R) (n := n) (p := s / 10) (how := s % 10) hn hn3 hn9 hA (by omega) (by omega)) md_X9_passes q421 dX9_does_25 rfl gPut_o rfl rfl ⟨rfl, rfl, by decide, by decide⟩ rfl (Nat.le_of_ble_eq_true rfl) (by decide) (by decide) (fun na2 h2 hp2 => ?_)
    obtain ⟨rfl, R9, rfl, eR9⟩ := hp2
    refine n_goto hC (tgt := 51) dX9_does_28 (by decide) ?_
    exact n_vret hC dX9_does_51 (by decide) (by decide) (⟨rfl, R9, rfl, by unfold rdDoes; rw [if_pos (by omega)]; exact eR9⟩)

section NOTH
variable {K : nK} {na : nA} {h : nH} {S : nMem} {sh : gS} {b2 cells slots : Nat} {Q : State → Prop} {cc : ByteArray} {nL pc idx a : Nat} {own C : String} {T : u_T} {ty0 : Nat → FieldType} {ret : Option FieldType} {rm : Room} {L : List (Option Value)} {st : List Value}
/-- reads of a block that the heap holds -/
theorem o_getA (hC : nC K cc nL own ret rm) (gw : gW sh C T ty0) (hO : ∀ i, i < 220 → h (b2 + i) = gCell sh b2 na S i) (j : Nat) (hq : Cond.fieldLink own idx C (T j).2.1 (T j).2.2.1 ∈ lw_all) (hdg : decode cc pc = .ok (.getfield idx, 3)) (hk : na (b2 + 9) = a) (hl : j < sh.2.1) (hj : ¬ sh.2.2.1 j = 0) (k : WN K na h cells slots Q (pc + 3) L (.ref (na (b2 + j)) :: st)) : WN K na h cells slots Q pc L (.ref a :: st) :=
  n_get hC gw.2.1 j hq hdg hk ((hO 9 (by decide)).trans (if_pos rfl)) gw.1 hl (gw.2.2.1 j hl) (by rw [gfs_at hl, if_neg hj]) k
theorem o_getI (hC : nC K cc nL own ret rm) (gw : gW sh C T ty0) (hO : ∀ i, i < 220 → h (b2 + i) = gCell sh b2 na S i) (j : Nat) {v : Int32} (hq : Cond.fieldLink own idx C (T j).2.1 (T j).2.2.1 ∈ lw_all) (hdg : decode cc pc = .ok (.getfield idx, 3)) (hk : na (b2 + 9) = a) (hl : j < sh.2.1) (hj : sh.2.2.1 j = 0) (hv : S j 0 = v) (k : WN K na h cells slots Q (pc + 3) L (.int v :: st)) : WN K na h cells slots Q pc L (.ref a :: st) :=
  n_get hC gw.2.1 j hq hdg hk ((hO 9 (by decide)).trans (if_pos rfl)) gw.1 hl (gw.2.2.1 j hl) (by rw [gfs_at hl, if_pos hj, hv]) k
theorem o_aldN (hC : nC K cc nL own ret rm) (gw : gW sh C T ty0) (hO : ∀ i, i < 220 → h (b2 + i) = gCell sh b2 na S i) (i : Nat) {x : Nat} {v : Int32} (hdg : decode cc pc = .ok (.iaload, 1)) (hk : na (b2 + i) = a) (hi : gI sh i) (hx : x < gL sh i) (hv : S i x = v) (k : WN K na h cells slots Q (pc + 1) L (.int v :: st)) : WN K na h cells slots Q pc L (.int (nI x) :: .ref a :: st) := by
  subst hv
  exact n_ialdN hC hdg hk ((hO i hi.2.1).trans (gCell_i hi)) hx (Nat.lt_of_le_of_lt (gw.2.2.2.2.2.2 i) (by decide)) k
theorem o_rowN (hC : nC K cc nL own ret rm) (hO : ∀ i, i < 220 → h (b2 + i) = gCell sh b2 na S i) (i o : Nat) {x : Nat} (hdg : decode cc pc = .ok (.aaload, 1)) (hk : na (b2 + i) = a) (hi : i < 9) (ho : (sh.2.2.1 i = 2 ∧ o = 20) ∨ (sh.2.2.1 i = 3 ∧ o = 120)) (hx : x < 100) (k : WN K na h cells slots Q (pc + 1) L (.ref (na (b2 + (o + x))) :: st)) : WN K na h cells slots Q pc L (.int (nI x) :: .ref a :: st) := by
  rcases ho with ⟨e, rfl⟩ | ⟨e, rfl⟩
  · refine n_aaldG hC (f := fun r => if r < 100 then some (na (b2 + (20 + r))) else none) hdg hk ?_ hx (by decide) (by rw [if_pos hx]; rfl) k
    rw [hO i (by omega)]
    unfold gCell
    rw [if_neg (by omega), e, if_neg (by decide), if_pos rfl]
  · refine n_aaldG hC (f := fun r => if r < 100 then some (na (b2 + (120 + r))) else none) hdg hk ?_ hx (by decide) (by rw [if_pos hx]; rfl) k
    rw [hO i (by omega)]
    unfold gCell
    rw [if_neg (by omega), e, if_neg (by decide), if_neg (by decide), if_pos rfl]
end NOTH
def rdRow (R S : nMem) (n r : Nat) : Bool := allb n (fun p => decide (R (20 + r) p = S (20 + r) p) && decide (R (120 + r) p = S (120 + r) p))
def rdLike (R S : nMem) (n : Nat) : Bool := decide (mN R 6 = mN S 6) && allb (mN R 6) (rdRow R S n)
set_option maxHeartbeats 4000000 in
set_option maxRecDepth 100000 in
theorem ct_X9_isLike (b : Nat) (na : nA) (h : nH) (R : nMem) {n : Nat} (hn : R 0 0 = nI n) (hn9 : n ≤ 9) (hr : R 6 0 = nI (mN R 6)) (hr9 : mN R 6 ≤ 100) (b2 : Nat) (S : nMem) (hdis : b2 + 220 ≤ b ∨ b + 220 ≤ b2) (hO : ∀ i, i < 220 → h (b2 + i) = gCell shX9 b2 na S i) (hs : S 6 0 = nI (mN S 6)) (hs9 : mN S 6 ≤ 100) : nM yX9_isLike cX9_isLike 5 (some .boolean) (nRm 0 0 0) [.ref (na (b + 9)), .ref (na (b2 + 9))] na (gPut shX9 b na h R) (nQi (gPure shX9 b na h R (nbo (rdLike R S n)))) 0 0 := by
  refine nM.ofN RX9 rfl (by decide) (by intro v hv; simp only [List.mem_cons, List.not_mem_nil, or_false] at hv; rcases hv with rfl | rfl <;> rfl) (Nat.le_of_ble_eq_true rfl) (fun K hC hnm => ?_)
  show WN K na (gPut shX9 b na h R) 0 0 (nE K (nQi (gPure shX9 b na h R (nbo (rdLike R S n)))) 0 0) 0 [some (.ref (na (b + 9))), some (.ref (na (b2 + 9))), none, none, none] []
  let Q9 : State → Prop := nE K (nQi (gPure shX9 b na h R (nbo (rdLike R S n)))) 0 0
  show WN K na (gPut shX9 b na h R) 0 0 Q9 0 [some (.ref (na (b + 9))), some (.ref (na (b2 + 9))), none, none, none] []
  have hO9 : ∀ i, i < 220 → gPut shX9 b na h R (b2 + i) = gCell shX9 b2 na S i := fun i hi => (gPut_out (by omega)).trans (hO i hi)
  refine n_aload_n hC dX9_isLike_0 rfl ?_
  refine g_getI hC gW_X9 6 (v := nI (mN R 6)) q345 dX9_isLike_1 rfl (by decide) (by decide) hr ?_
  refine n_aload_n hC dX9_isLike_4 rfl ?_
  refine o_getI hC gW_X9 hO9 6 q345 dX9_isLike_5 rfl (by decide) (by decide) hs ?_
  refine n_icmp_neN hC (tgt := 15) dX9_isLike_8 (by decide) (by omega) (by omega) (fun c_8 => ?_) (fun c_8 => ?_)
  · skip
    refine n_iconst hC (v := nbo false) dX9_isLike_15 (by decide) ?_
    refine n_istore_n hC dX9_isLike_16 (Nat.le_of_ble_eq_true rfl) ?_
    refine n_iconst hC (v := nI 0) dX9_isLike_17 (by decide) ?_
    refine n_istore_n hC dX9_isLike_18 (Nat.le_of_ble_eq_true rfl) ?_
    have lp19 : ∀ d9 : Nat, ∀ (r : Nat) (g : Bool), mN R 6 - r = d9 → (r ≤ mN R 6) → ((decide (mN R 6 = mN S 6) && allb r (rdRow R S n)) = g) → WN K na (gPut shX9 b na h R) 0 0 Q9 19 [some (.ref (na (b + 9))), some (.ref (na (b2 + 9))), some (.int (nbo g)), some (.int (nI r)), none] [] := by
      intro d9
      induction d9 using Nat.strongRecOn with
      | _ d9 ih19 =>
        intro r g hd19 hrr hg
        refine n_iload_n hC dX9_isLike_19 rfl ?_
        refine n_aload_n hC dX9_isLike_20 rfl ?_
        refine g_getI hC gW_X9 6 (v := nI (mN R 6)) q345 dX9_isLike_21 rfl (by decide) (by decide) hr ?_
        refine n_icmp_geN hC (tgt := 105) dX9_isLike_24 (by decide) (by omega) (by omega) (fun c_24 => ?_) (fun c_24 => ?_)
        · skip
          refine n_iload_n hC dX9_isLike_105 rfl ?_
          exact n_zret hC dX9_isLike_106 (nbo_nar _) (by decide) (by decide) (⟨by unfold rdLike; rw [← hg, show r = mN R 6 by omega], rfl, rfl⟩)
        · skip
          refine n_iload_n hC dX9_isLike_27 rfl ?_
          refine n_if_eqB hC (tgt := 105) dX9_isLike_28 (by decide) (fun c_28 => ?_) (fun c_28 => ?_)
          · skip
            refine n_iload_n hC dX9_isLike_105 rfl ?_
            exact n_zret hC dX9_isLike_106 (nbo_nar _) (by decide) (by decide) (⟨by rw [c_28] at hg; rw [c_28, show rdLike R S n = false by
      unfold rdLike
      cases hz : (decide (mN R 6 = mN S 6) && allb (mN R 6) (rdRow R S n)) with
      | false => rfl
      | true => rw [Bool.and_eq_true] at hz; rw [hz.1, allb_mono (by omega) hz.2] at hg; cases hg], rfl, rfl⟩)
          · skip
            refine n_iconst hC (v := nI 0) dX9_isLike_31 (by decide) ?_
            refine n_istore hC dX9_isLike_32 (Nat.le_of_ble_eq_true rfl) ?_
            have lp34 : ∀ d9 : Nat, ∀ (p : Nat) (g2 : Bool), n - p = d9 → (p ≤ n) → (((decide (mN R 6 = mN S 6) && allb r (rdRow R S n)) && allb p (fun p => decide (R (20 + r) p = S (20 + r) p) && decide (R (120 + r) p = S (120 + r) p))) = g2) → WN K na (gPut shX9 b na h R) 0 0 Q9 34 [some (.ref (na (b + 9))), some (.ref (na (b2 + 9))), some (.int (nbo g2)), some (.int (nI r)), some (.int (nI p))] [] := by
              intro d9
              induction d9 using Nat.strongRecOn with
              | _ d9 ih34 =>
                intro p g2 hd34 hp hg2
                refine n_iload hC dX9_isLike_34 rfl ?_
                refine n_aload_n hC dX9_isLike_36 rfl ?_
                refine g_getI hC gW_X9 0 (v := nI n) q334 dX9_isLike_37 rfl (by decide) (by decide) hn ?_
                refine n_icmp_geN hC (tgt := 99) dX9_isLike_40 (by decide) (by omega) (by omega) (fun c_40 => ?_) (fun c_40 => ?_)
                · skip
                  have hgN : (decide (mN R 6 = mN S 6) && allb (r + 1) (rdRow R S n)) = g2 := by
                    show (decide _ && (allb r _ && rdRow R S n r)) = g2
                    rw [← Bool.and_assoc, ← hg2, show p = n by omega]
                    rfl
                  refine n_iincN hC dX9_isLike_99 (j := 1) (c := r + 1) rfl (by decide) rfl ?_
                  refine n_goto hC (tgt := 19) dX9_isLike_102 (by decide) ?_
                  exact WN.forget (L' := [some (.ref (na (b + 9))), some (.ref (na (b2 + 9))), some (.int (nbo g2)), some (.int (nI (r + 1))), none]) (⟨Or.inr rfl, Or.inr rfl, Or.inr rfl, Or.inr rfl, Or.inl rfl, trivial⟩) (ih19 _ (by omega) (r + 1) g2 rfl (by omega) hgN)
                · skip
                  refine n_iload_n hC dX9_isLike_43 rfl ?_
                  refine n_aload_n hC dX9_isLike_44 rfl ?_
                  refine g_getA hC gW_X9 4 q341 dX9_isLike_45 rfl (by decide) (by decide) ?_
                  refine n_iload_n hC dX9_isLike_48 rfl ?_
                  refine g_rowN hC 4 20 dX9_isLike_49 rfl (by decide) (Or.inl ⟨rfl, rfl⟩) (by omega) ?_
                  refine n_iload hC dX9_isLike_50 rfl ?_
                  refine g_aldN hC gW_X9 (20 + r) (v := R (20 + r) p) dX9_isLike_52 rfl (gI_X9_r (by omega)) (by rw [gL_X9_r (by omega)]; omega) rfl ?_
                  refine n_aload_n hC dX9_isLike_53 rfl ?_
                  refine o_getA hC gW_X9 hO9 4 q341 dX9_isLike_54 rfl (by decide) (by decide) ?_
                  refine n_iload_n hC dX9_isLike_57 rfl ?_
                  refine o_rowN hC hO9 4 20 dX9_isLike_58 rfl (by decide) (Or.inl ⟨rfl, rfl⟩) (by omega) ?_
                  refine n_iload hC dX9_isLike_59 rfl ?_
                  refine o_aldN hC gW_X9 hO9 (20 + r) (v := S (20 + r) p) dX9_isLike_61 rfl (gI_X9_r (by omega)) (by rw [gL_X9]; omega) rfl ?_
                  refine n_icmp_ne hC (tgt := 90) dX9_isLike_62 (by decide) (fun c_62 => ?_) (fun c_62 => ?_)
                  · skip
                    have hgP : ((decide (mN R 6 = mN S 6) && allb r (rdRow R S n)) && allb (p + 1) (fun p => decide (R (20 + r) p = S (20 + r) p) && decide (R (120 + r) p = S (120 + r) p))) = (g2 && false) := by
                      show (_ && (allb p _ && (decide _ && _))) = _
                      rw [← Bool.and_assoc, hg2, decide_eq_false c_62, Bool.false_and]
                    refine n_iconst hC (v := nbo false) dX9_isLike_90 (by decide) ?_
                    refine n_iand hC dX9_isLike_91 ?_
                    rw [show (nbo g2) &&& (nbo false) = nbo (g2 && false) from (by cases g2 <;> decide)]
                    refine n_istore_n hC dX9_isLike_92 (Nat.le_of_ble_eq_true rfl) ?_
                    refine n_iincN hC dX9_isLike_93 (j := 1) (c := p + 1) rfl (by decide) rfl ?_
                    refine n_goto hC (tgt := 34) dX9_isLike_96 (by decide) ?_
                    exact WN.forget (L' := [some (.ref (na (b + 9))), some (.ref (na (b2 + 9))), some (.int (nbo (g2 && false))), some (.int (nI r)), some (.int (nI (p + 1)))]) (⟨Or.inr rfl, Or.inr rfl, Or.inr rfl, Or.inr rfl, Or.inr rfl, trivial⟩) (ih34 _ (by omega) (p + 1) (g2 && false) rfl (by omega) hgP)
                  · skip
                    refine n_aload_n hC dX9_isLike_65 rfl ?_
                    refine g_getA hC gW_X9 5 q343 dX9_isLike_66 rfl (by decide) (by decide) ?_
                    refine n_iload_n hC dX9_isLike_69 rfl ?_
                    refine g_rowN hC 5 120 dX9_isLike_70 rfl (by decide) (Or.inr ⟨rfl, rfl⟩) (by omega) ?_
                    refine n_iload hC dX9_isLike_71 rfl ?_
                    refine g_aldN hC gW_X9 (120 + r) (v := R (120 + r) p) dX9_isLike_73 rfl (gI_X9_r (by omega)) (by rw [gL_X9_r (by omega)]; omega) rfl ?_
                    refine n_aload_n hC dX9_isLike_74 rfl ?_
                    refine o_getA hC gW_X9 hO9 5 q343 dX9_isLike_75 rfl (by decide) (by decide) ?_
                    refine n_iload_n hC dX9_isLike_78 rfl ?_
                    refine o_rowN hC hO9 5 120 dX9_isLike_79 rfl (by decide) (Or.inr ⟨rfl, rfl⟩) (by omega) ?_
                    refine n_iload hC dX9_isLike_80 rfl ?_
                    refine o_aldN hC gW_X9 hO9 (120 + r) (v := S (120 + r) p) dX9_isLike_82 rfl (gI_X9_r (by omega)) (by rw [gL_X9]; omega) rfl ?_
                    refine n_icmp_ne hC (tgt := 90) dX9_isLike_83 (by decide) (fun c_83 => ?_) (fun c_83 => ?_)
                    · skip
                      have hgP : ((decide (mN R 6 = mN S 6) && allb r (rdRow R S n)) && allb (p + 1) (fun p => decide (R (20 + r) p = S (20 + r) p) && decide (R (120 + r) p = S (120 + r) p))) = (g2 && false) := by
                        show (_ && (allb p _ && (decide _ && decide _))) = _
                        rw [← Bool.and_assoc, hg2, decide_eq_false c_83, Bool.and_false]
                      refine n_iconst hC (v := nbo false) dX9_isLike_90 (by decide) ?_
                      refine n_iand hC dX9_isLike_91 ?_
                      rw [show (nbo g2) &&& (nbo false) = nbo (g2 && false) from (by cases g2 <;> decide)]
                      refine n_istore_n hC dX9_isLike_92 (Nat.le_of_ble_eq_true rfl) ?_
                      refine n_iincN hC dX9_isLike_93 (j := 1) (c := p + 1) rfl (by decide) rfl ?_
                      refine n_goto hC (tgt := 34) dX9_isLike_96 (by decide) ?_
                      exact WN.forget (L' := [some (.ref (na (b + 9))), some (.ref (na (b2 + 9))), some (.int (nbo (g2 && false))), some (.int (nI r)), some (.int (nI (p + 1)))]) (⟨Or.inr rfl, Or.inr rfl, Or.inr rfl, Or.inr rfl, Or.inr rfl, trivial⟩) (ih34 _ (by omega) (p + 1) (g2 && false) rfl (by omega) hgP)
                    · skip
                      have hgP : ((decide (mN R 6 = mN S 6) && allb r (rdRow R S n)) && allb (p + 1) (fun p => decide (R (20 + r) p = S (20 + r) p) && decide (R (120 + r) p = S (120 + r) p))) = (g2 && true) := by
                        show (_ && (allb p _ && (decide _ && decide _))) = _
                        rw [← Bool.and_assoc, hg2, decide_eq_true c_62, decide_eq_true c_83]
                        rfl
                      refine n_iconst hC (v := nbo true) dX9_isLike_86 (by decide) ?_
                      refine n_goto hC (tgt := 91) dX9_isLike_87 (by decide) ?_
                      refine n_iand hC dX9_isLike_91 ?_
                      rw [show (nbo g2) &&& (nbo true) = nbo (g2 && true) from (by cases g2 <;> decide)]
                      refine n_istore_n hC dX9_isLike_92 (Nat.le_of_ble_eq_true rfl) ?_
                      refine n_iincN hC dX9_isLike_93 (j := 1) (c := p + 1) rfl (by decide) rfl ?_
                      refine n_goto hC (tgt := 34) dX9_isLike_96 (by decide) ?_
                      exact WN.forget (L' := [some (.ref (na (b + 9))), some (.ref (na (b2 + 9))), some (.int (nbo (g2 && true))), some (.int (nI r)), some (.int (nI (p + 1)))]) (⟨Or.inr rfl, Or.inr rfl, Or.inr rfl, Or.inr rfl, Or.inr rfl, trivial⟩) (ih34 _ (by omega) (p + 1) (g2 && true) rfl (by omega) hgP)
            exact WN.forget (L' := [some (.ref (na (b + 9))), some (.ref (na (b2 + 9))), some (.int (nbo g)), some (.int (nI r)), some (.int (nI 0))]) (⟨Or.inr rfl, Or.inr rfl, Or.inr rfl, Or.inr rfl, Or.inr rfl, trivial⟩) (lp34 _ 0 g rfl (by omega) (by rw [hg]; exact Bool.and_true g))
    exact WN.forget (L' := [some (.ref (na (b + 9))), some (.ref (na (b2 + 9))), some (.int (nbo false)), some (.int (nI 0)), none]) (⟨Or.inr rfl, Or.inr rfl, Or.inr rfl, Or.inr rfl, Or.inl rfl, trivial⟩) (lp19 _ 0 false rfl (by omega) (by show (decide _ && true) = false; rw [decide_eq_false (show ¬ mN R 6 = mN S 6 by omega)]; rfl))
  · skip
    refine n_iconst hC (v := nbo true) dX9_isLike_11 (by decide) ?_
    refine n_goto hC (tgt := 16) dX9_isLike_12 (by decide) ?_
    refine n_istore_n hC dX9_isLike_16 (Nat.le_of_ble_eq_true rfl) ?_
    refine n_iconst hC (v := nI 0) dX9_isLike_17 (by decide) ?_
    refine n_istore_n hC dX9_isLike_18 (Nat.le_of_ble_eq_true rfl) ?_
    have lp19 : ∀ d9 : Nat, ∀ (r : Nat) (g : Bool), mN R 6 - r = d9 → (r ≤ mN R 6) → ((decide (mN R 6 = mN S 6) && allb r (rdRow R S n)) = g) → WN K na (gPut shX9 b na h R) 0 0 Q9 19 [some (.ref (na (b + 9))), some (.ref (na (b2 + 9))), some (.int (nbo g)), some (.int (nI r)), none] [] := by
      intro d9
      induction d9 using Nat.strongRecOn with
      | _ d9 ih19 =>
        intro r g hd19 hrr hg
        refine n_iload_n hC dX9_isLike_19 rfl ?_
        refine n_aload_n hC dX9_isLike_20 rfl ?_
        refine g_getI hC gW_X9 6 (v := nI (mN R 6)) q345 dX9_isLike_21 rfl (by decide) (by decide) hr ?_
        refine n_icmp_geN hC (tgt := 105) dX9_isLike_24 (by decide) (by omega) (by omega) (fun c_24 => ?_) (fun c_24 => ?_)
        · skip
          refine n_iload_n hC dX9_isLike_105 rfl ?_
          exact n_zret hC dX9_isLike_106 (nbo_nar _) (by decide) (by decide) (⟨by unfold rdLike; rw [← hg, show r = mN R 6 by omega], rfl, rfl⟩)
        · skip
          refine n_iload_n hC dX9_isLike_27 rfl ?_
          refine n_if_eqB hC (tgt := 105) dX9_isLike_28 (by decide) (fun c_28 => ?_) (fun c_28 => ?_)
          · skip
            refine n_iload_n hC dX9_isLike_105 rfl ?_
            exact n_zret hC dX9_isLike_106 (nbo_nar _) (by decide) (by decide) (⟨by rw [c_28] at hg; rw [c_28, show rdLike R S n = false by
      unfold rdLike
      cases hz : (decide (mN R 6 = mN S 6) && allb (mN R 6) (rdRow R S n)) with
      | false => rfl
      | true => rw [Bool.and_eq_true] at hz; rw [hz.1, allb_mono (by omega) hz.2] at hg; cases hg], rfl, rfl⟩)
          · skip
            refine n_iconst hC (v := nI 0) dX9_isLike_31 (by decide) ?_
            refine n_istore hC dX9_isLike_32 (Nat.le_of_ble_eq_true rfl) ?_
            have lp34 : ∀ d9 : Nat, ∀ (p : Nat) (g2 : Bool), n - p = d9 → (p ≤ n) → (((decide (mN R 6 = mN S 6) && allb r (rdRow R S n)) && allb p (fun p => decide (R (20 + r) p = S (20 + r) p) && decide (R (120 + r) p = S (120 + r) p))) = g2) → WN K na (gPut shX9 b na h R) 0 0 Q9 34 [some (.ref (na (b + 9))), some (.ref (na (b2 + 9))), some (.int (nbo g2)), some (.int (nI r)), some (.int (nI p))] [] := by
              intro d9
              induction d9 using Nat.strongRecOn with
              | _ d9 ih34 =>
                intro p g2 hd34 hp hg2
                refine n_iload hC dX9_isLike_34 rfl ?_
                refine n_aload_n hC dX9_isLike_36 rfl ?_
                refine g_getI hC gW_X9 0 (v := nI n) q334 dX9_isLike_37 rfl (by decide) (by decide) hn ?_
                refine n_icmp_geN hC (tgt := 99) dX9_isLike_40 (by decide) (by omega) (by omega) (fun c_40 => ?_) (fun c_40 => ?_)
                · skip
                  have hgN : (decide (mN R 6 = mN S 6) && allb (r + 1) (rdRow R S n)) = g2 := by
                    show (decide _ && (allb r _ && rdRow R S n r)) = g2
                    rw [← Bool.and_assoc, ← hg2, show p = n by omega]
                    rfl
                  refine n_iincN hC dX9_isLike_99 (j := 1) (c := r + 1) rfl (by decide) rfl ?_
                  refine n_goto hC (tgt := 19) dX9_isLike_102 (by decide) ?_
                  exact WN.forget (L' := [some (.ref (na (b + 9))), some (.ref (na (b2 + 9))), some (.int (nbo g2)), some (.int (nI (r + 1))), none]) (⟨Or.inr rfl, Or.inr rfl, Or.inr rfl, Or.inr rfl, Or.inl rfl, trivial⟩) (ih19 _ (by omega) (r + 1) g2 rfl (by omega) hgN)
                · skip
                  refine n_iload_n hC dX9_isLike_43 rfl ?_
                  refine n_aload_n hC dX9_isLike_44 rfl ?_
                  refine g_getA hC gW_X9 4 q341 dX9_isLike_45 rfl (by decide) (by decide) ?_
                  refine n_iload_n hC dX9_isLike_48 rfl ?_
                  refine g_rowN hC 4 20 dX9_isLike_49 rfl (by decide) (Or.inl ⟨rfl, rfl⟩) (by omega) ?_
                  refine n_iload hC dX9_isLike_50 rfl ?_
                  refine g_aldN hC gW_X9 (20 + r) (v := R (20 + r) p) dX9_isLike_52 rfl (gI_X9_r (by omega)) (by rw [gL_X9_r (by omega)]; omega) rfl ?_
                  refine n_aload_n hC dX9_isLike_53 rfl ?_
                  refine o_getA hC gW_X9 hO9 4 q341 dX9_isLike_54 rfl (by decide) (by decide) ?_
                  refine n_iload_n hC dX9_isLike_57 rfl ?_
                  refine o_rowN hC hO9 4 20 dX9_isLike_58 rfl (by decide) (Or.inl ⟨rfl, rfl⟩) (by omega) ?_
                  refine n_iload hC dX9_isLike_59 rfl ?_
                  refine o_aldN hC gW_X9 hO9 (20 + r) (v := S (20 + r) p) dX9_isLike_61 rfl (gI_X9_r (by omega)) (by rw [gL_X9]; omega) rfl ?_
                  refine n_icmp_ne hC (tgt := 90) dX9_isLike_62 (by decide) (fun c_62 => ?_) (fun c_62 => ?_)
                  · skip
                    have hgP : ((decide (mN R 6 = mN S 6) && allb r (rdRow R S n)) && allb (p + 1) (fun p => decide (R (20 + r) p = S (20 + r) p) && decide (R (120 + r) p = S (120 + r) p))) = (g2 && false) := by
                      show (_ && (allb p _ && (decide _ && _))) = _
                      rw [← Bool.and_assoc, hg2, decide_eq_false c_62, Bool.false_and]
                    refine n_iconst hC (v := nbo false) dX9_isLike_90 (by decide) ?_
                    refine n_iand hC dX9_isLike_91 ?_
                    rw [show (nbo g2) &&& (nbo false) = nbo (g2 && false) from (by cases g2 <;> decide)]
                    refine n_istore_n hC dX9_isLike_92 (Nat.le_of_ble_eq_true rfl) ?_
                    refine n_iincN hC dX9_isLike_93 (j := 1) (c := p + 1) rfl (by decide) rfl ?_
                    refine n_goto hC (tgt := 34) dX9_isLike_96 (by decide) ?_
                    exact WN.forget (L' := [some (.ref (na (b + 9))), some (.ref (na (b2 + 9))), some (.int (nbo (g2 && false))), some (.int (nI r)), some (.int (nI (p + 1)))]) (⟨Or.inr rfl, Or.inr rfl, Or.inr rfl, Or.inr rfl, Or.inr rfl, trivial⟩) (ih34 _ (by omega) (p + 1) (g2 && false) rfl (by omega) hgP)
                  · skip
                    refine n_aload_n hC dX9_isLike_65 rfl ?_
                    refine g_getA hC gW_X9 5 q343 dX9_isLike_66 rfl (by decide) (by decide) ?_
                    refine n_iload_n hC dX9_isLike_69 rfl ?_
                    refine g_rowN hC 5 120 dX9_isLike_70 rfl (by decide) (Or.inr ⟨rfl, rfl⟩) (by omega) ?_
                    refine n_iload hC dX9_isLike_71 rfl ?_
                    refine g_aldN hC gW_X9 (120 + r) (v := R (120 + r) p) dX9_isLike_73 rfl (gI_X9_r (by omega)) (by rw [gL_X9_r (by omega)]; omega) rfl ?_
                    refine n_aload_n hC dX9_isLike_74 rfl ?_
                    refine o_getA hC gW_X9 hO9 5 q343 dX9_isLike_75 rfl (by decide) (by decide) ?_
                    refine n_iload_n hC dX9_isLike_78 rfl ?_
                    refine o_rowN hC hO9 5 120 dX9_isLike_79 rfl (by decide) (Or.inr ⟨rfl, rfl⟩) (by omega) ?_
                    refine n_iload hC dX9_isLike_80 rfl ?_
                    refine o_aldN hC gW_X9 hO9 (120 + r) (v := S (120 + r) p) dX9_isLike_82 rfl (gI_X9_r (by omega)) (by rw [gL_X9]; omega) rfl ?_
                    refine n_icmp_ne hC (tgt := 90) dX9_isLike_83 (by decide) (fun c_83 => ?_) (fun c_83 => ?_)
                    · skip
                      have hgP : ((decide (mN R 6 = mN S 6) && allb r (rdRow R S n)) && allb (p + 1) (fun p => decide (R (20 + r) p = S (20 + r) p) && decide (R (120 + r) p = S (120 + r) p))) = (g2 && false) := by
                        show (_ && (allb p _ && (decide _ && decide _))) = _
                        rw [← Bool.and_assoc, hg2, decide_eq_false c_83, Bool.and_false]
                      refine n_iconst hC (v := nbo false) dX9_isLike_90 (by decide) ?_
                      refine n_iand hC dX9_isLike_91 ?_
                      rw [show (nbo g2) &&& (nbo false) = nbo (g2 && false) from (by cases g2 <;> decide)]
                      refine n_istore_n hC dX9_isLike_92 (Nat.le_of_ble_eq_true rfl) ?_
                      refine n_iincN hC dX9_isLike_93 (j := 1) (c := p + 1) rfl (by decide) rfl ?_
                      refine n_goto hC (tgt := 34) dX9_isLike_96 (by decide) ?_
                      exact WN.forget (L' := [some (.ref (na (b + 9))), some (.ref (na (b2 + 9))), some (.int (nbo (g2 && false))), some (.int (nI r)), some (.int (nI (p + 1)))]) (⟨Or.inr rfl, Or.inr rfl, Or.inr rfl, Or.inr rfl, Or.inr rfl, trivial⟩) (ih34 _ (by omega) (p + 1) (g2 && false) rfl (by omega) hgP)
                    · skip
                      have hgP : ((decide (mN R 6 = mN S 6) && allb r (rdRow R S n)) && allb (p + 1) (fun p => decide (R (20 + r) p = S (20 + r) p) && decide (R (120 + r) p = S (120 + r) p))) = (g2 && true) := by
                        show (_ && (allb p _ && (decide _ && decide _))) = _
                        rw [← Bool.and_assoc, hg2, decide_eq_true c_62, decide_eq_true c_83]
                        rfl
                      refine n_iconst hC (v := nbo true) dX9_isLike_86 (by decide) ?_
                      refine n_goto hC (tgt := 91) dX9_isLike_87 (by decide) ?_
                      refine n_iand hC dX9_isLike_91 ?_
                      rw [show (nbo g2) &&& (nbo true) = nbo (g2 && true) from (by cases g2 <;> decide)]
                      refine n_istore_n hC dX9_isLike_92 (Nat.le_of_ble_eq_true rfl) ?_
                      refine n_iincN hC dX9_isLike_93 (j := 1) (c := p + 1) rfl (by decide) rfl ?_
                      refine n_goto hC (tgt := 34) dX9_isLike_96 (by decide) ?_
                      exact WN.forget (L' := [some (.ref (na (b + 9))), some (.ref (na (b2 + 9))), some (.int (nbo (g2 && true))), some (.int (nI r)), some (.int (nI (p + 1)))]) (⟨Or.inr rfl, Or.inr rfl, Or.inr rfl, Or.inr rfl, Or.inr rfl, trivial⟩) (ih34 _ (by omega) (p + 1) (g2 && true) rfl (by omega) hgP)
            exact WN.forget (L' := [some (.ref (na (b + 9))), some (.ref (na (b2 + 9))), some (.int (nbo g)), some (.int (nI r)), some (.int (nI 0))]) (⟨Or.inr rfl, Or.inr rfl, Or.inr rfl, Or.inr rfl, Or.inr rfl, trivial⟩) (lp34 _ 0 g rfl (by omega) (by rw [hg]; exact Bool.and_true g))
    exact WN.forget (L' := [some (.ref (na (b + 9))), some (.ref (na (b2 + 9))), some (.int (nbo true)), some (.int (nI 0)), none]) (⟨Or.inr rfl, Or.inr rfl, Or.inr rfl, Or.inr rfl, Or.inl rfl, trivial⟩) (lp19 _ 0 true rfl (by omega) (by show (decide _ && true) = true; rw [decide_eq_true (show mN R 6 = mN S 6 by omega)]; rfl))

