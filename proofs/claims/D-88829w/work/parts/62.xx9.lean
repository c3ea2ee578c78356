/-! ===== THE CLASS: dancers, acts ===== -/
set_option maxRecDepth 100000
theorem xPut_p {na : nA} {h : nH} {X : xX} {p k : Nat} (hp : p < 15) (c30 : X.1 30 p = nI (4 + k)) (hk : k ≤ 4) : xPut na h X (131 + p) = some (.inr (4 + k, [.ref (na (bB 0 + 9)), .int (nI p), .int (X.1 31 p), .int (X.1 32 p)])) := by
  rw [show 131 + p = 100 + (31 + p) by omega, xPut_own (by omega), xOwn_p hp (by
    rw [c30]
    intro z
    have := nI_inj (a := 4 + k) (b := 0) (by omega) (by decide) z
    omega), c30, nI_clamp (by omega)]
/-- a body that ran -/
theorem xRel.ran {C : nMem} {B : Nat → nMem} {P : Nat → Nat × Nat} {I : Nat → Nat} {M R2 : nMem} {b : Nat} (h : xRel (C, B, P, I) M) (h55 : M 55 0 = nI (mN M 55)) (b55 : mN M 55 ≤ 999) (e : R2 = mset (mset (B 0) 0 (if mN M 55 < 20 then upd (B 0 0) (mN M 55) (nI b) else B 0 0)) 1 (fun _ => nI (mN M 55 + 1))) : xRel (C, bset B 0 R2, P, I) (bds [b] M) := by
  obtain ⟨hw, gPe, gRi, gCl, gSt, gTh, gFi, gTx, gTr, gTp, gRd, gOr⟩ := h
  dsimp only at hw gPe gRi gCl gSt gTh gFi gTx gTr gTp gRd gOr
  obtain ⟨t1, t2, t3⟩ := gTr
  have hFi : xgFi C B P I (bds [b] M) := gFi
  have hTp : xgTp B P I (bds [b] M) := gTp
  have hRd : xgRd B P I (bds [b] M) := gRd
  refine ⟨hw, gPe, gRi, gCl, gSt, gTh, hFi.bs (by rw [t1]; decide), gTx, ⟨t1, ?_, fun i h1 h2 => ?_⟩, hTp.bs (by rw [t1]; decide), hRd.bs (by rw [t1]; decide), gOr.bs (by rw [t1]; decide)⟩
  · dsimp only
    rw [bset_s, e]
    rfl
  · dsimp only
    rw [bset_s, e]
    rw [mN_of (M := bds [b] M) (k := 55) (n := mN M 55 + 1) rfl (by omega)] at h2
    show (if mN M 55 < 20 then upd (B 0 0) (mN M 55) (nI b) else B 0 0) i = (if mN M 55 < 20 then upd (M 56) (mN M 55) (nI b) else M 56) i
    by_cases c : mN M 55 < 20
    · rw [if_pos c, if_pos c]
      by_cases q : i = mN M 55
      · rw [q, upd_s, upd_s]
      · rw [upd_n q, upd_n q]
        exact t3 i h1 (by omega)
    · rw [if_neg c, if_neg c]
      exact t3 i h1 (by omega)
def xDn (na : nA) (h : nH) (C : nMem) (P : Nat → Nat × Nat) (I : Nat → Nat) (M : nMem) (v : Int32) (l : List Nat) : Int32 → nA → nH → Prop := fun r na' h' => v = r ∧ na = na' ∧ ∃ B2, xPut na h (C, B2, P, I) = h' ∧ xRel (C, B2, P, I) (bds l M)
theorem bds_55 {l : List Nat} {M : nMem} (h55 : M 55 0 = nI (mN M 55)) (hb : mN M 55 + l.length ≤ 1000) : bds l M 55 0 = nI (mN (bds l M) 55) ∧ mN (bds l M) 55 = mN M 55 + l.length := by
  obtain ⟨a, b⟩ := bds_n h55 hb
  exact ⟨by rw [b]; exact a, b⟩
set_option maxHeartbeats 4000000 in
set_option maxRecDepth 100000 in
theorem ct_X4_greets_0 (na : nA) (h : nH) (C : nMem) (B : Nat → nMem) (P : Nat → Nat × Nat) (I : Nat → Nat) (M : nMem) (hR : xRel (C, B, P, I) M) (h55 : M 55 0 = nI (mN M 55)) (b55 : mN M 55 ≤ 995) {p : Nat} (hp : p < 15) (c30 : C 30 p = nI (4 + 0)) (x : Int32) : nM yX4_greets cX4_greets 2 (some .int) (nRm 1 0 0) [.ref (na (131 + p)), .int x] na (xPut na h (C, B, P, I)) (nQi (xDn na h C P I M (x + C 31 p) ([10]))) 0 0 := by
  refine nM.ofN RX4 rfl (by decide) (by intro v hv; simp only [List.mem_cons, List.not_mem_nil, or_false] at hv; rcases hv with rfl | rfl <;> rfl) (Nat.le_of_ble_eq_true rfl) (fun K hC hnm => ?_)
  show WN K na (xPut na h (C, B, P, I)) 0 0 (nE K (nQi (xDn na h C P I M (x + C 31 p) ([10]))) 0 0) 0 [some (.ref (na (131 + p))), some (.int x)] []
  let Q9 : State → Prop := nE K (nQi (xDn na h C P I M (x + C 31 p) ([10]))) 0 0
  show WN K na (xPut na h (C, B, P, I)) 0 0 Q9 0 [some (.ref (na (131 + p))), some (.int x)] []
  refine n_aload_n hC dX4_greets_0 rfl ?_
  refine n_get hC in_X4 0 q255 dX4_greets_1 rfl (xPut_p (k := 0) hp c30 (by decide)) rfl (by decide) rfl rfl ?_
  refine n_bipush hC (v := nI 10) dX4_greets_4 (by decide) ?_
  refine n_callV1v hC (xc_rel (i := 0) (c := (1, 0)) hR.2.2.2.2.2.2.2.2.1.1 ⟨by decide, by decide⟩ (ct_X1_ran (bB 0) na _ (B 0) (c := mN M 55) (hR.2.2.2.2.2.2.2.2.1.2.1.trans h55) (by omega) 10)) md_X1_ran q925 dX4_greets_6 rfl ((xBlk_o (na := na) (h := h) (X := (C, B, P, I)) (i := 0) (c := (1, 0)) hR.2.2.2.2.2.2.2.2.1.1 ⟨by decide, by decide⟩ 9 (by decide)).trans (if_pos rfl)) rfl rfl ⟨rfl, rfl, by decide, by decide⟩ rfl (Nat.le_of_ble_eq_true rfl) (by decide) (by decide) (fun na0 h0 hp0 => ?_)
  obtain ⟨rfl, R0, rfl, eR9⟩ := hp0
  have hR := hR.ran h55 (by omega) eR9
  obtain ⟨h55, e55⟩ := bds_55 (l := [10]) h55 (by show _ + 1 ≤ 1000; omega)
  have e55 : mN (bds [10] M) 55 = mN M 55 + 1 := e55
  refine n_iload_n hC dX4_greets_9 rfl ?_
  refine n_aload_n hC dX4_greets_10 rfl ?_
  refine n_get hC in_X4 2 q265 dX4_greets_11 rfl (xPut_p (k := 0) hp c30 (by decide)) rfl (by decide) rfl rfl ?_
  refine n_iadd hC dX4_greets_14 ?_
  exact n_iret hC dX4_greets_15 (by decide) (by decide) (⟨rfl, rfl, _, rfl, hR⟩)

set_option maxHeartbeats 4000000 in
set_option maxRecDepth 100000 in
theorem ct_X4_greets_1 (na : nA) (h : nH) (C : nMem) (B : Nat → nMem) (P : Nat → Nat × Nat) (I : Nat → Nat) (M : nMem) (hR : xRel (C, B, P, I) M) (h55 : M 55 0 = nI (mN M 55)) (b55 : mN M 55 ≤ 995) {p : Nat} (hp : p < 15) (c30 : C 30 p = nI (4 + 1)) (x : Int32) : nM yX4_greets cX4_greets 2 (some .int) (nRm 1 0 0) [.ref (na (131 + p)), .int x] na (xPut na h (C, B, P, I)) (nQi (xDn na h C P I M (x + C 31 p) ([10]))) 0 0 := by
  refine nM.ofN RX4 rfl (by decide) (by intro v hv; simp only [List.mem_cons, List.not_mem_nil, or_false] at hv; rcases hv with rfl | rfl <;> rfl) (Nat.le_of_ble_eq_true rfl) (fun K hC hnm => ?_)
  show WN K na (xPut na h (C, B, P, I)) 0 0 (nE K (nQi (xDn na h C P I M (x + C 31 p) ([10]))) 0 0) 0 [some (.ref (na (131 + p))), some (.int x)] []
  let Q9 : State → Prop := nE K (nQi (xDn na h C P I M (x + C 31 p) ([10]))) 0 0
  show WN K na (xPut na h (C, B, P, I)) 0 0 Q9 0 [some (.ref (na (131 + p))), some (.int x)] []
  refine n_aload_n hC dX4_greets_0 rfl ?_
  refine n_get hC in_X5 0 q255 dX4_greets_1 rfl (xPut_p (k := 1) hp c30 (by decide)) rfl (by decide) rfl rfl ?_
  refine n_bipush hC (v := nI 10) dX4_greets_4 (by decide) ?_
  refine n_callV1v hC (xc_rel (i := 0) (c := (1, 0)) hR.2.2.2.2.2.2.2.2.1.1 ⟨by decide, by decide⟩ (ct_X1_ran (bB 0) na _ (B 0) (c := mN M 55) (hR.2.2.2.2.2.2.2.2.1.2.1.trans h55) (by omega) 10)) md_X1_ran q925 dX4_greets_6 rfl ((xBlk_o (na := na) (h := h) (X := (C, B, P, I)) (i := 0) (c := (1, 0)) hR.2.2.2.2.2.2.2.2.1.1 ⟨by decide, by decide⟩ 9 (by decide)).trans (if_pos rfl)) rfl rfl ⟨rfl, rfl, by decide, by decide⟩ rfl (Nat.le_of_ble_eq_true rfl) (by decide) (by decide) (fun na0 h0 hp0 => ?_)
  obtain ⟨rfl, R0, rfl, eR9⟩ := hp0
  have hR := hR.ran h55 (by omega) eR9
  obtain ⟨h55, e55⟩ := bds_55 (l := [10]) h55 (by show _ + 1 ≤ 1000; omega)
  have e55 : mN (bds [10] M) 55 = mN M 55 + 1 := e55
  refine n_iload_n hC dX4_greets_9 rfl ?_
  refine n_aload_n hC dX4_greets_10 rfl ?_
  refine n_get hC in_X5 2 q265 dX4_greets_11 rfl (xPut_p (k := 1) hp c30 (by decide)) rfl (by decide) rfl rfl ?_
  refine n_iadd hC dX4_greets_14 ?_
  exact n_iret hC dX4_greets_15 (by decide) (by decide) (⟨rfl, rfl, _, rfl, hR⟩)

set_option maxHeartbeats 4000000 in
set_option maxRecDepth 100000 in
theorem ct_X4_greets_2 (na : nA) (h : nH) (C : nMem) (B : Nat → nMem) (P : Nat → Nat × Nat) (I : Nat → Nat) (M : nMem) (hR : xRel (C, B, P, I) M) (h55 : M 55 0 = nI (mN M 55)) (b55 : mN M 55 ≤ 995) {p : Nat} (hp : p < 15) (c30 : C 30 p = nI (4 + 2)) (x : Int32) : nM yX4_greets cX4_greets 2 (some .int) (nRm 1 0 0) [.ref (na (131 + p)), .int x] na (xPut na h (C, B, P, I)) (nQi (xDn na h C P I M (x + C 31 p) ([10]))) 0 0 := by
  refine nM.ofN RX4 rfl (by decide) (by intro v hv; simp only [List.mem_cons, List.not_mem_nil, or_false] at hv; rcases hv with rfl | rfl <;> rfl) (Nat.le_of_ble_eq_true rfl) (fun K hC hnm => ?_)
  show WN K na (xPut na h (C, B, P, I)) 0 0 (nE K (nQi (xDn na h C P I M (x + C 31 p) ([10]))) 0 0) 0 [some (.ref (na (131 + p))), some (.int x)] []
  let Q9 : State → Prop := nE K (nQi (xDn na h C P I M (x + C 31 p) ([10]))) 0 0
  show WN K na (xPut na h (C, B, P, I)) 0 0 Q9 0 [some (.ref (na (131 + p))), some (.int x)] []
  refine n_aload_n hC dX4_greets_0 rfl ?_
  refine n_get hC in_X6 0 q255 dX4_greets_1 rfl (xPut_p (k := 2) hp c30 (by decide)) rfl (by decide) rfl rfl ?_
  refine n_bipush hC (v := nI 10) dX4_greets_4 (by decide) ?_
  refine n_callV1v hC (xc_rel (i := 0) (c := (1, 0)) hR.2.2.2.2.2.2.2.2.1.1 ⟨by decide, by decide⟩ (ct_X1_ran (bB 0) na _ (B 0) (c := mN M 55) (hR.2.2.2.2.2.2.2.2.1.2.1.trans h55) (by omega) 10)) md_X1_ran q925 dX4_greets_6 rfl ((xBlk_o (na := na) (h := h) (X := (C, B, P, I)) (i := 0) (c := (1, 0)) hR.2.2.2.2.2.2.2.2.1.1 ⟨by decide, by decide⟩ 9 (by decide)).trans (if_pos rfl)) rfl rfl ⟨rfl, rfl, by decide, by decide⟩ rfl (Nat.le_of_ble_eq_true rfl) (by decide) (by decide) (fun na0 h0 hp0 => ?_)
  obtain ⟨rfl, R0, rfl, eR9⟩ := hp0
  have hR := hR.ran h55 (by omega) eR9
  obtain ⟨h55, e55⟩ := bds_55 (l := [10]) h55 (by show _ + 1 ≤ 1000; omega)
  have e55 : mN (bds [10] M) 55 = mN M 55 + 1 := e55
  refine n_iload_n hC dX4_greets_9 rfl ?_
  refine n_aload_n hC dX4_greets_10 rfl ?_
  refine n_get hC in_X6 2 q265 dX4_greets_11 rfl (xPut_p (k := 2) hp c30 (by decide)) rfl (by decide) rfl rfl ?_
  refine n_iadd hC dX4_greets_14 ?_
  exact n_iret hC dX4_greets_15 (by decide) (by decide) (⟨rfl, rfl, _, rfl, hR⟩)

set_option maxHeartbeats 4000000 in
set_option maxRecDepth 100000 in
theorem ct_X4_greets_3 (na : nA) (h : nH) (C : nMem) (B : Nat → nMem) (P : Nat → Nat × Nat) (I : Nat → Nat) (M : nMem) (hR : xRel (C, B, P, I) M) (h55 : M 55 0 = nI (mN M 55)) (b55 : mN M 55 ≤ 995) {p : Nat} (hp : p < 15) (c30 : C 30 p = nI (4 + 3)) (x : Int32) : nM yX4_greets cX4_greets 2 (some .int) (nRm 1 0 0) [.ref (na (131 + p)), .int x] na (xPut na h (C, B, P, I)) (nQi (xDn na h C P I M (x + C 31 p) ([10]))) 0 0 := by
  refine nM.ofN RX4 rfl (by decide) (by intro v hv; simp only [List.mem_cons, List.not_mem_nil, or_false] at hv; rcases hv with rfl | rfl <;> rfl) (Nat.le_of_ble_eq_true rfl) (fun K hC hnm => ?_)
  show WN K na (xPut na h (C, B, P, I)) 0 0 (nE K (nQi (xDn na h C P I M (x + C 31 p) ([10]))) 0 0) 0 [some (.ref (na (131 + p))), some (.int x)] []
  let Q9 : State → Prop := nE K (nQi (xDn na h C P I M (x + C 31 p) ([10]))) 0 0
  show WN K na (xPut na h (C, B, P, I)) 0 0 Q9 0 [some (.ref (na (131 + p))), some (.int x)] []
  refine n_aload_n hC dX4_greets_0 rfl ?_
  refine n_get hC in_X7 0 q255 dX4_greets_1 rfl (xPut_p (k := 3) hp c30 (by decide)) rfl (by decide) rfl rfl ?_
  refine n_bipush hC (v := nI 10) dX4_greets_4 (by decide) ?_
  refine n_callV1v hC (xc_rel (i := 0) (c := (1, 0)) hR.2.2.2.2.2.2.2.2.1.1 ⟨by decide, by decide⟩ (ct_X1_ran (bB 0) na _ (B 0) (c := mN M 55) (hR.2.2.2.2.2.2.2.2.1.2.1.trans h55) (by omega) 10)) md_X1_ran q925 dX4_greets_6 rfl ((xBlk_o (na := na) (h := h) (X := (C, B, P, I)) (i := 0) (c := (1, 0)) hR.2.2.2.2.2.2.2.2.1.1 ⟨by decide, by decide⟩ 9 (by decide)).trans (if_pos rfl)) rfl rfl ⟨rfl, rfl, by decide, by decide⟩ rfl (Nat.le_of_ble_eq_true rfl) (by decide) (by decide) (fun na0 h0 hp0 => ?_)
  obtain ⟨rfl, R0, rfl, eR9⟩ := hp0
  have hR := hR.ran h55 (by omega) eR9
  obtain ⟨h55, e55⟩ := bds_55 (l := [10]) h55 (by show _ + 1 ≤ 1000; omega)
  have e55 : mN (bds [10] M) 55 = mN M 55 + 1 := e55
  refine n_iload_n hC dX4_greets_9 rfl ?_
  refine n_aload_n hC dX4_greets_10 rfl ?_
  refine n_get hC in_X7 2 q265 dX4_greets_11 rfl (xPut_p (k := 3) hp c30 (by decide)) rfl (by decide) rfl rfl ?_
  refine n_iadd hC dX4_greets_14 ?_
  exact n_iret hC dX4_greets_15 (by decide) (by decide) (⟨rfl, rfl, _, rfl, hR⟩)

set_option maxHeartbeats 4000000 in
set_option maxRecDepth 100000 in
theorem ct_X4_greets_4 (na : nA) (h : nH) (C : nMem) (B : Nat → nMem) (P : Nat → Nat × Nat) (I : Nat → Nat) (M : nMem) (hR : xRel (C, B, P, I) M) (h55 : M 55 0 = nI (mN M 55)) (b55 : mN M 55 ≤ 995) {p : Nat} (hp : p < 15) (c30 : C 30 p = nI (4 + 4)) (x : Int32) : nM yX4_greets cX4_greets 2 (some .int) (nRm 1 0 0) [.ref (na (131 + p)), .int x] na (xPut na h (C, B, P, I)) (nQi (xDn na h C P I M (x + C 31 p) ([10]))) 0 0 := by
  refine nM.ofN RX4 rfl (by decide) (by intro v hv; simp only [List.mem_cons, List.not_mem_nil, or_false] at hv; rcases hv with rfl | rfl <;> rfl) (Nat.le_of_ble_eq_true rfl) (fun K hC hnm => ?_)
  show WN K na (xPut na h (C, B, P, I)) 0 0 (nE K (nQi (xDn na h C P I M (x + C 31 p) ([10]))) 0 0) 0 [some (.ref (na (131 + p))), some (.int x)] []
  let Q9 : State → Prop := nE K (nQi (xDn na h C P I M (x + C 31 p) ([10]))) 0 0
  show WN K na (xPut na h (C, B, P, I)) 0 0 Q9 0 [some (.ref (na (131 + p))), some (.int x)] []
  refine n_aload_n hC dX4_greets_0 rfl ?_
  refine n_get hC in_X8 0 q255 dX4_greets_1 rfl (xPut_p (k := 4) hp c30 (by decide)) rfl (by decide) rfl rfl ?_
  refine n_bipush hC (v := nI 10) dX4_greets_4 (by decide) ?_
  refine n_callV1v hC (xc_rel (i := 0) (c := (1, 0)) hR.2.2.2.2.2.2.2.2.1.1 ⟨by decide, by decide⟩ (ct_X1_ran (bB 0) na _ (B 0) (c := mN M 55) (hR.2.2.2.2.2.2.2.2.1.2.1.trans h55) (by omega) 10)) md_X1_ran q925 dX4_greets_6 rfl ((xBlk_o (na := na) (h := h) (X := (C, B, P, I)) (i := 0) (c := (1, 0)) hR.2.2.2.2.2.2.2.2.1.1 ⟨by decide, by decide⟩ 9 (by decide)).trans (if_pos rfl)) rfl rfl ⟨rfl, rfl, by decide, by decide⟩ rfl (Nat.le_of_ble_eq_true rfl) (by decide) (by decide) (fun na0 h0 hp0 => ?_)
  obtain ⟨rfl, R0, rfl, eR9⟩ := hp0
  have hR := hR.ran h55 (by omega) eR9
  obtain ⟨h55, e55⟩ := bds_55 (l := [10]) h55 (by show _ + 1 ≤ 1000; omega)
  have e55 : mN (bds [10] M) 55 = mN M 55 + 1 := e55
  refine n_iload_n hC dX4_greets_9 rfl ?_
  refine n_aload_n hC dX4_greets_10 rfl ?_
  refine n_get hC in_X8 2 q265 dX4_greets_11 rfl (xPut_p (k := 4) hp c30 (by decide)) rfl (by decide) rfl rfl ?_
  refine n_iadd hC dX4_greets_14 ?_
  exact n_iret hC dX4_greets_15 (by decide) (by decide) (⟨rfl, rfl, _, rfl, hR⟩)

set_option maxHeartbeats 4000000 in
set_option maxRecDepth 100000 in
theorem ct_X5_greets_1 (na : nA) (h : nH) (C : nMem) (B : Nat → nMem) (P : Nat → Nat × Nat) (I : Nat → Nat) (M : nMem) (hR : xRel (C, B, P, I) M) (h55 : M 55 0 = nI (mN M 55)) (b55 : mN M 55 ≤ 990) {p : Nat} (hp : p < 15) (c30 : C 30 p = nI (4 + 1)) (x : Int32) : nM yX5_greets cX5_greets 2 (some .int) (nRm 2 0 0) [.ref (na (131 + p)), .int x] na (xPut na h (C, B, P, I)) (nQi (xDn na h C P I M (vG 1 (C 31 p) x) ([20, 10]))) 0 0 := by
  refine nM.ofN RX5 rfl (by decide) (by intro v hv; simp only [List.mem_cons, List.not_mem_nil, or_false] at hv; rcases hv with rfl | rfl <;> rfl) (Nat.le_of_ble_eq_true rfl) (fun K hC hnm => ?_)
  show WN K na (xPut na h (C, B, P, I)) 0 0 (nE K (nQi (xDn na h C P I M (vG 1 (C 31 p) x) ([20, 10]))) 0 0) 0 [some (.ref (na (131 + p))), some (.int x)] []
  let Q9 : State → Prop := nE K (nQi (xDn na h C P I M (vG 1 (C 31 p) x) ([20, 10]))) 0 0
  show WN K na (xPut na h (C, B, P, I)) 0 0 Q9 0 [some (.ref (na (131 + p))), some (.int x)] []
  refine n_aload_n hC dX5_greets_0 rfl ?_
  refine n_getS hC in_X5 0 q256 q257 dX5_greets_1 rfl (xPut_p (k := 1) hp c30 (by decide)) rfl (by decide) rfl ?_
  refine n_bipush hC (v := nI 20) dX5_greets_4 (by decide) ?_
  refine n_callV1v hC (xc_rel (i := 0) (c := (1, 0)) hR.2.2.2.2.2.2.2.2.1.1 ⟨by decide, by decide⟩ (ct_X1_ran (bB 0) na _ (B 0) (c := mN M 55) (hR.2.2.2.2.2.2.2.2.1.2.1.trans h55) (by omega) 20)) md_X1_ran q919 dX5_greets_6 rfl ((xBlk_o (na := na) (h := h) (X := (C, B, P, I)) (i := 0) (c := (1, 0)) hR.2.2.2.2.2.2.2.2.1.1 ⟨by decide, by decide⟩ 9 (by decide)).trans (if_pos rfl)) rfl rfl ⟨rfl, rfl, by decide, by decide⟩ rfl (Nat.le_of_ble_eq_true rfl) (by decide) (by decide) (fun na0 h0 hp0 => ?_)
  obtain ⟨rfl, R0, rfl, eR9⟩ := hp0
  have hR := hR.ran h55 (by omega) eR9
  obtain ⟨h55, e55⟩ := bds_55 (l := [20]) h55 (by show _ + 1 ≤ 1000; omega)
  have e55 : mN (bds [20] M) 55 = mN M 55 + 1 := e55
  refine n_aload_n hC dX5_greets_9 rfl ?_
  refine n_iload_n hC dX5_greets_10 rfl ?_
  refine n_callP1i hC (ct_X4_greets_1 na _ C (bset B 0 R0) P I (bds [20] M) hR h55 (by omega) hp c30 x) q924 q83 q923 q915 q288 q913 ⟨by decide, by decide +kernel⟩ dX5_greets_11 rfl (xPut_p (k := 1) hp c30 (by decide)) rfl ⟨rfl, rfl, by decide, by decide⟩ rfl (Nat.le_of_ble_eq_true rfl) (by decide) (by decide) (fun r1 na1 h1 hp1 => ?_)
  obtain ⟨rfl, rfl, B1, rfl, hR⟩ := hp1
  obtain ⟨h55, e551⟩ := bds_55 (l := [10]) h55 (by show _ + 1 ≤ 1000; omega)
  have e551 : mN (bds ([10]) (bds [20] M)) 55 = mN (bds [20] M) 55 + 1 := e551
  refine n_iconst hC (v := nI 4) dX5_greets_14 (by decide) ?_
  refine n_isub hC dX5_greets_15 ?_
  exact n_iret hC dX5_greets_16 (by decide) (by decide) (⟨rfl, rfl, _, rfl, by rw [← bds_app, show (([20] ++ ([10])) : List Nat) = [20, 10] from rfl] at hR; exact hR⟩)

set_option maxHeartbeats 4000000 in
set_option maxRecDepth 100000 in
theorem ct_X7_greets_3 (na : nA) (h : nH) (C : nMem) (B : Nat → nMem) (P : Nat → Nat × Nat) (I : Nat → Nat) (M : nMem) (hR : xRel (C, B, P, I) M) (h55 : M 55 0 = nI (mN M 55)) (b55 : mN M 55 ≤ 990) {p : Nat} (hp : p < 15) (c30 : C 30 p = nI (4 + 3)) (x : Int32) : nM yX7_greets cX7_greets 2 (some .int) (nRm 2 0 0) [.ref (na (131 + p)), .int x] na (xPut na h (C, B, P, I)) (nQi (xDn na h C P I M (vG 3 (C 31 p) x) ([40, 10]))) 0 0 := by
  refine nM.ofN RX7 rfl (by decide) (by intro v hv; simp only [List.mem_cons, List.not_mem_nil, or_false] at hv; rcases hv with rfl | rfl <;> rfl) (Nat.le_of_ble_eq_true rfl) (fun K hC hnm => ?_)
  show WN K na (xPut na h (C, B, P, I)) 0 0 (nE K (nQi (xDn na h C P I M (vG 3 (C 31 p) x) ([40, 10]))) 0 0) 0 [some (.ref (na (131 + p))), some (.int x)] []
  let Q9 : State → Prop := nE K (nQi (xDn na h C P I M (vG 3 (C 31 p) x) ([40, 10]))) 0 0
  show WN K na (xPut na h (C, B, P, I)) 0 0 Q9 0 [some (.ref (na (131 + p))), some (.int x)] []
  refine n_aload_n hC dX7_greets_0 rfl ?_
  refine n_getS hC in_X7 0 q258 q259 dX7_greets_1 rfl (xPut_p (k := 3) hp c30 (by decide)) rfl (by decide) rfl ?_
  refine n_bipush hC (v := nI 40) dX7_greets_4 (by decide) ?_
  refine n_callV1v hC (xc_rel (i := 0) (c := (1, 0)) hR.2.2.2.2.2.2.2.2.1.1 ⟨by decide, by decide⟩ (ct_X1_ran (bB 0) na _ (B 0) (c := mN M 55) (hR.2.2.2.2.2.2.2.2.1.2.1.trans h55) (by omega) 40)) md_X1_ran q929 dX7_greets_6 rfl ((xBlk_o (na := na) (h := h) (X := (C, B, P, I)) (i := 0) (c := (1, 0)) hR.2.2.2.2.2.2.2.2.1.1 ⟨by decide, by decide⟩ 9 (by decide)).trans (if_pos rfl)) rfl rfl ⟨rfl, rfl, by decide, by decide⟩ rfl (Nat.le_of_ble_eq_true rfl) (by decide) (by decide) (fun na0 h0 hp0 => ?_)
  obtain ⟨rfl, R0, rfl, eR9⟩ := hp0
  have hR := hR.ran h55 (by omega) eR9
  obtain ⟨h55, e55⟩ := bds_55 (l := [40]) h55 (by show _ + 1 ≤ 1000; omega)
  have e55 : mN (bds [40] M) 55 = mN M 55 + 1 := e55
  refine n_aload_n hC dX7_greets_9 rfl ?_
  refine n_iload_n hC dX7_greets_10 rfl ?_
  refine n_iconst hC (v := nI 3) dX7_greets_11 (by decide) ?_
  refine n_imul hC dX7_greets_12 ?_
  refine n_callPP1i hC (ct_X4_greets_3 na _ C (bset B 0 R0) P I (bds [40] M) hR h55 (by omega) hp c30 (x * (nI 3))) q924 q83 q930 q931 rfl q310 q299 q913 ⟨by decide, by decide +kernel⟩ dX7_greets_13 rfl (xPut_p (k := 3) hp c30 (by decide)) rfl ⟨rfl, rfl, by decide, by decide⟩ rfl (Nat.le_of_ble_eq_true rfl) (by decide) (by decide) (fun r1 na1 h1 hp1 => ?_)
  obtain ⟨rfl, rfl, B1, rfl, hR⟩ := hp1
  obtain ⟨h55, e551⟩ := bds_55 (l := [10]) h55 (by show _ + 1 ≤ 1000; omega)
  have e551 : mN (bds ([10]) (bds [40] M)) 55 = mN (bds [40] M) 55 + 1 := e551
  exact n_iret hC dX7_greets_16 (by decide) (by decide) (⟨rfl, rfl, _, rfl, by rw [← bds_app, show (([40] ++ ([10])) : List Nat) = [40, 10] from rfl] at hR; exact hR⟩)

set_option maxHeartbeats 4000000 in
set_option maxRecDepth 100000 in
theorem ct_X4_leads_0 (na : nA) (h : nH) (C : nMem) (B : Nat → nMem) (P : Nat → Nat × Nat) (I : Nat → Nat) (M : nMem) (hR : xRel (C, B, P, I) M) (h55 : M 55 0 = nI (mN M 55)) (b55 : mN M 55 ≤ 980) {p : Nat} (hp : p < 15) (c30 : C 30 p = nI (4 + 0)) (x : Int32) : nM yX4_leads cX4_leads 2 (some .int) (nRm 3 0 0) [.ref (na (131 + p)), .int x] na (xPut na h (C, B, P, I)) (nQi (xDn na h C P I M (vPL 0 (C 31 p) (C 32 p) x) (tPL 0))) 0 0 := by
  refine nM.ofN RX4 rfl (by decide) (by intro v hv; simp only [List.mem_cons, List.not_mem_nil, or_false] at hv; rcases hv with rfl | rfl <;> rfl) (Nat.le_of_ble_eq_true rfl) (fun K hC hnm => ?_)
  show WN K na (xPut na h (C, B, P, I)) 0 0 (nE K (nQi (xDn na h C P I M (vPL 0 (C 31 p) (C 32 p) x) (tPL 0))) 0 0) 0 [some (.ref (na (131 + p))), some (.int x)] []
  let Q9 : State → Prop := nE K (nQi (xDn na h C P I M (vPL 0 (C 31 p) (C 32 p) x) (tPL 0))) 0 0
  show WN K na (xPut na h (C, B, P, I)) 0 0 Q9 0 [some (.ref (na (131 + p))), some (.int x)] []
  refine n_aload_n hC dX4_leads_0 rfl ?_
  refine n_get hC in_X4 0 q255 dX4_leads_1 rfl (xPut_p (k := 0) hp c30 (by decide)) rfl (by decide) rfl rfl ?_
  refine n_bipush hC (v := nI 11) dX4_leads_4 (by decide) ?_
  refine n_callV1v hC (xc_rel (i := 0) (c := (1, 0)) hR.2.2.2.2.2.2.2.2.1.1 ⟨by decide, by decide⟩ (ct_X1_ran (bB 0) na _ (B 0) (c := mN M 55) (hR.2.2.2.2.2.2.2.2.1.2.1.trans h55) (by omega) 11)) md_X1_ran q925 dX4_leads_6 rfl ((xBlk_o (na := na) (h := h) (X := (C, B, P, I)) (i := 0) (c := (1, 0)) hR.2.2.2.2.2.2.2.2.1.1 ⟨by decide, by decide⟩ 9 (by decide)).trans (if_pos rfl)) rfl rfl ⟨rfl, rfl, by decide, by decide⟩ rfl (Nat.le_of_ble_eq_true rfl) (by decide) (by decide) (fun na0 h0 hp0 => ?_)
  obtain ⟨rfl, R0, rfl, eR9⟩ := hp0
  have hR := hR.ran h55 (by omega) eR9
  obtain ⟨h55, e55⟩ := bds_55 (l := [11]) h55 (by show _ + 1 ≤ 1000; omega)
  have e55 : mN (bds [11] M) 55 = mN M 55 + 1 := e55
  refine n_aload_n hC dX4_leads_9 rfl ?_
  refine n_iload_n hC dX4_leads_10 rfl ?_
  refine n_callU1i hC (ct_X4_greets_0 na _ C (bset B 0 R0) P I (bds [11] M) hR h55 (by omega) hp c30 x) q924 q83 q949 q915 q913 q924 q914 q913 ⟨by decide, by decide, by decide +kernel⟩ dX4_leads_11 rfl (xPut_p (k := 0) hp c30 (by decide)) rfl ⟨rfl, rfl, by decide, by decide⟩ rfl (Nat.le_of_ble_eq_true rfl) (by decide) (by decide) (fun r1 na1 h1 hp1 => ?_)
  obtain ⟨rfl, rfl, B1, rfl, hR⟩ := hp1
  obtain ⟨h55, e551⟩ := bds_55 (l := [10]) h55 (by show _ + 1 ≤ 1000; omega)
  have e551 : mN (bds ([10]) (bds [11] M)) 55 = mN (bds [11] M) 55 + 1 := e551
  refine n_aload_n hC dX4_leads_14 rfl ?_
  refine n_get hC in_X4 3 q267 dX4_leads_15 rfl (xPut_p (k := 0) hp c30 (by decide)) rfl (by decide) rfl rfl ?_
  refine n_isub hC dX4_leads_18 ?_
  exact n_iret hC dX4_leads_19 (by decide) (by decide) (⟨rfl, rfl, _, rfl, by rw [← bds_app, show (([11] ++ ([10])) : List Nat) = tPL 0 from rfl] at hR; exact hR⟩)

set_option maxHeartbeats 4000000 in
set_option maxRecDepth 100000 in
theorem ct_X4_leads_1 (na : nA) (h : nH) (C : nMem) (B : Nat → nMem) (P : Nat → Nat × Nat) (I : Nat → Nat) (M : nMem) (hR : xRel (C, B, P, I) M) (h55 : M 55 0 = nI (mN M 55)) (b55 : mN M 55 ≤ 980) {p : Nat} (hp : p < 15) (c30 : C 30 p = nI (4 + 1)) (x : Int32) : nM yX4_leads cX4_leads 2 (some .int) (nRm 3 0 0) [.ref (na (131 + p)), .int x] na (xPut na h (C, B, P, I)) (nQi (xDn na h C P I M (vPL 1 (C 31 p) (C 32 p) x) (tPL 1))) 0 0 := by
  refine nM.ofN RX4 rfl (by decide) (by intro v hv; simp only [List.mem_cons, List.not_mem_nil, or_false] at hv; rcases hv with rfl | rfl <;> rfl) (Nat.le_of_ble_eq_true rfl) (fun K hC hnm => ?_)
  show WN K na (xPut na h (C, B, P, I)) 0 0 (nE K (nQi (xDn na h C P I M (vPL 1 (C 31 p) (C 32 p) x) (tPL 1))) 0 0) 0 [some (.ref (na (131 + p))), some (.int x)] []
  let Q9 : State → Prop := nE K (nQi (xDn na h C P I M (vPL 1 (C 31 p) (C 32 p) x) (tPL 1))) 0 0
  show WN K na (xPut na h (C, B, P, I)) 0 0 Q9 0 [some (.ref (na (131 + p))), some (.int x)] []
  refine n_aload_n hC dX4_leads_0 rfl ?_
  refine n_get hC in_X5 0 q255 dX4_leads_1 rfl (xPut_p (k := 1) hp c30 (by decide)) rfl (by decide) rfl rfl ?_
  refine n_bipush hC (v := nI 11) dX4_leads_4 (by decide) ?_
  refine n_callV1v hC (xc_rel (i := 0) (c := (1, 0)) hR.2.2.2.2.2.2.2.2.1.1 ⟨by decide, by decide⟩ (ct_X1_ran (bB 0) na _ (B 0) (c := mN M 55) (hR.2.2.2.2.2.2.2.2.1.2.1.trans h55) (by omega) 11)) md_X1_ran q925 dX4_leads_6 rfl ((xBlk_o (na := na) (h := h) (X := (C, B, P, I)) (i := 0) (c := (1, 0)) hR.2.2.2.2.2.2.2.2.1.1 ⟨by decide, by decide⟩ 9 (by decide)).trans (if_pos rfl)) rfl rfl ⟨rfl, rfl, by decide, by decide⟩ rfl (Nat.le_of_ble_eq_true rfl) (by decide) (by decide) (fun na0 h0 hp0 => ?_)
  obtain ⟨rfl, R0, rfl, eR9⟩ := hp0
  have hR := hR.ran h55 (by omega) eR9
  obtain ⟨h55, e55⟩ := bds_55 (l := [11]) h55 (by show _ + 1 ≤ 1000; omega)
  have e55 : mN (bds [11] M) 55 = mN M 55 + 1 := e55
  refine n_aload_n hC dX4_leads_9 rfl ?_
  refine n_iload_n hC dX4_leads_10 rfl ?_
  refine n_callU1i hC (ct_X5_greets_1 na _ C (bset B 0 R0) P I (bds [11] M) hR h55 (by omega) hp c30 x) q918 q84 q949 q915 q913 q924 q916 q917 ⟨by decide, by decide, by decide +kernel⟩ dX4_leads_11 rfl (xPut_p (k := 1) hp c30 (by decide)) rfl ⟨rfl, rfl, by decide, by decide⟩ rfl (Nat.le_of_ble_eq_true rfl) (by decide) (by decide) (fun r1 na1 h1 hp1 => ?_)
  obtain ⟨rfl, rfl, B1, rfl, hR⟩ := hp1
  obtain ⟨h55, e551⟩ := bds_55 (l := [20, 10]) h55 (by show _ + 2 ≤ 1000; omega)
  have e551 : mN (bds ([20, 10]) (bds [11] M)) 55 = mN (bds [11] M) 55 + 2 := e551
  refine n_aload_n hC dX4_leads_14 rfl ?_
  refine n_get hC in_X5 3 q267 dX4_leads_15 rfl (xPut_p (k := 1) hp c30 (by decide)) rfl (by decide) rfl rfl ?_
  refine n_isub hC dX4_leads_18 ?_
  exact n_iret hC dX4_leads_19 (by decide) (by decide) (⟨rfl, rfl, _, rfl, by rw [← bds_app, show (([11] ++ ([20, 10])) : List Nat) = tPL 1 from rfl] at hR; exact hR⟩)

set_option maxHeartbeats 4000000 in
set_option maxRecDepth 100000 in
theorem ct_X4_leads_2 (na : nA) (h : nH) (C : nMem) (B : Nat → nMem) (P : Nat → Nat × Nat) (I : Nat → Nat) (M : nMem) (hR : xRel (C, B, P, I) M) (h55 : M 55 0 = nI (mN M 55)) (b55 : mN M 55 ≤ 980) {p : Nat} (hp : p < 15) (c30 : C 30 p = nI (4 + 2)) (x : Int32) : nM yX4_leads cX4_leads 2 (some .int) (nRm 3 0 0) [.ref (na (131 + p)), .int x] na (xPut na h (C, B, P, I)) (nQi (xDn na h C P I M (vPL 2 (C 31 p) (C 32 p) x) (tPL 2))) 0 0 := by
  refine nM.ofN RX4 rfl (by decide) (by intro v hv; simp only [List.mem_cons, List.not_mem_nil, or_false] at hv; rcases hv with rfl | rfl <;> rfl) (Nat.le_of_ble_eq_true rfl) (fun K hC hnm => ?_)
  show WN K na (xPut na h (C, B, P, I)) 0 0 (nE K (nQi (xDn na h C P I M (vPL 2 (C 31 p) (C 32 p) x) (tPL 2))) 0 0) 0 [some (.ref (na (131 + p))), some (.int x)] []
  let Q9 : State → Prop := nE K (nQi (xDn na h C P I M (vPL 2 (C 31 p) (C 32 p) x) (tPL 2))) 0 0
  show WN K na (xPut na h (C, B, P, I)) 0 0 Q9 0 [some (.ref (na (131 + p))), some (.int x)] []
  refine n_aload_n hC dX4_leads_0 rfl ?_
  refine n_get hC in_X6 0 q255 dX4_leads_1 rfl (xPut_p (k := 2) hp c30 (by decide)) rfl (by decide) rfl rfl ?_
  refine n_bipush hC (v := nI 11) dX4_leads_4 (by decide) ?_
  refine n_callV1v hC (xc_rel (i := 0) (c := (1, 0)) hR.2.2.2.2.2.2.2.2.1.1 ⟨by decide, by decide⟩ (ct_X1_ran (bB 0) na _ (B 0) (c := mN M 55) (hR.2.2.2.2.2.2.2.2.1.2.1.trans h55) (by omega) 11)) md_X1_ran q925 dX4_leads_6 rfl ((xBlk_o (na := na) (h := h) (X := (C, B, P, I)) (i := 0) (c := (1, 0)) hR.2.2.2.2.2.2.2.2.1.1 ⟨by decide, by decide⟩ 9 (by decide)).trans (if_pos rfl)) rfl rfl ⟨rfl, rfl, by decide, by decide⟩ rfl (Nat.le_of_ble_eq_true rfl) (by decide) (by decide) (fun na0 h0 hp0 => ?_)
  obtain ⟨rfl, R0, rfl, eR9⟩ := hp0
  have hR := hR.ran h55 (by omega) eR9
  obtain ⟨h55, e55⟩ := bds_55 (l := [11]) h55 (by show _ + 1 ≤ 1000; omega)
  have e55 : mN (bds [11] M) 55 = mN M 55 + 1 := e55
  refine n_aload_n hC dX4_leads_9 rfl ?_
  refine n_iload_n hC dX4_leads_10 rfl ?_
  refine n_callU1i hC (ct_X4_greets_2 na _ C (bset B 0 R0) P I (bds [11] M) hR h55 (by omega) hp c30 x) q924 q83 q949 q915 q913 q924 q933 q913 ⟨by decide, by decide, by decide +kernel⟩ dX4_leads_11 rfl (xPut_p (k := 2) hp c30 (by decide)) rfl ⟨rfl, rfl, by decide, by decide⟩ rfl (Nat.le_of_ble_eq_true rfl) (by decide) (by decide) (fun r1 na1 h1 hp1 => ?_)
  obtain ⟨rfl, rfl, B1, rfl, hR⟩ := hp1
  obtain ⟨h55, e551⟩ := bds_55 (l := [10]) h55 (by show _ + 1 ≤ 1000; omega)
  have e551 : mN (bds ([10]) (bds [11] M)) 55 = mN (bds [11] M) 55 + 1 := e551
  refine n_aload_n hC dX4_leads_14 rfl ?_
  refine n_get hC in_X6 3 q267 dX4_leads_15 rfl (xPut_p (k := 2) hp c30 (by decide)) rfl (by decide) rfl rfl ?_
  refine n_isub hC dX4_leads_18 ?_
  exact n_iret hC dX4_leads_19 (by decide) (by decide) (⟨rfl, rfl, _, rfl, by rw [← bds_app, show (([11] ++ ([10])) : List Nat) = tPL 2 from rfl] at hR; exact hR⟩)

set_option maxHeartbeats 4000000 in
set_option maxRecDepth 100000 in
theorem ct_X4_leads_3 (na : nA) (h : nH) (C : nMem) (B : Nat → nMem) (P : Nat → Nat × Nat) (I : Nat → Nat) (M : nMem) (hR : xRel (C, B, P, I) M) (h55 : M 55 0 = nI (mN M 55)) (b55 : mN M 55 ≤ 980) {p : Nat} (hp : p < 15) (c30 : C 30 p = nI (4 + 3)) (x : Int32) : nM yX4_leads cX4_leads 2 (some .int) (nRm 3 0 0) [.ref (na (131 + p)), .int x] na (xPut na h (C, B, P, I)) (nQi (xDn na h C P I M (vPL 3 (C 31 p) (C 32 p) x) (tPL 3))) 0 0 := by
  refine nM.ofN RX4 rfl (by decide) (by intro v hv; simp only [List.mem_cons, List.not_mem_nil, or_false] at hv; rcases hv with rfl | rfl <;> rfl) (Nat.le_of_ble_eq_true rfl) (fun K hC hnm => ?_)
  show WN K na (xPut na h (C, B, P, I)) 0 0 (nE K (nQi (xDn na h C P I M (vPL 3 (C 31 p) (C 32 p) x) (tPL 3))) 0 0) 0 [some (.ref (na (131 + p))), some (.int x)] []
  let Q9 : State → Prop := nE K (nQi (xDn na h C P I M (vPL 3 (C 31 p) (C 32 p) x) (tPL 3))) 0 0
  show WN K na (xPut na h (C, B, P, I)) 0 0 Q9 0 [some (.ref (na (131 + p))), some (.int x)] []
  refine n_aload_n hC dX4_leads_0 rfl ?_
  refine n_get hC in_X7 0 q255 dX4_leads_1 rfl (xPut_p (k := 3) hp c30 (by decide)) rfl (by decide) rfl rfl ?_
  refine n_bipush hC (v := nI 11) dX4_leads_4 (by decide) ?_
  refine n_callV1v hC (xc_rel (i := 0) (c := (1, 0)) hR.2.2.2.2.2.2.2.2.1.1 ⟨by decide, by decide⟩ (ct_X1_ran (bB 0) na _ (B 0) (c := mN M 55) (hR.2.2.2.2.2.2.2.2.1.2.1.trans h55) (by omega) 11)) md_X1_ran q925 dX4_leads_6 rfl ((xBlk_o (na := na) (h := h) (X := (C, B, P, I)) (i := 0) (c := (1, 0)) hR.2.2.2.2.2.2.2.2.1.1 ⟨by decide, by decide⟩ 9 (by decide)).trans (if_pos rfl)) rfl rfl ⟨rfl, rfl, by decide, by decide⟩ rfl (Nat.le_of_ble_eq_true rfl) (by decide) (by decide) (fun na0 h0 hp0 => ?_)
  obtain ⟨rfl, R0, rfl, eR9⟩ := hp0
  have hR := hR.ran h55 (by omega) eR9
  obtain ⟨h55, e55⟩ := bds_55 (l := [11]) h55 (by show _ + 1 ≤ 1000; omega)
  have e55 : mN (bds [11] M) 55 = mN M 55 + 1 := e55
  refine n_aload_n hC dX4_leads_9 rfl ?_
  refine n_iload_n hC dX4_leads_10 rfl ?_
  refine n_callU1i hC (ct_X7_greets_3 na _ C (bset B 0 R0) P I (bds [11] M) hR h55 (by omega) hp c30 x) q928 q86 q949 q915 q913 q924 q926 q927 ⟨by decide, by decide, by decide +kernel⟩ dX4_leads_11 rfl (xPut_p (k := 3) hp c30 (by decide)) rfl ⟨rfl, rfl, by decide, by decide⟩ rfl (Nat.le_of_ble_eq_true rfl) (by decide) (by decide) (fun r1 na1 h1 hp1 => ?_)
  obtain ⟨rfl, rfl, B1, rfl, hR⟩ := hp1
  obtain ⟨h55, e551⟩ := bds_55 (l := [40, 10]) h55 (by show _ + 2 ≤ 1000; omega)
  have e551 : mN (bds ([40, 10]) (bds [11] M)) 55 = mN (bds [11] M) 55 + 2 := e551
  refine n_aload_n hC dX4_leads_14 rfl ?_
  refine n_get hC in_X7 3 q267 dX4_leads_15 rfl (xPut_p (k := 3) hp c30 (by decide)) rfl (by decide) rfl rfl ?_
  refine n_isub hC dX4_leads_18 ?_
  exact n_iret hC dX4_leads_19 (by decide) (by decide) (⟨rfl, rfl, _, rfl, by rw [← bds_app, show (([11] ++ ([40, 10])) : List Nat) = tPL 3 from rfl] at hR; exact hR⟩)

set_option maxHeartbeats 4000000 in
set_option maxRecDepth 100000 in
theorem ct_X4_leads_4 (na : nA) (h : nH) (C : nMem) (B : Nat → nMem) (P : Nat → Nat × Nat) (I : Nat → Nat) (M : nMem) (hR : xRel (C, B, P, I) M) (h55 : M 55 0 = nI (mN M 55)) (b55 : mN M 55 ≤ 980) {p : Nat} (hp : p < 15) (c30 : C 30 p = nI (4 + 4)) (x : Int32) : nM yX4_leads cX4_leads 2 (some .int) (nRm 3 0 0) [.ref (na (131 + p)), .int x] na (xPut na h (C, B, P, I)) (nQi (xDn na h C P I M (vPL 4 (C 31 p) (C 32 p) x) (tPL 4))) 0 0 := by
  refine nM.ofN RX4 rfl (by decide) (by intro v hv; simp only [List.mem_cons, List.not_mem_nil, or_false] at hv; rcases hv with rfl | rfl <;> rfl) (Nat.le_of_ble_eq_true rfl) (fun K hC hnm => ?_)
  show WN K na (xPut na h (C, B, P, I)) 0 0 (nE K (nQi (xDn na h C P I M (vPL 4 (C 31 p) (C 32 p) x) (tPL 4))) 0 0) 0 [some (.ref (na (131 + p))), some (.int x)] []
  let Q9 : State → Prop := nE K (nQi (xDn na h C P I M (vPL 4 (C 31 p) (C 32 p) x) (tPL 4))) 0 0
  show WN K na (xPut na h (C, B, P, I)) 0 0 Q9 0 [some (.ref (na (131 + p))), some (.int x)] []
  refine n_aload_n hC dX4_leads_0 rfl ?_
  refine n_get hC in_X8 0 q255 dX4_leads_1 rfl (xPut_p (k := 4) hp c30 (by decide)) rfl (by decide) rfl rfl ?_
  refine n_bipush hC (v := nI 11) dX4_leads_4 (by decide) ?_
  refine n_callV1v hC (xc_rel (i := 0) (c := (1, 0)) hR.2.2.2.2.2.2.2.2.1.1 ⟨by decide, by decide⟩ (ct_X1_ran (bB 0) na _ (B 0) (c := mN M 55) (hR.2.2.2.2.2.2.2.2.1.2.1.trans h55) (by omega) 11)) md_X1_ran q925 dX4_leads_6 rfl ((xBlk_o (na := na) (h := h) (X := (C, B, P, I)) (i := 0) (c := (1, 0)) hR.2.2.2.2.2.2.2.2.1.1 ⟨by decide, by decide⟩ 9 (by decide)).trans (if_pos rfl)) rfl rfl ⟨rfl, rfl, by decide, by decide⟩ rfl (Nat.le_of_ble_eq_true rfl) (by decide) (by decide) (fun na0 h0 hp0 => ?_)
  obtain ⟨rfl, R0, rfl, eR9⟩ := hp0
  have hR := hR.ran h55 (by omega) eR9
  obtain ⟨h55, e55⟩ := bds_55 (l := [11]) h55 (by show _ + 1 ≤ 1000; omega)
  have e55 : mN (bds [11] M) 55 = mN M 55 + 1 := e55
  refine n_aload_n hC dX4_leads_9 rfl ?_
  refine n_iload_n hC dX4_leads_10 rfl ?_
  refine n_callU1i hC (ct_X4_greets_4 na _ C (bset B 0 R0) P I (bds [11] M) hR h55 (by omega) hp c30 x) q924 q83 q949 q915 q913 q924 q934 q913 ⟨by decide, by decide, by decide +kernel⟩ dX4_leads_11 rfl (xPut_p (k := 4) hp c30 (by decide)) rfl ⟨rfl, rfl, by decide, by decide⟩ rfl (Nat.le_of_ble_eq_true rfl) (by decide) (by decide) (fun r1 na1 h1 hp1 => ?_)
  obtain ⟨rfl, rfl, B1, rfl, hR⟩ := hp1
  obtain ⟨h55, e551⟩ := bds_55 (l := [10]) h55 (by show _ + 1 ≤ 1000; omega)
  have e551 : mN (bds ([10]) (bds [11] M)) 55 = mN (bds [11] M) 55 + 1 := e551
  refine n_aload_n hC dX4_leads_14 rfl ?_
  refine n_get hC in_X8 3 q267 dX4_leads_15 rfl (xPut_p (k := 4) hp c30 (by decide)) rfl (by decide) rfl rfl ?_
  refine n_isub hC dX4_leads_18 ?_
  exact n_iret hC dX4_leads_19 (by decide) (by decide) (⟨rfl, rfl, _, rfl, by rw [← bds_app, show (([11] ++ ([10])) : List Nat) = tPL 4 from rfl] at hR; exact hR⟩)

set_option maxHeartbeats 4000000 in
set_option maxRecDepth 100000 in
theorem ct_X6_leads_2 (na : nA) (h : nH) (C : nMem) (B : Nat → nMem) (P : Nat → Nat × Nat) (I : Nat → Nat) (M : nMem) (hR : xRel (C, B, P, I) M) (h55 : M 55 0 = nI (mN M 55)) (b55 : mN M 55 ≤ 970) {p : Nat} (hp : p < 15) (c30 : C 30 p = nI (4 + 2)) (x : Int32) : nM yX6_leads cX6_leads 3 (some .int) (nRm 4 0 0) [.ref (na (131 + p)), .int x] na (xPut na h (C, B, P, I)) (nQi (xDn na h C P I M (vLL 2 (C 31 p) (C 32 p) x) (tLL 2))) 0 0 := by
  refine nM.ofN RX6 rfl (by decide) (by intro v hv; simp only [List.mem_cons, List.not_mem_nil, or_false] at hv; rcases hv with rfl | rfl <;> rfl) (Nat.le_of_ble_eq_true rfl) (fun K hC hnm => ?_)
  show WN K na (xPut na h (C, B, P, I)) 0 0 (nE K (nQi (xDn na h C P I M (vLL 2 (C 31 p) (C 32 p) x) (tLL 2))) 0 0) 0 [some (.ref (na (131 + p))), some (.int x), none] []
  let Q9 : State → Prop := nE K (nQi (xDn na h C P I M (vLL 2 (C 31 p) (C 32 p) x) (tLL 2))) 0 0
  show WN K na (xPut na h (C, B, P, I)) 0 0 Q9 0 [some (.ref (na (131 + p))), some (.int x), none] []
  refine n_aload_n hC dX6_leads_0 rfl ?_
  refine n_getS hC in_X6 0 q260 q261 dX6_leads_1 rfl (xPut_p (k := 2) hp c30 (by decide)) rfl (by decide) rfl ?_
  refine n_bipush hC (v := nI 30) dX6_leads_4 (by decide) ?_
  refine n_callV1v hC (xc_rel (i := 0) (c := (1, 0)) hR.2.2.2.2.2.2.2.2.1.1 ⟨by decide, by decide⟩ (ct_X1_ran (bB 0) na _ (B 0) (c := mN M 55) (hR.2.2.2.2.2.2.2.2.1.2.1.trans h55) (by omega) 30)) md_X1_ran q946 dX6_leads_6 rfl ((xBlk_o (na := na) (h := h) (X := (C, B, P, I)) (i := 0) (c := (1, 0)) hR.2.2.2.2.2.2.2.2.1.1 ⟨by decide, by decide⟩ 9 (by decide)).trans (if_pos rfl)) rfl rfl ⟨rfl, rfl, by decide, by decide⟩ rfl (Nat.le_of_ble_eq_true rfl) (by decide) (by decide) (fun na0 h0 hp0 => ?_)
  obtain ⟨rfl, R0, rfl, eR9⟩ := hp0
  have hR := hR.ran h55 (by omega) eR9
  obtain ⟨h55, e55⟩ := bds_55 (l := [30]) h55 (by show _ + 1 ≤ 1000; omega)
  have e55 : mN (bds [30] M) 55 = mN M 55 + 1 := e55
  refine n_aload_n hC dX6_leads_9 rfl ?_
  refine n_iload_n hC dX6_leads_10 rfl ?_
  refine n_callP1i hC (ct_X4_leads_2 na _ C (bset B 0 R0) P I (bds [30] M) hR h55 (by omega) hp c30 x) q948 q83 q947 q938 q299 q936 ⟨by decide, by decide +kernel⟩ dX6_leads_11 rfl (xPut_p (k := 2) hp c30 (by decide)) rfl ⟨rfl, rfl, by decide, by decide⟩ rfl (Nat.le_of_ble_eq_true rfl) (by decide) (by decide) (fun r1 na1 h1 hp1 => ?_)
  obtain ⟨rfl, rfl, B1, rfl, hR⟩ := hp1
  obtain ⟨h55, e551⟩ := bds_55 (l := tPL 2) h55 (by show _ + 2 ≤ 1000; omega)
  have e551 : mN (bds (tPL 2) (bds [30] M)) 55 = mN (bds [30] M) 55 + 2 := e551
  refine n_istore_n hC dX6_leads_14 (Nat.le_of_ble_eq_true rfl) ?_
  refine n_iload_n hC dX6_leads_15 rfl ?_
  refine n_aload_n hC dX6_leads_16 rfl ?_
  refine n_iload_n hC dX6_leads_17 rfl ?_
  refine n_callU1i hC (ct_X4_greets_2 na _ C B1 P I (bds (tPL 2) (bds [30] M)) hR h55 (by omega) hp c30 x) q924 q83 q950 q931 q913 q924 q952 q913 ⟨by decide, by decide, by decide +kernel⟩ dX6_leads_18 rfl (xPut_p (k := 2) hp c30 (by decide)) rfl ⟨rfl, rfl, by decide, by decide⟩ rfl (Nat.le_of_ble_eq_true rfl) (by decide) (by decide) (fun r2 na2 h2 hp2 => ?_)
  obtain ⟨rfl, rfl, B2, rfl, hR⟩ := hp2
  obtain ⟨h55, e552⟩ := bds_55 (l := [10]) h55 (by show _ + 1 ≤ 1000; omega)
  have e552 : mN (bds ([10]) (bds (tPL 2) (bds [30] M))) 55 = mN (bds (tPL 2) (bds [30] M)) 55 + 1 := e552
  refine n_iadd hC dX6_leads_21 ?_
  exact n_iret hC dX6_leads_22 (by decide) (by decide) (⟨rfl, rfl, _, rfl, by rw [← bds_app, ← bds_app, show (([30] ++ ((tPL 2) ++ ([10]))) : List Nat) = tLL 2 from rfl] at hR; exact hR⟩)

set_option maxHeartbeats 4000000 in
set_option maxRecDepth 100000 in
theorem ct_X6_leads_3 (na : nA) (h : nH) (C : nMem) (B : Nat → nMem) (P : Nat → Nat × Nat) (I : Nat → Nat) (M : nMem) (hR : xRel (C, B, P, I) M) (h55 : M 55 0 = nI (mN M 55)) (b55 : mN M 55 ≤ 970) {p : Nat} (hp : p < 15) (c30 : C 30 p = nI (4 + 3)) (x : Int32) : nM yX6_leads cX6_leads 3 (some .int) (nRm 4 0 0) [.ref (na (131 + p)), .int x] na (xPut na h (C, B, P, I)) (nQi (xDn na h C P I M (vLL 3 (C 31 p) (C 32 p) x) (tLL 3))) 0 0 := by
  refine nM.ofN RX6 rfl (by decide) (by intro v hv; simp only [List.mem_cons, List.not_mem_nil, or_false] at hv; rcases hv with rfl | rfl <;> rfl) (Nat.le_of_ble_eq_true rfl) (fun K hC hnm => ?_)
  show WN K na (xPut na h (C, B, P, I)) 0 0 (nE K (nQi (xDn na h C P I M (vLL 3 (C 31 p) (C 32 p) x) (tLL 3))) 0 0) 0 [some (.ref (na (131 + p))), some (.int x), none] []
  let Q9 : State → Prop := nE K (nQi (xDn na h C P I M (vLL 3 (C 31 p) (C 32 p) x) (tLL 3))) 0 0
  show WN K na (xPut na h (C, B, P, I)) 0 0 Q9 0 [some (.ref (na (131 + p))), some (.int x), none] []
  refine n_aload_n hC dX6_leads_0 rfl ?_
  refine n_getS hC in_X7 0 q260 q261 dX6_leads_1 rfl (xPut_p (k := 3) hp c30 (by decide)) rfl (by decide) rfl ?_
  refine n_bipush hC (v := nI 30) dX6_leads_4 (by decide) ?_
  refine n_callV1v hC (xc_rel (i := 0) (c := (1, 0)) hR.2.2.2.2.2.2.2.2.1.1 ⟨by decide, by decide⟩ (ct_X1_ran (bB 0) na _ (B 0) (c := mN M 55) (hR.2.2.2.2.2.2.2.2.1.2.1.trans h55) (by omega) 30)) md_X1_ran q946 dX6_leads_6 rfl ((xBlk_o (na := na) (h := h) (X := (C, B, P, I)) (i := 0) (c := (1, 0)) hR.2.2.2.2.2.2.2.2.1.1 ⟨by decide, by decide⟩ 9 (by decide)).trans (if_pos rfl)) rfl rfl ⟨rfl, rfl, by decide, by decide⟩ rfl (Nat.le_of_ble_eq_true rfl) (by decide) (by decide) (fun na0 h0 hp0 => ?_)
  obtain ⟨rfl, R0, rfl, eR9⟩ := hp0
  have hR := hR.ran h55 (by omega) eR9
  obtain ⟨h55, e55⟩ := bds_55 (l := [30]) h55 (by show _ + 1 ≤ 1000; omega)
  have e55 : mN (bds [30] M) 55 = mN M 55 + 1 := e55
  refine n_aload_n hC dX6_leads_9 rfl ?_
  refine n_iload_n hC dX6_leads_10 rfl ?_
  refine n_callP1i hC (ct_X4_leads_3 na _ C (bset B 0 R0) P I (bds [30] M) hR h55 (by omega) hp c30 x) q948 q83 q947 q938 q299 q936 ⟨by decide, by decide +kernel⟩ dX6_leads_11 rfl (xPut_p (k := 3) hp c30 (by decide)) rfl ⟨rfl, rfl, by decide, by decide⟩ rfl (Nat.le_of_ble_eq_true rfl) (by decide) (by decide) (fun r1 na1 h1 hp1 => ?_)
  obtain ⟨rfl, rfl, B1, rfl, hR⟩ := hp1
  obtain ⟨h55, e551⟩ := bds_55 (l := tPL 3) h55 (by show _ + 3 ≤ 1000; omega)
  have e551 : mN (bds (tPL 3) (bds [30] M)) 55 = mN (bds [30] M) 55 + 3 := e551
  refine n_istore_n hC dX6_leads_14 (Nat.le_of_ble_eq_true rfl) ?_
  refine n_iload_n hC dX6_leads_15 rfl ?_
  refine n_aload_n hC dX6_leads_16 rfl ?_
  refine n_iload_n hC dX6_leads_17 rfl ?_
  refine n_callU1i hC (ct_X7_greets_3 na _ C B1 P I (bds (tPL 3) (bds [30] M)) hR h55 (by omega) hp c30 x) q928 q86 q950 q931 q913 q924 q951 q927 ⟨by decide, by decide, by decide +kernel⟩ dX6_leads_18 rfl (xPut_p (k := 3) hp c30 (by decide)) rfl ⟨rfl, rfl, by decide, by decide⟩ rfl (Nat.le_of_ble_eq_true rfl) (by decide) (by decide) (fun r2 na2 h2 hp2 => ?_)
  obtain ⟨rfl, rfl, B2, rfl, hR⟩ := hp2
  obtain ⟨h55, e552⟩ := bds_55 (l := [40, 10]) h55 (by show _ + 2 ≤ 1000; omega)
  have e552 : mN (bds ([40, 10]) (bds (tPL 3) (bds [30] M))) 55 = mN (bds (tPL 3) (bds [30] M)) 55 + 2 := e552
  refine n_iadd hC dX6_leads_21 ?_
  exact n_iret hC dX6_leads_22 (by decide) (by decide) (⟨rfl, rfl, _, rfl, by rw [← bds_app, ← bds_app, show (([30] ++ ((tPL 3) ++ ([40, 10]))) : List Nat) = tLL 3 from rfl] at hR; exact hR⟩)

set_option maxHeartbeats 4000000 in
set_option maxRecDepth 100000 in
theorem ct_X7_leads_3 (na : nA) (h : nH) (C : nMem) (B : Nat → nMem) (P : Nat → Nat × Nat) (I : Nat → Nat) (M : nMem) (hR : xRel (C, B, P, I) M) (h55 : M 55 0 = nI (mN M 55)) (b55 : mN M 55 ≤ 960) {p : Nat} (hp : p < 15) (c30 : C 30 p = nI (4 + 3)) (x : Int32) : nM yX7_leads cX7_leads 2 (some .int) (nRm 5 0 0) [.ref (na (131 + p)), .int x] na (xPut na h (C, B, P, I)) (nQi (xDn na h C P I M (- vLL 3 (C 31 p) (C 32 p) x) (41 :: tLL 3))) 0 0 := by
  refine nM.ofN RX7 rfl (by decide) (by intro v hv; simp only [List.mem_cons, List.not_mem_nil, or_false] at hv; rcases hv with rfl | rfl <;> rfl) (Nat.le_of_ble_eq_true rfl) (fun K hC hnm => ?_)
  show WN K na (xPut na h (C, B, P, I)) 0 0 (nE K (nQi (xDn na h C P I M (- vLL 3 (C 31 p) (C 32 p) x) (41 :: tLL 3))) 0 0) 0 [some (.ref (na (131 + p))), some (.int x)] []
  let Q9 : State → Prop := nE K (nQi (xDn na h C P I M (- vLL 3 (C 31 p) (C 32 p) x) (41 :: tLL 3))) 0 0
  show WN K na (xPut na h (C, B, P, I)) 0 0 Q9 0 [some (.ref (na (131 + p))), some (.int x)] []
  refine n_aload_n hC dX7_leads_0 rfl ?_
  refine n_getS hC in_X7 0 q258 q259 dX7_leads_1 rfl (xPut_p (k := 3) hp c30 (by decide)) rfl (by decide) rfl ?_
  refine n_bipush hC (v := nI 41) dX7_leads_4 (by decide) ?_
  refine n_callV1v hC (xc_rel (i := 0) (c := (1, 0)) hR.2.2.2.2.2.2.2.2.1.1 ⟨by decide, by decide⟩ (ct_X1_ran (bB 0) na _ (B 0) (c := mN M 55) (hR.2.2.2.2.2.2.2.2.1.2.1.trans h55) (by omega) 41)) md_X1_ran q929 dX7_leads_6 rfl ((xBlk_o (na := na) (h := h) (X := (C, B, P, I)) (i := 0) (c := (1, 0)) hR.2.2.2.2.2.2.2.2.1.1 ⟨by decide, by decide⟩ 9 (by decide)).trans (if_pos rfl)) rfl rfl ⟨rfl, rfl, by decide, by decide⟩ rfl (Nat.le_of_ble_eq_true rfl) (by decide) (by decide) (fun na0 h0 hp0 => ?_)
  obtain ⟨rfl, R0, rfl, eR9⟩ := hp0
  have hR := hR.ran h55 (by omega) eR9
  obtain ⟨h55, e55⟩ := bds_55 (l := [41]) h55 (by show _ + 1 ≤ 1000; omega)
  have e55 : mN (bds [41] M) 55 = mN M 55 + 1 := e55
  refine n_aload_n hC dX7_leads_9 rfl ?_
  refine n_iload_n hC dX7_leads_10 rfl ?_
  refine n_callP1i hC (ct_X6_leads_3 na _ C (bset B 0 R0) P I (bds [41] M) hR h55 (by omega) hp c30 x) q945 q85 q943 q1617 q310 q944 ⟨by decide, by decide +kernel⟩ dX7_leads_11 rfl (xPut_p (k := 3) hp c30 (by decide)) rfl ⟨rfl, rfl, by decide, by decide⟩ rfl (Nat.le_of_ble_eq_true rfl) (by decide) (by decide) (fun r1 na1 h1 hp1 => ?_)
  obtain ⟨rfl, rfl, B1, rfl, hR⟩ := hp1
  obtain ⟨h55, e551⟩ := bds_55 (l := tLL 3) h55 (by show _ + 6 ≤ 1000; omega)
  have e551 : mN (bds (tLL 3) (bds [41] M)) 55 = mN (bds [41] M) 55 + 6 := e551
  refine n_ineg hC dX7_leads_14 ?_
  exact n_iret hC dX7_leads_15 (by decide) (by decide) (⟨rfl, rfl, _, rfl, by rw [← bds_app, show (([41] ++ (tLL 3)) : List Nat) = 41 :: tLL 3 from rfl] at hR; exact hR⟩)

set_option maxHeartbeats 4000000 in
set_option maxRecDepth 100000 in
theorem ct_X4_rests_0 (na : nA) (h : nH) (C : nMem) (B : Nat → nMem) (P : Nat → Nat × Nat) (I : Nat → Nat) (M : nMem) (hR : xRel (C, B, P, I) M) (h55 : M 55 0 = nI (mN M 55)) (b55 : mN M 55 ≤ 950) {p : Nat} (hp : p < 15) (c30 : C 30 p = nI (4 + 0)) (x : Int32) : nM yX4_rests cX4_rests 2 (some .int) (nRm 6 0 0) [.ref (na (131 + p)), .int x] na (xPut na h (C, B, P, I)) (nQi (xDn na h C P I M (vPR 0 p (C 31 p) (C 32 p) x) (tPR 0))) 0 0 := by
  refine nM.ofN RX4 rfl (by decide) (by intro v hv; simp only [List.mem_cons, List.not_mem_nil, or_false] at hv; rcases hv with rfl | rfl <;> rfl) (Nat.le_of_ble_eq_true rfl) (fun K hC hnm => ?_)
  show WN K na (xPut na h (C, B, P, I)) 0 0 (nE K (nQi (xDn na h C P I M (vPR 0 p (C 31 p) (C 32 p) x) (tPR 0))) 0 0) 0 [some (.ref (na (131 + p))), some (.int x)] []
  let Q9 : State → Prop := nE K (nQi (xDn na h C P I M (vPR 0 p (C 31 p) (C 32 p) x) (tPR 0))) 0 0
  show WN K na (xPut na h (C, B, P, I)) 0 0 Q9 0 [some (.ref (na (131 + p))), some (.int x)] []
  refine n_aload_n hC dX4_rests_0 rfl ?_
  refine n_get hC in_X4 0 q255 dX4_rests_1 rfl (xPut_p (k := 0) hp c30 (by decide)) rfl (by decide) rfl rfl ?_
  refine n_bipush hC (v := nI 12) dX4_rests_4 (by decide) ?_
  refine n_callV1v hC (xc_rel (i := 0) (c := (1, 0)) hR.2.2.2.2.2.2.2.2.1.1 ⟨by decide, by decide⟩ (ct_X1_ran (bB 0) na _ (B 0) (c := mN M 55) (hR.2.2.2.2.2.2.2.2.1.2.1.trans h55) (by omega) 12)) md_X1_ran q925 dX4_rests_6 rfl ((xBlk_o (na := na) (h := h) (X := (C, B, P, I)) (i := 0) (c := (1, 0)) hR.2.2.2.2.2.2.2.2.1.1 ⟨by decide, by decide⟩ 9 (by decide)).trans (if_pos rfl)) rfl rfl ⟨rfl, rfl, by decide, by decide⟩ rfl (Nat.le_of_ble_eq_true rfl) (by decide) (by decide) (fun na0 h0 hp0 => ?_)
  obtain ⟨rfl, R0, rfl, eR9⟩ := hp0
  have hR := hR.ran h55 (by omega) eR9
  obtain ⟨h55, e55⟩ := bds_55 (l := [12]) h55 (by show _ + 1 ≤ 1000; omega)
  have e55 : mN (bds [12] M) 55 = mN M 55 + 1 := e55
  refine n_aload_n hC dX4_rests_9 rfl ?_
  refine n_iload_n hC dX4_rests_10 rfl ?_
  refine n_callU1i hC (ct_X4_leads_0 na _ C (bset B 0 R0) P I (bds [12] M) hR h55 (by omega) hp c30 x) q948 q83 q972 q938 q936 q948 q937 q936 ⟨by decide, by decide, by decide +kernel⟩ dX4_rests_11 rfl (xPut_p (k := 0) hp c30 (by decide)) rfl ⟨rfl, rfl, by decide, by decide⟩ rfl (Nat.le_of_ble_eq_true rfl) (by decide) (by decide) (fun r1 na1 h1 hp1 => ?_)
  obtain ⟨rfl, rfl, B1, rfl, hR⟩ := hp1
  obtain ⟨h55, e551⟩ := bds_55 (l := tPL 0) h55 (by show _ + 2 ≤ 1000; omega)
  have e551 : mN (bds (tPL 0) (bds [12] M)) 55 = mN (bds [12] M) 55 + 2 := e551
  refine n_aload_n hC dX4_rests_14 rfl ?_
  refine n_get hC in_X4 1 q264 dX4_rests_15 rfl (xPut_p (k := 0) hp c30 (by decide)) rfl (by decide) rfl rfl ?_
  refine n_ixor hC dX4_rests_18 ?_
  exact n_iret hC dX4_rests_19 (by decide) (by decide) (⟨rfl, rfl, _, rfl, by rw [← bds_app, show (([12] ++ (tPL 0)) : List Nat) = tPR 0 from rfl] at hR; exact hR⟩)

set_option maxHeartbeats 4000000 in
set_option maxRecDepth 100000 in
theorem ct_X4_rests_1 (na : nA) (h : nH) (C : nMem) (B : Nat → nMem) (P : Nat → Nat × Nat) (I : Nat → Nat) (M : nMem) (hR : xRel (C, B, P, I) M) (h55 : M 55 0 = nI (mN M 55)) (b55 : mN M 55 ≤ 950) {p : Nat} (hp : p < 15) (c30 : C 30 p = nI (4 + 1)) (x : Int32) : nM yX4_rests cX4_rests 2 (some .int) (nRm 6 0 0) [.ref (na (131 + p)), .int x] na (xPut na h (C, B, P, I)) (nQi (xDn na h C P I M (vPR 1 p (C 31 p) (C 32 p) x) (tPR 1))) 0 0 := by
  refine nM.ofN RX4 rfl (by decide) (by intro v hv; simp only [List.mem_cons, List.not_mem_nil, or_false] at hv; rcases hv with rfl | rfl <;> rfl) (Nat.le_of_ble_eq_true rfl) (fun K hC hnm => ?_)
  show WN K na (xPut na h (C, B, P, I)) 0 0 (nE K (nQi (xDn na h C P I M (vPR 1 p (C 31 p) (C 32 p) x) (tPR 1))) 0 0) 0 [some (.ref (na (131 + p))), some (.int x)] []
  let Q9 : State → Prop := nE K (nQi (xDn na h C P I M (vPR 1 p (C 31 p) (C 32 p) x) (tPR 1))) 0 0
  show WN K na (xPut na h (C, B, P, I)) 0 0 Q9 0 [some (.ref (na (131 + p))), some (.int x)] []
  refine n_aload_n hC dX4_rests_0 rfl ?_
  refine n_get hC in_X5 0 q255 dX4_rests_1 rfl (xPut_p (k := 1) hp c30 (by decide)) rfl (by decide) rfl rfl ?_
  refine n_bipush hC (v := nI 12) dX4_rests_4 (by decide) ?_
  refine n_callV1v hC (xc_rel (i := 0) (c := (1, 0)) hR.2.2.2.2.2.2.2.2.1.1 ⟨by decide, by decide⟩ (ct_X1_ran (bB 0) na _ (B 0) (c := mN M 55) (hR.2.2.2.2.2.2.2.2.1.2.1.trans h55) (by omega) 12)) md_X1_ran q925 dX4_rests_6 rfl ((xBlk_o (na := na) (h := h) (X := (C, B, P, I)) (i := 0) (c := (1, 0)) hR.2.2.2.2.2.2.2.2.1.1 ⟨by decide, by decide⟩ 9 (by decide)).trans (if_pos rfl)) rfl rfl ⟨rfl, rfl, by decide, by decide⟩ rfl (Nat.le_of_ble_eq_true rfl) (by decide) (by decide) (fun na0 h0 hp0 => ?_)
  obtain ⟨rfl, R0, rfl, eR9⟩ := hp0
  have hR := hR.ran h55 (by omega) eR9
  obtain ⟨h55, e55⟩ := bds_55 (l := [12]) h55 (by show _ + 1 ≤ 1000; omega)
  have e55 : mN (bds [12] M) 55 = mN M 55 + 1 := e55
  refine n_aload_n hC dX4_rests_9 rfl ?_
  refine n_iload_n hC dX4_rests_10 rfl ?_
  refine n_callU1i hC (ct_X4_leads_1 na _ C (bset B 0 R0) P I (bds [12] M) hR h55 (by omega) hp c30 x) q948 q83 q972 q938 q936 q948 q939 q936 ⟨by decide, by decide, by decide +kernel⟩ dX4_rests_11 rfl (xPut_p (k := 1) hp c30 (by decide)) rfl ⟨rfl, rfl, by decide, by decide⟩ rfl (Nat.le_of_ble_eq_true rfl) (by decide) (by decide) (fun r1 na1 h1 hp1 => ?_)
  obtain ⟨rfl, rfl, B1, rfl, hR⟩ := hp1
  obtain ⟨h55, e551⟩ := bds_55 (l := tPL 1) h55 (by show _ + 3 ≤ 1000; omega)
  have e551 : mN (bds (tPL 1) (bds [12] M)) 55 = mN (bds [12] M) 55 + 3 := e551
  refine n_aload_n hC dX4_rests_14 rfl ?_
  refine n_get hC in_X5 1 q264 dX4_rests_15 rfl (xPut_p (k := 1) hp c30 (by decide)) rfl (by decide) rfl rfl ?_
  refine n_ixor hC dX4_rests_18 ?_
  exact n_iret hC dX4_rests_19 (by decide) (by decide) (⟨rfl, rfl, _, rfl, by rw [← bds_app, show (([12] ++ (tPL 1)) : List Nat) = tPR 1 from rfl] at hR; exact hR⟩)

set_option maxHeartbeats 4000000 in
set_option maxRecDepth 100000 in
theorem ct_X4_rests_2 (na : nA) (h : nH) (C : nMem) (B : Nat → nMem) (P : Nat → Nat × Nat) (I : Nat → Nat) (M : nMem) (hR : xRel (C, B, P, I) M) (h55 : M 55 0 = nI (mN M 55)) (b55 : mN M 55 ≤ 950) {p : Nat} (hp : p < 15) (c30 : C 30 p = nI (4 + 2)) (x : Int32) : nM yX4_rests cX4_rests 2 (some .int) (nRm 6 0 0) [.ref (na (131 + p)), .int x] na (xPut na h (C, B, P, I)) (nQi (xDn na h C P I M (vPR 2 p (C 31 p) (C 32 p) x) (tPR 2))) 0 0 := by
  refine nM.ofN RX4 rfl (by decide) (by intro v hv; simp only [List.mem_cons, List.not_mem_nil, or_false] at hv; rcases hv with rfl | rfl <;> rfl) (Nat.le_of_ble_eq_true rfl) (fun K hC hnm => ?_)
  show WN K na (xPut na h (C, B, P, I)) 0 0 (nE K (nQi (xDn na h C P I M (vPR 2 p (C 31 p) (C 32 p) x) (tPR 2))) 0 0) 0 [some (.ref (na (131 + p))), some (.int x)] []
  let Q9 : State → Prop := nE K (nQi (xDn na h C P I M (vPR 2 p (C 31 p) (C 32 p) x) (tPR 2))) 0 0
  show WN K na (xPut na h (C, B, P, I)) 0 0 Q9 0 [some (.ref (na (131 + p))), some (.int x)] []
  refine n_aload_n hC dX4_rests_0 rfl ?_
  refine n_get hC in_X6 0 q255 dX4_rests_1 rfl (xPut_p (k := 2) hp c30 (by decide)) rfl (by decide) rfl rfl ?_
  refine n_bipush hC (v := nI 12) dX4_rests_4 (by decide) ?_
  refine n_callV1v hC (xc_rel (i := 0) (c := (1, 0)) hR.2.2.2.2.2.2.2.2.1.1 ⟨by decide, by decide⟩ (ct_X1_ran (bB 0) na _ (B 0) (c := mN M 55) (hR.2.2.2.2.2.2.2.2.1.2.1.trans h55) (by omega) 12)) md_X1_ran q925 dX4_rests_6 rfl ((xBlk_o (na := na) (h := h) (X := (C, B, P, I)) (i := 0) (c := (1, 0)) hR.2.2.2.2.2.2.2.2.1.1 ⟨by decide, by decide⟩ 9 (by decide)).trans (if_pos rfl)) rfl rfl ⟨rfl, rfl, by decide, by decide⟩ rfl (Nat.le_of_ble_eq_true rfl) (by decide) (by decide) (fun na0 h0 hp0 => ?_)
  obtain ⟨rfl, R0, rfl, eR9⟩ := hp0
  have hR := hR.ran h55 (by omega) eR9
  obtain ⟨h55, e55⟩ := bds_55 (l := [12]) h55 (by show _ + 1 ≤ 1000; omega)
  have e55 : mN (bds [12] M) 55 = mN M 55 + 1 := e55
  refine n_aload_n hC dX4_rests_9 rfl ?_
  refine n_iload_n hC dX4_rests_10 rfl ?_
  refine n_callU1i hC (ct_X6_leads_2 na _ C (bset B 0 R0) P I (bds [12] M) hR h55 (by omega) hp c30 x) q945 q85 q972 q938 q936 q948 q953 q944 ⟨by decide, by decide, by decide +kernel⟩ dX4_rests_11 rfl (xPut_p (k := 2) hp c30 (by decide)) rfl ⟨rfl, rfl, by decide, by decide⟩ rfl (Nat.le_of_ble_eq_true rfl) (by decide) (by decide) (fun r1 na1 h1 hp1 => ?_)
  obtain ⟨rfl, rfl, B1, rfl, hR⟩ := hp1
  obtain ⟨h55, e551⟩ := bds_55 (l := tLL 2) h55 (by show _ + 4 ≤ 1000; omega)
  have e551 : mN (bds (tLL 2) (bds [12] M)) 55 = mN (bds [12] M) 55 + 4 := e551
  refine n_aload_n hC dX4_rests_14 rfl ?_
  refine n_get hC in_X6 1 q264 dX4_rests_15 rfl (xPut_p (k := 2) hp c30 (by decide)) rfl (by decide) rfl rfl ?_
  refine n_ixor hC dX4_rests_18 ?_
  exact n_iret hC dX4_rests_19 (by decide) (by decide) (⟨rfl, rfl, _, rfl, by rw [← bds_app, show (([12] ++ (tLL 2)) : List Nat) = tPR 2 from rfl] at hR; exact hR⟩)

set_option maxHeartbeats 4000000 in
set_option maxRecDepth 100000 in
theorem ct_X4_rests_3 (na : nA) (h : nH) (C : nMem) (B : Nat → nMem) (P : Nat → Nat × Nat) (I : Nat → Nat) (M : nMem) (hR : xRel (C, B, P, I) M) (h55 : M 55 0 = nI (mN M 55)) (b55 : mN M 55 ≤ 950) {p : Nat} (hp : p < 15) (c30 : C 30 p = nI (4 + 3)) (x : Int32) : nM yX4_rests cX4_rests 2 (some .int) (nRm 6 0 0) [.ref (na (131 + p)), .int x] na (xPut na h (C, B, P, I)) (nQi (xDn na h C P I M (vPR 3 p (C 31 p) (C 32 p) x) (tPR 3))) 0 0 := by
  refine nM.ofN RX4 rfl (by decide) (by intro v hv; simp only [List.mem_cons, List.not_mem_nil, or_false] at hv; rcases hv with rfl | rfl <;> rfl) (Nat.le_of_ble_eq_true rfl) (fun K hC hnm => ?_)
  show WN K na (xPut na h (C, B, P, I)) 0 0 (nE K (nQi (xDn na h C P I M (vPR 3 p (C 31 p) (C 32 p) x) (tPR 3))) 0 0) 0 [some (.ref (na (131 + p))), some (.int x)] []
  let Q9 : State → Prop := nE K (nQi (xDn na h C P I M (vPR 3 p (C 31 p) (C 32 p) x) (tPR 3))) 0 0
  show WN K na (xPut na h (C, B, P, I)) 0 0 Q9 0 [some (.ref (na (131 + p))), some (.int x)] []
  refine n_aload_n hC dX4_rests_0 rfl ?_
  refine n_get hC in_X7 0 q255 dX4_rests_1 rfl (xPut_p (k := 3) hp c30 (by decide)) rfl (by decide) rfl rfl ?_
  refine n_bipush hC (v := nI 12) dX4_rests_4 (by decide) ?_
  refine n_callV1v hC (xc_rel (i := 0) (c := (1, 0)) hR.2.2.2.2.2.2.2.2.1.1 ⟨by decide, by decide⟩ (ct_X1_ran (bB 0) na _ (B 0) (c := mN M 55) (hR.2.2.2.2.2.2.2.2.1.2.1.trans h55) (by omega) 12)) md_X1_ran q925 dX4_rests_6 rfl ((xBlk_o (na := na) (h := h) (X := (C, B, P, I)) (i := 0) (c := (1, 0)) hR.2.2.2.2.2.2.2.2.1.1 ⟨by decide, by decide⟩ 9 (by decide)).trans (if_pos rfl)) rfl rfl ⟨rfl, rfl, by decide, by decide⟩ rfl (Nat.le_of_ble_eq_true rfl) (by decide) (by decide) (fun na0 h0 hp0 => ?_)
  obtain ⟨rfl, R0, rfl, eR9⟩ := hp0
  have hR := hR.ran h55 (by omega) eR9
  obtain ⟨h55, e55⟩ := bds_55 (l := [12]) h55 (by show _ + 1 ≤ 1000; omega)
  have e55 : mN (bds [12] M) 55 = mN M 55 + 1 := e55
  refine n_aload_n hC dX4_rests_9 rfl ?_
  refine n_iload_n hC dX4_rests_10 rfl ?_
  refine n_callU1i hC (ct_X7_leads_3 na _ C (bset B 0 R0) P I (bds [12] M) hR h55 (by omega) hp c30 x) q942 q86 q972 q938 q936 q948 q940 q941 ⟨by decide, by decide, by decide +kernel⟩ dX4_rests_11 rfl (xPut_p (k := 3) hp c30 (by decide)) rfl ⟨rfl, rfl, by decide, by decide⟩ rfl (Nat.le_of_ble_eq_true rfl) (by decide) (by decide) (fun r1 na1 h1 hp1 => ?_)
  obtain ⟨rfl, rfl, B1, rfl, hR⟩ := hp1
  obtain ⟨h55, e551⟩ := bds_55 (l := 41 :: tLL 3) h55 (by show _ + 7 ≤ 1000; omega)
  have e551 : mN (bds (41 :: tLL 3) (bds [12] M)) 55 = mN (bds [12] M) 55 + 7 := e551
  refine n_aload_n hC dX4_rests_14 rfl ?_
  refine n_get hC in_X7 1 q264 dX4_rests_15 rfl (xPut_p (k := 3) hp c30 (by decide)) rfl (by decide) rfl rfl ?_
  refine n_ixor hC dX4_rests_18 ?_
  exact n_iret hC dX4_rests_19 (by decide) (by decide) (⟨rfl, rfl, _, rfl, by rw [← bds_app, show (([12] ++ (41 :: tLL 3)) : List Nat) = tPR 3 from rfl] at hR; exact hR⟩)

set_option maxHeartbeats 4000000 in
set_option maxRecDepth 100000 in
theorem ct_X4_rests_4 (na : nA) (h : nH) (C : nMem) (B : Nat → nMem) (P : Nat → Nat × Nat) (I : Nat → Nat) (M : nMem) (hR : xRel (C, B, P, I) M) (h55 : M 55 0 = nI (mN M 55)) (b55 : mN M 55 ≤ 950) {p : Nat} (hp : p < 15) (c30 : C 30 p = nI (4 + 4)) (x : Int32) : nM yX4_rests cX4_rests 2 (some .int) (nRm 6 0 0) [.ref (na (131 + p)), .int x] na (xPut na h (C, B, P, I)) (nQi (xDn na h C P I M (vPR 4 p (C 31 p) (C 32 p) x) (tPR 4))) 0 0 := by
  refine nM.ofN RX4 rfl (by decide) (by intro v hv; simp only [List.mem_cons, List.not_mem_nil, or_false] at hv; rcases hv with rfl | rfl <;> rfl) (Nat.le_of_ble_eq_true rfl) (fun K hC hnm => ?_)
  show WN K na (xPut na h (C, B, P, I)) 0 0 (nE K (nQi (xDn na h C P I M (vPR 4 p (C 31 p) (C 32 p) x) (tPR 4))) 0 0) 0 [some (.ref (na (131 + p))), some (.int x)] []
  let Q9 : State → Prop := nE K (nQi (xDn na h C P I M (vPR 4 p (C 31 p) (C 32 p) x) (tPR 4))) 0 0
  show WN K na (xPut na h (C, B, P, I)) 0 0 Q9 0 [some (.ref (na (131 + p))), some (.int x)] []
  refine n_aload_n hC dX4_rests_0 rfl ?_
  refine n_get hC in_X8 0 q255 dX4_rests_1 rfl (xPut_p (k := 4) hp c30 (by decide)) rfl (by decide) rfl rfl ?_
  refine n_bipush hC (v := nI 12) dX4_rests_4 (by decide) ?_
  refine n_callV1v hC (xc_rel (i := 0) (c := (1, 0)) hR.2.2.2.2.2.2.2.2.1.1 ⟨by decide, by decide⟩ (ct_X1_ran (bB 0) na _ (B 0) (c := mN M 55) (hR.2.2.2.2.2.2.2.2.1.2.1.trans h55) (by omega) 12)) md_X1_ran q925 dX4_rests_6 rfl ((xBlk_o (na := na) (h := h) (X := (C, B, P, I)) (i := 0) (c := (1, 0)) hR.2.2.2.2.2.2.2.2.1.1 ⟨by decide, by decide⟩ 9 (by decide)).trans (if_pos rfl)) rfl rfl ⟨rfl, rfl, by decide, by decide⟩ rfl (Nat.le_of_ble_eq_true rfl) (by decide) (by decide) (fun na0 h0 hp0 => ?_)
  obtain ⟨rfl, R0, rfl, eR9⟩ := hp0
  have hR := hR.ran h55 (by omega) eR9
  obtain ⟨h55, e55⟩ := bds_55 (l := [12]) h55 (by show _ + 1 ≤ 1000; omega)
  have e55 : mN (bds [12] M) 55 = mN M 55 + 1 := e55
  refine n_aload_n hC dX4_rests_9 rfl ?_
  refine n_iload_n hC dX4_rests_10 rfl ?_
  refine n_callU1i hC (ct_X4_leads_4 na _ C (bset B 0 R0) P I (bds [12] M) hR h55 (by omega) hp c30 x) q948 q83 q972 q938 q936 q948 q954 q936 ⟨by decide, by decide, by decide +kernel⟩ dX4_rests_11 rfl (xPut_p (k := 4) hp c30 (by decide)) rfl ⟨rfl, rfl, by decide, by decide⟩ rfl (Nat.le_of_ble_eq_true rfl) (by decide) (by decide) (fun r1 na1 h1 hp1 => ?_)
  obtain ⟨rfl, rfl, B1, rfl, hR⟩ := hp1
  obtain ⟨h55, e551⟩ := bds_55 (l := tPL 4) h55 (by show _ + 2 ≤ 1000; omega)
  have e551 : mN (bds (tPL 4) (bds [12] M)) 55 = mN (bds [12] M) 55 + 2 := e551
  refine n_aload_n hC dX4_rests_14 rfl ?_
  refine n_get hC in_X8 1 q264 dX4_rests_15 rfl (xPut_p (k := 4) hp c30 (by decide)) rfl (by decide) rfl rfl ?_
  refine n_ixor hC dX4_rests_18 ?_
  exact n_iret hC dX4_rests_19 (by decide) (by decide) (⟨rfl, rfl, _, rfl, by rw [← bds_app, show (([12] ++ (tPL 4)) : List Nat) = tPR 4 from rfl] at hR; exact hR⟩)

set_option maxHeartbeats 4000000 in
set_option maxRecDepth 100000 in
theorem ct_X8_rests_4 (na : nA) (h : nH) (C : nMem) (B : Nat → nMem) (P : Nat → Nat × Nat) (I : Nat → Nat) (M : nMem) (hR : xRel (C, B, P, I) M) (h55 : M 55 0 = nI (mN M 55)) (b55 : mN M 55 ≤ 900) {p : Nat} (hp : p < 15) (c30 : C 30 p = nI (4 + 4)) (x : Int32) : nM yX8_rests cX8_rests 3 (some .int) (nRm 7 0 0) [.ref (na (131 + p)), .int x] na (xPut na h (C, B, P, I)) (nQi (xDn na h C P I M (vL 4 (C 31 p) (C 32 p) x + vPR 4 p (C 31 p) (C 32 p) (x - nI 1)) (50 :: (tL 4 ++ tPR 4)))) 0 0 := by
  refine nM.ofN RX8 rfl (by decide) (by intro v hv; simp only [List.mem_cons, List.not_mem_nil, or_false] at hv; rcases hv with rfl | rfl <;> rfl) (Nat.le_of_ble_eq_true rfl) (fun K hC hnm => ?_)
  show WN K na (xPut na h (C, B, P, I)) 0 0 (nE K (nQi (xDn na h C P I M (vL 4 (C 31 p) (C 32 p) x + vPR 4 p (C 31 p) (C 32 p) (x - nI 1)) (50 :: (tL 4 ++ tPR 4)))) 0 0) 0 [some (.ref (na (131 + p))), some (.int x), none] []
  let Q9 : State → Prop := nE K (nQi (xDn na h C P I M (vL 4 (C 31 p) (C 32 p) x + vPR 4 p (C 31 p) (C 32 p) (x - nI 1)) (50 :: (tL 4 ++ tPR 4)))) 0 0
  show WN K na (xPut na h (C, B, P, I)) 0 0 Q9 0 [some (.ref (na (131 + p))), some (.int x), none] []
  refine n_aload_n hC dX8_rests_0 rfl ?_
  refine n_getS hC in_X8 0 q262 q263 dX8_rests_1 rfl (xPut_p (k := 4) hp c30 (by decide)) rfl (by decide) rfl ?_
  refine n_bipush hC (v := nI 50) dX8_rests_4 (by decide) ?_
  refine n_callV1v hC (xc_rel (i := 0) (c := (1, 0)) hR.2.2.2.2.2.2.2.2.1.1 ⟨by decide, by decide⟩ (ct_X1_ran (bB 0) na _ (B 0) (c := mN M 55) (hR.2.2.2.2.2.2.2.2.1.2.1.trans h55) (by omega) 50)) md_X1_ran q965 dX8_rests_6 rfl ((xBlk_o (na := na) (h := h) (X := (C, B, P, I)) (i := 0) (c := (1, 0)) hR.2.2.2.2.2.2.2.2.1.1 ⟨by decide, by decide⟩ 9 (by decide)).trans (if_pos rfl)) rfl rfl ⟨rfl, rfl, by decide, by decide⟩ rfl (Nat.le_of_ble_eq_true rfl) (by decide) (by decide) (fun na0 h0 hp0 => ?_)
  obtain ⟨rfl, R0, rfl, eR9⟩ := hp0
  have hR := hR.ran h55 (by omega) eR9
  obtain ⟨h55, e55⟩ := bds_55 (l := [50]) h55 (by show _ + 1 ≤ 1000; omega)
  have e55 : mN (bds [50] M) 55 = mN M 55 + 1 := e55
  refine n_aload_n hC dX8_rests_9 rfl ?_
  refine n_iload_n hC dX8_rests_10 rfl ?_
  refine n_callU1i hC (ct_X4_leads_4 na _ C (bset B 0 R0) P I (bds [50] M) hR h55 (by omega) hp c30 x) q948 q83 q966 q967 q936 q948 q969 q936 ⟨by decide, by decide, by decide +kernel⟩ dX8_rests_11 rfl (xPut_p (k := 4) hp c30 (by decide)) rfl ⟨rfl, rfl, by decide, by decide⟩ rfl (Nat.le_of_ble_eq_true rfl) (by decide) (by decide) (fun r1 na1 h1 hp1 => ?_)
  obtain ⟨rfl, rfl, B1, rfl, hR⟩ := hp1
  obtain ⟨h55, e551⟩ := bds_55 (l := tPL 4) h55 (by show _ + 2 ≤ 1000; omega)
  have e551 : mN (bds (tPL 4) (bds [50] M)) 55 = mN (bds [50] M) 55 + 2 := e551
  refine n_istore_n hC dX8_rests_14 (Nat.le_of_ble_eq_true rfl) ?_
  refine n_iload_n hC dX8_rests_15 rfl ?_
  refine n_aload_n hC dX8_rests_16 rfl ?_
  refine n_iload_n hC dX8_rests_17 rfl ?_
  refine n_iconst hC (v := nI 1) dX8_rests_18 (by decide) ?_
  refine n_isub hC dX8_rests_19 ?_
  refine n_callP1i hC (ct_X4_rests_4 na _ C B1 P I (bds (tPL 4) (bds [50] M)) hR h55 (by omega) hp c30 (x - (nI 1))) q971 q83 q970 q958 q321 q956 ⟨by decide, by decide +kernel⟩ dX8_rests_20 rfl (xPut_p (k := 4) hp c30 (by decide)) rfl ⟨rfl, rfl, by decide, by decide⟩ rfl (Nat.le_of_ble_eq_true rfl) (by decide) (by decide) (fun r2 na2 h2 hp2 => ?_)
  obtain ⟨rfl, rfl, B2, rfl, hR⟩ := hp2
  obtain ⟨h55, e552⟩ := bds_55 (l := tPR 4) h55 (by show _ + 3 ≤ 1000; omega)
  have e552 : mN (bds (tPR 4) (bds (tPL 4) (bds [50] M))) 55 = mN (bds (tPL 4) (bds [50] M)) 55 + 3 := e552
  refine n_iadd hC dX8_rests_23 ?_
  exact n_iret hC dX8_rests_24 (by decide) (by decide) (⟨rfl, rfl, _, rfl, by rw [← bds_app, ← bds_app, show (([50] ++ ((tPL 4) ++ (tPR 4))) : List Nat) = 50 :: (tL 4 ++ tPR 4) from rfl] at hR; exact hR⟩)

