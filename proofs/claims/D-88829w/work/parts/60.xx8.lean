/-! ===== THE CLASS: constructors of blocks ===== -/
set_option maxRecDepth 100000
set_option maxHeartbeats 4000000 in
set_option maxRecDepth 100000 in
theorem ct_X9_init (b : Nat) (na : nA) (h : nH) (n : Nat) : nM yX9_init cX9_init 2 (none) (nRm 0 205 2027) [.ref (na (b + 9)), .int (nI n)] na (gK shX9 b na h (fun _ _ => 0) 1) (nQv (gNew shX9 b na h (fun R2 => R2 = mset (fun _ _ => 0) 0 (fun _ => nI n)))) 205 2027 := by
  refine nM.ofN RX9 rfl (by decide) (by intro v hv; simp only [List.mem_cons, List.not_mem_nil, or_false] at hv; rcases hv with rfl | rfl <;> rfl) (Nat.le_of_ble_eq_true rfl) (fun K hC hnm => ?_)
  show WN K na (gK shX9 b na h (fun _ _ => 0) 1) 0 0 (nE K (nQv (gNew shX9 b na h (fun R2 => R2 = mset (fun _ _ => 0) 0 (fun _ => nI n)))) 205 2027) 0 [some (.ref (na (b + 9))), some (.int (nI n))] []
  let Q9 : State → Prop := nE K (nQv (gNew shX9 b na h (fun R2 => R2 = mset (fun _ _ => 0) 0 (fun _ => nI n)))) 205 2027
  show WN K na (gK shX9 b na h (fun _ _ => 0) 1) 0 0 Q9 0 [some (.ref (na (b + 9))), some (.int (nI n))] []
  refine n_aload_n hC dX9_init_0 rfl ?_
  refine n_objInit (kk := 0) (e9 := .inr (0, [])) hC q331 q113 q114 dX9_init_1 rfl (by decide) (by decide) (by decide) ?_
  refine n_aload_n hC dX9_init_4 rfl ?_
  refine n_bipush hC (v := nI 9) dX9_init_5 (by decide) ?_
  refine k_arr hC gW_X9 (sh := shX9) (b := b) (R := (fun _ _ => 0)) 1 (by decide) rfl (by decide) (by decide) dX9_init_7 (by decide) rfl rfl q336 dX9_init_9 rfl rfl hnm rfl rfl (by decide) (by decide) (fun na0 ho0 => ?_)
  refine n_aload_n hC dX9_init_12 rfl ?_
  refine n_bipush hC (v := nI 9) dX9_init_13 (by decide) ?_
  refine k_arr hC gW_X9 (sh := shX9) (b := b) (R := (fun _ _ => 0)) 2 (by decide) rfl (by decide) (by decide) dX9_init_15 (by decide) rfl rfl q338 dX9_init_17 (ho0 _ (by omega)) rfl hnm rfl rfl (by decide) (by decide) (fun na1 ho1 => ?_)
  refine n_aload_n hC dX9_init_20 rfl ?_
  refine n_bipush hC (v := nI 9) dX9_init_21 (by decide) ?_
  refine k_arr hC gW_X9 (sh := shX9) (b := b) (R := (fun _ _ => 0)) 3 (by decide) rfl (by decide) (by decide) dX9_init_23 (by decide) rfl rfl q340 dX9_init_25 ((ho1 _ (by omega)).trans (ho0 _ (by omega))) rfl hnm rfl rfl (by decide) (by decide) (fun na2 ho2 => ?_)
  refine n_aload_n hC dX9_init_28 rfl ?_
  refine n_bipush hC (v := nI 100) dX9_init_29 (by decide) ?_
  refine n_bipush hC (v := nI 9) dX9_init_31 (by decide) ?_
  refine k_grid hC gW_X9 (sh := shX9) (b := b) (R := (fun _ _ => 0)) 4 20 (Or.inl ⟨rfl, rfl, rfl⟩) rfl (fun i hi => shX9_hi (by omega)) (by decide) (by decide) (by decide) q332 dX9_init_33 (by decide) (by decide) rfl rfl (fun _ _ => rfl) q341 dX9_init_37 ((ho2 _ (by omega)).trans ((ho1 _ (by omega)).trans (ho0 _ (by omega)))) rfl hnm rfl rfl (by decide) (by decide) (fun na3 ho3 => ?_)
  refine n_aload_n hC dX9_init_40 rfl ?_
  refine n_bipush hC (v := nI 100) dX9_init_41 (by decide) ?_
  refine n_bipush hC (v := nI 9) dX9_init_43 (by decide) ?_
  refine k_grid hC gW_X9 (sh := shX9) (b := b) (R := (fun _ _ => 0)) 5 120 (Or.inr ⟨rfl, rfl, rfl⟩) rfl (fun i hi => shX9_hi (by omega)) (by decide) (by decide) (by decide) q332 dX9_init_45 (by decide) (by decide) rfl rfl (fun _ _ => rfl) q343 dX9_init_49 ((ho3 _ (by omega)).trans ((ho2 _ (by omega)).trans ((ho1 _ (by omega)).trans (ho0 _ (by omega))))) rfl hnm rfl rfl (by decide) (by decide) (fun na4 ho4 => ?_)
  refine n_aload_n hC dX9_init_52 rfl ?_
  refine n_iload_n hC dX9_init_53 rfl ?_
  refine k_putI hC gW_X9 (sh := shX9) (b := b) (k := 6) 0 (R2 := mset (fun _ _ => 0) 0 (fun _ => nI n)) q334 dX9_init_54 ((ho4 _ (by omega)).trans ((ho3 _ (by omega)).trans ((ho2 _ (by omega)).trans ((ho1 _ (by omega)).trans (ho0 _ (by omega)))))) (by decide) rfl rfl hnm rfl rfl rfl ?_
  exact n_vret hC dX9_init_57 (by decide) (by decide) (⟨fun x hx => ((ho4 x (by omega)).trans ((ho3 x (by omega)).trans ((ho2 x (by omega)).trans ((ho1 x (by omega)).trans (ho0 x (by omega)))))), _, (gK_e (getD_k (by decide)) (Or.inl (by decide)) (by decide)).symm, rfl⟩)

set_option maxHeartbeats 4000000 in
set_option maxRecDepth 100000 in
theorem ct_X12_init (b : Nat) (na : nA) (h : nH) : nM yX12_init cX12_init 1 (none) (nRm 0 1 300) [.ref (na (b + 9))] na (gK shX12 b na h (fun _ _ => 0) 0) (nQv (gNew shX12 b na h (fun R2 => R2 = fun _ _ => 0))) 1 300 := by
  refine nM.ofN RX12 rfl (by decide) (by intro v hv; simp only [List.mem_cons, List.not_mem_nil, or_false] at hv; subst hv; rfl) (Nat.le_of_ble_eq_true rfl) (fun K hC hnm => ?_)
  show WN K na (gK shX12 b na h (fun _ _ => 0) 0) 0 0 (nE K (nQv (gNew shX12 b na h (fun R2 => R2 = fun _ _ => 0))) 1 300) 0 [some (.ref (na (b + 9)))] []
  let Q9 : State → Prop := nE K (nQv (gNew shX12 b na h (fun R2 => R2 = fun _ _ => 0))) 1 300
  show WN K na (gK shX12 b na h (fun _ _ => 0) 0) 0 0 Q9 0 [some (.ref (na (b + 9)))] []
  refine n_aload_n hC dX12_init_0 rfl ?_
  refine n_objInit (kk := 0) (e9 := .inr (0, [])) hC q596 q113 q114 dX12_init_1 rfl (by decide) (by decide) (by decide) ?_
  refine n_aload_n hC dX12_init_4 rfl ?_
  refine n_sipush hC (v := nI 300) dX12_init_5 (by decide) ?_
  refine k_arr hC gW_X12 (sh := shX12) (b := b) (R := (fun _ _ => 0)) 0 (by decide) rfl (by decide) (by decide) dX12_init_8 (by decide) rfl rfl q597 dX12_init_10 rfl rfl hnm rfl rfl (by decide) (by decide) (fun na0 ho0 => ?_)
  exact n_vret hC dX12_init_13 (by decide) (by decide) (⟨fun x hx => (ho0 x (by omega)), _, (gK_e (getD_k (by decide)) (Or.inr rfl) (by decide)).symm, rfl⟩)

set_option maxHeartbeats 4000000 in
set_option maxRecDepth 100000 in
theorem ct_X1_init (b : Nat) (na : nA) (h : nH) : nM yX1_init cX1_init 1 (none) (nRm 0 1 20) [.ref (na (b + 9))] na (gK shX1 b na h (fun _ _ => 0) 0) (nQv (gNew shX1 b na h (fun R2 => R2 = fun _ _ => 0))) 1 20 := by
  refine nM.ofN RX1 rfl (by decide) (by intro v hv; simp only [List.mem_cons, List.not_mem_nil, or_false] at hv; subst hv; rfl) (Nat.le_of_ble_eq_true rfl) (fun K hC hnm => ?_)
  show WN K na (gK shX1 b na h (fun _ _ => 0) 0) 0 0 (nE K (nQv (gNew shX1 b na h (fun R2 => R2 = fun _ _ => 0))) 1 20) 0 [some (.ref (na (b + 9)))] []
  let Q9 : State → Prop := nE K (nQv (gNew shX1 b na h (fun R2 => R2 = fun _ _ => 0))) 1 20
  show WN K na (gK shX1 b na h (fun _ _ => 0) 0) 0 0 Q9 0 [some (.ref (na (b + 9)))] []
  refine n_aload_n hC dX1_init_0 rfl ?_
  refine n_objInit (kk := 0) (e9 := .inr (0, [])) hC q124 q113 q114 dX1_init_1 rfl (by decide) (by decide) (by decide) ?_
  refine n_aload_n hC dX1_init_4 rfl ?_
  refine n_bipush hC (v := nI 20) dX1_init_5 (by decide) ?_
  refine k_arr hC gW_X1 (sh := shX1) (b := b) (R := (fun _ _ => 0)) 0 (by decide) rfl (by decide) (by decide) dX1_init_7 (by decide) rfl rfl q125 dX1_init_9 rfl rfl hnm rfl rfl (by decide) (by decide) (fun na0 ho0 => ?_)
  exact n_vret hC dX1_init_12 (by decide) (by decide) (⟨fun x hx => (ho0 x (by omega)), _, (gK_e (getD_k (by decide)) (Or.inr rfl) (by decide)).symm, rfl⟩)

