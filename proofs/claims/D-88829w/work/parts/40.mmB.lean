/-! ===== THE REFERENCE is made ===== -/
set_option maxRecDepth 100000
/-- the reference's memory as it is made -/
def mZero : nMem := fun j => if j = 57 then upd (upd (upd (upd (upd (upd (fun _ => 0) 0 (-1)) 1 (-1)) 2 (-1)) 3 (-1)) 4 (-1)) 5 (-1) else fun _ => 0
def mfsK (na : nA) (M : nMem) (k : Nat) : List Value := (List.range 61).map fun j => if j < k then (if mIsA j = true then .ref (na j) else .int (M j 0)) else (if mIsA j = true then .null else .int 0)
/-- the first k fields are made -/
def mPutK (na : nA) (h : nH) (M : nMem) (k : Nat) : nH := fun i => if i = 61 then some (.inr (3, mfsK na M k)) else if i < 61 then (if i < k ∧ mIsA i = true then some (.inl (0, mLen i, .inl (M i))) else none) else h i
theorem mfsK_len (na : nA) (M : nMem) (k : Nat) : (mfsK na M k).length = 61 := by unfold mfsK; rw [List.length_map, List.length_range]
theorem mfsK_at {na : nA} {M : nMem} {k j : Nat} (hj : j < 61) : (mfsK na M k)[j]? = some (if j < k then (if mIsA j = true then .ref (na j) else .int (M j 0)) else (if mIsA j = true then .null else .int 0)) := by
  unfold mfsK
  rw [List.getElem?_map, List.getElem?_range hj]
  rfl
theorem mPutK_o (na : nA) (h : nH) (M : nMem) (k : Nat) : mPutK na h M k 61 = some (.inr (3, mfsK na M k)) := if_pos rfl
theorem mfsK_set {na na2 : nA} {M : nMem} {k : Nat} {v : Value} (hk : k < 61) (hn : ∀ i, i < k → na2 i = na i) (hv : (if mIsA k = true then .ref (na2 k) else .int (M k 0)) = v) : (mfsK na M k).set k v = mfsK na2 M (k + 1) := by
  apply List.ext_getElem?
  intro j
  by_cases e : j = k
  · subst e
    rw [List.getElem?_set_self (by rw [mfsK_len]; exact hk), mfsK_at hk, if_pos (by omega), hv]
  · rw [List.getElem?_set_ne (Ne.symm e)]
    by_cases hj : j < 61
    · rw [mfsK_at hj, mfsK_at hj]
      by_cases c : j < k
      · rw [if_pos c, if_pos (show j < k + 1 by omega), hn j c]
      · rw [if_neg c, if_neg (show ¬ j < k + 1 by omega)]
    · rw [List.getElem?_eq_none (by rw [mfsK_len]; omega), List.getElem?_eq_none (by rw [mfsK_len]; omega)]
theorem mPutK_I {na : nA} {h : nH} {M : nMem} {k : Nat} {v : Value} (hk : k < 61) (ha : mIsA k = false) (hv : Value.int (M k 0) = v) : nup (mPutK na h M k) 61 (.inr (3, (mfsK na M k).set k v)) = mPutK na h M (k + 1) := by
  rw [mfsK_set (na2 := na) hk (fun _ _ => rfl) (by rw [ha, if_neg (by decide)]; exact hv)]
  funext i
  by_cases e : i = 61
  · subst e; rw [nup_s, mPutK_o]
  · rw [nup_n e]
    unfold mPutK
    rw [if_neg e, if_neg e]
    by_cases c : i < 61
    · rw [if_pos c, if_pos c]
      by_cases d : i < k ∧ mIsA i = true
      · rw [if_pos d, if_pos ⟨by omega, d.2⟩]
      · rw [if_neg d, if_neg (fun z => d ⟨by
          by_cases q : i = k
          · subst q; rw [ha] at z; exact absurd z.2 (by decide)
          · omega, z.2⟩)]
    · rw [if_neg c, if_neg c]
/-- the array k, ahead of its field -/
def mPutN (na : nA) (h : nH) (M : nMem) (k : Nat) (f : Nat → Int32) : nH := nup (mPutK na h M k) k (.inl (0, mLen k, .inl f))
theorem mPutN_o {na : nA} {h : nH} {M : nMem} {k : Nat} {f : Nat → Int32} (hk : k < 61) : mPutN na h M k f 61 = some (.inr (3, mfsK na M k)) := by unfold mPutN; rw [nup_n (by omega)]; exact mPutK_o na h M k
theorem mfsK_na {na na2 : nA} {M : nMem} {k : Nat} (h : ∀ i, i < k → na2 i = na i) : mfsK na M k = mfsK na2 M k := by
  apply List.ext_getElem?
  intro j
  by_cases hj : j < 61
  · rw [mfsK_at hj, mfsK_at hj]
    by_cases c : j < k
    · rw [if_pos c, if_pos c, h j c]
    · rw [if_neg c, if_neg c]
  · rw [List.getElem?_eq_none (by rw [mfsK_len]; omega), List.getElem?_eq_none (by rw [mfsK_len]; omega)]
theorem mPutK_na {na na2 : nA} {h : nH} {M : nMem} {k : Nat} (hn : ∀ i, i < k → na2 i = na i) : mPutK na h M k = mPutK na2 h M k := by
  unfold mPutK
  rw [mfsK_na hn]
theorem mPutN_na {na na2 : nA} {h : nH} {M : nMem} {k : Nat} {f : Nat → Int32} (hn : ∀ i, i < k → na2 i = na i) : mPutN na h M k f = mPutN na2 h M k f := by
  unfold mPutN
  rw [mPutK_na hn]
theorem mPutN_set {na : nA} {h : nH} {M : nMem} {k : Nat} {f g : Nat → Int32} : nup (mPutN na h M k f) k (.inl (0, mLen k, .inl g)) = mPutN na h M k g := by
  unfold mPutN
  funext i
  by_cases e : i = k
  · subst e; rw [nup_s, nup_s]
  · rw [nup_n e, nup_n e, nup_n e]
theorem mPutN_I {na : nA} {h : nH} {M : nMem} {k : Nat} (hk : k < 61) (ha : mIsA k = true) : nup (mPutN na h M k (M k)) 61 (.inr (3, (mfsK na M k).set k (.ref (na k)))) = mPutK na h M (k + 1) := by
  rw [mfsK_set (na2 := na) hk (fun _ _ => rfl) (by rw [if_pos ha])]
  funext i
  by_cases e : i = 61
  · subst e; rw [nup_s, mPutK_o]
  · rw [nup_n e]
    unfold mPutN
    by_cases e2 : i = k
    · subst e2
      rw [nup_s]
      unfold mPutK
      rw [if_neg e, if_pos hk, if_pos ⟨by omega, ha⟩]
    · rw [nup_n e2]
      unfold mPutK
      rw [if_neg e, if_neg e]
      by_cases c : i < 61
      · rw [if_pos c, if_pos c]
        by_cases d : i < k ∧ mIsA i = true
        · rw [if_pos d, if_pos ⟨by omega, d.2⟩]
        · rw [if_neg d, if_neg (fun z => d ⟨by omega, z.2⟩)]
      · rw [if_neg c, if_neg c]
theorem mPutK_e {na : nA} {h : nH} {M : nMem} : mPutK na h M 61 = mPut na h M := by
  funext i
  unfold mPutK mPut mCell
  by_cases e : i = 61
  · subst e
    rw [if_pos rfl, if_pos (by decide), if_pos rfl]
    have e : mfsK na M 61 = mfs na M := by
      apply List.ext_getElem?
      intro j
      by_cases hj : j < 61
      · rw [mfsK_at hj, mfs_at hj, if_pos hj]
      · rw [List.getElem?_eq_none (by rw [mfsK_len]; omega), List.getElem?_eq_none (by rw [mfs_len]; omega)]
    rw [e]
  · rw [if_neg e]
    by_cases c : i < 61
    · rw [if_pos c, if_pos (show i < 62 by omega), if_neg e]
      by_cases d : mIsA i = true
      · rw [if_pos ⟨c, d⟩, if_pos d]
      · rw [if_neg (fun z => d z.2), if_neg d]
    · rw [if_neg c, if_neg (show ¬ i < 62 by omega)]
section NINIT
variable {K : nK} {na : nA} {h : nH} {M : nMem} {cells slots : Nat} {Q : State → Prop} {cc : ByteArray} {nL pc a : Nat} {ret : Option FieldType} {rm : Room} {L : List (Option Value)} {st : List Value}
theorem mi_new (hC : nC K cc nL RX3 ret rm) (j : Nat) (hj : j < 61) {n : Int32} (hdg : decode cc pc = .ok (.newarray .int, 2)) (hn : ¬ n < 0) (hN : n.toNatClampNeg = mLen j) (hce : cells + 1 ≤ rm.cells) (hsl : slots + mLen j ≤ rm.slots)
    (k : ∀ na2 : nA, (∀ i, i ≠ j → na2 i = na i) → WN K na2 (mPutN na2 h M j (fun _ => 0)) (cells + 1) (slots + mLen j) Q (pc + 2) L (.ref (na2 j) :: st)) : WN K na (mPutK na h M j) cells slots Q pc L (.int n :: st) := by
  refine n_newarr hC (atype := .int) (t := 0) (a0 := (mLen j, .inl (fun _ => 0))) q134 (fun d => rfl) hdg j (by unfold mPutK; rw [if_neg (by omega), if_pos hj, if_neg (by omega)]) (fun cA => rfl) hn hN (by have := mLen_le j; show mLen j * 4 ≤ _; omega) hce hsl (fun q => ?_)
  have h2 : ∀ i, i ≠ j → nua na j q i = na i := fun i hi => nua_n hi
  have := k (nua na j q) h2
  rw [nua_s, ← mPutN_na (na := na) (fun i hi => h2 i (by omega))] at this
  exact this
theorem mi_put (hC : nC K cc nL RX3 ret rm) (hnm : K.2.2.2.2.2.2.2.2.1.name = "<init>") (j : Nat) {f : Nat → Int32} (hdg : decode cc pc = .ok (.putfield (mIx j), 3)) (hk : na 61 = a) (hj : mIsA j = true) (hfin : (TX3 j).2.2.2 = true) (hd : parseFieldDescriptor (TX3 j).2.2.1 = some (.array .int)) (hf : f = M j)
    (k : WN K na (mPutK na h M (j + 1)) cells slots Q (pc + 3) L st) : WN K na (mPutN na h M j f) cells slots Q pc L (.ref (na j) :: .ref a :: st) := by
  subst hf
  have hl := mIsA_lt hj
  refine n_putF hC in_X3 tyX3 tyX3_ok nmX3 j (mlk j hl) hdg hk (mPutN_o hl) rfl hl (mTX j hl) hfin hnm (mTX j hl) hd rfl rfl (by rw [mfsK_len]; exact hl) ?_
  rw [mPutN_I hl hj]
  exact k
theorem mi_zero (hC : nC K cc nL RX3 ret rm) (j : Nat) (hdg : decode cc pc = .ok (.putfield (mIx j), 3)) (hk : na 61 = a) (hj : mIsA j = false) (hl : j < 61) (hfin : (TX3 j).2.2.2 = false) {ty : FieldType} (hd : parseFieldDescriptor (TX3 j).2.2.1 = some ty) (hn : narrow ty (.int 0) = .int 0) (hfit : fits ty (.int 0) = true) (hf : M j 0 = 0)
    (k : WN K na (mPutK na h M (j + 1)) cells slots Q (pc + 3) L st) : WN K na (mPutK na h M j) cells slots Q pc L (.int (nI 0) :: .ref a :: st) := by
  refine n_put hC in_X3 tyX3 tyX3_ok nmX3 j (mlk j hl) hdg hk (mPutK_o na h M j) rfl hl (mTX j hl) hfin hd hn hfit (by rw [mfsK_len]; exact hl) ?_
  rw [show (Value.int (nI 0)) = Value.int 0 from rfl, mPutK_I hl hj (by rw [hf])]
  exact k
theorem mi_st (hC : nC K cc nL RX3 ret rm) (j : Nat) {f : Nat → Int32} {i : Nat} {x : Int32} (hdg : decode cc pc = .ok (.iastore, 1)) (hk : na j = a) (hi : i < mLen j) (k : WN K na (mPutN na h M j (upd f i x)) cells slots Q (pc + 1) L st) : WN K na (mPutN na h M j f) cells slots Q pc L (.int x :: .int (nI i) :: .ref a :: st) := by
  refine n_iastN hC hdg hk (by unfold mPutN; rw [nup_s]) hi (Nat.lt_of_le_of_lt (mLen_le j) (by decide)) ?_
  rw [mPutN_set]
  exact k
end NINIT
set_option maxHeartbeats 4000000 in
/-- the reference is made: 44 arrays, 17030 slots -/
theorem mt_X3_init (na : nA) (h : nH) : nM yX3_init cX3_init 1 none (nRm 0 44 17030) [.ref (na 61)] na (mPutK na h mZero 0) (nQv (fun na2 h2 => (∀ i, 61 ≤ i → na2 i = na i) ∧ h2 = mPut na2 h mZero)) 44 17030 := by
  refine nM.ofN RX3 rfl (by decide) (by intro v hv; simp only [List.mem_cons, List.not_mem_nil, or_false] at hv; subst hv; rfl) (Nat.le_of_ble_eq_true rfl) (fun K hC hnm => ?_)
  obtain ⟨a, ha⟩ : ∃ a, na 61 = a := ⟨_, rfl⟩
  obtain ⟨n0, hn0⟩ : ∃ z, z = na := ⟨_, rfl⟩
  have hN : ∀ i, 61 ≤ i → na i = n0 i := fun i _ => by rw [hn0]
  rw [ha]
  let Q9 : State → Prop := nE K (nQv (fun na2 h2 => (∀ i, 61 ≤ i → na2 i = na i) ∧ h2 = mPut na2 h mZero)) 44 17030
  show WN K na (mPutK na h mZero 0) 0 0 Q9 0 [some (.ref a)] []
  refine n_aload_n hC dX3_init_0 rfl ?_
  refine n_objInit (kk := 0) (e9 := .inr (0, [])) hC q1104 q113 q114 dX3_init_1 rfl (by decide) (by decide) (by decide) ?_
  refine n_aload_n hC dX3_init_4 rfl ?_
  refine n_iconst hC (v := nI 0) dX3_init_5 (by decide) ?_
  refine mi_zero hC 0 dX3_init_6 ha rfl (by decide) rfl (ty := .int) rfl rfl rfl rfl ?_
  refine n_aload_n hC dX3_init_9 rfl ?_
  refine n_iconst hC (v := nI 0) dX3_init_10 (by decide) ?_
  refine mi_zero hC 1 dX3_init_11 ha rfl (by decide) rfl (ty := .int) rfl rfl rfl rfl ?_
  refine n_aload_n hC dX3_init_14 rfl ?_
  refine n_bipush hC (v := nI 15) dX3_init_15 (by decide) ?_
  refine mi_new hC 2 (by decide) dX3_init_17 (by decide) (by decide) (Nat.le_of_ble_eq_true rfl) (Nat.le_of_ble_eq_true rfl) (fun n3 k3 => ?_)
  have hN3 : ∀ i, 61 ≤ i → n3 i = n0 i := fun i hi => (k3 i (by omega)).trans (hN i hi)
  have ha3 : n3 61 = a := (k3 61 (by decide)).trans ha
  refine mi_put hC hnm 2 dX3_init_19 ha3 rfl rfl rfl rfl ?_
  refine n_aload_n hC dX3_init_22 rfl ?_
  refine n_bipush hC (v := nI 15) dX3_init_23 (by decide) ?_
  refine mi_new hC 3 (by decide) dX3_init_25 (by decide) (by decide) (Nat.le_of_ble_eq_true rfl) (Nat.le_of_ble_eq_true rfl) (fun n4 k4 => ?_)
  have hN4 : ∀ i, 61 ≤ i → n4 i = n0 i := fun i hi => (k4 i (by omega)).trans (hN3 i hi)
  have ha4 : n4 61 = a := (k4 61 (by decide)).trans ha3
  refine mi_put hC hnm 3 dX3_init_27 ha4 rfl rfl rfl rfl ?_
  refine n_aload_n hC dX3_init_30 rfl ?_
  refine n_bipush hC (v := nI 15) dX3_init_31 (by decide) ?_
  refine mi_new hC 4 (by decide) dX3_init_33 (by decide) (by decide) (Nat.le_of_ble_eq_true rfl) (Nat.le_of_ble_eq_true rfl) (fun n5 k5 => ?_)
  have hN5 : ∀ i, 61 ≤ i → n5 i = n0 i := fun i hi => (k5 i (by omega)).trans (hN4 i hi)
  have ha5 : n5 61 = a := (k5 61 (by decide)).trans ha4
  refine mi_put hC hnm 4 dX3_init_35 ha5 rfl rfl rfl rfl ?_
  refine n_aload_n hC dX3_init_38 rfl ?_
  refine n_bipush hC (v := nI 9) dX3_init_39 (by decide) ?_
  refine mi_new hC 5 (by decide) dX3_init_41 (by decide) (by decide) (Nat.le_of_ble_eq_true rfl) (Nat.le_of_ble_eq_true rfl) (fun n6 k6 => ?_)
  have hN6 : ∀ i, 61 ≤ i → n6 i = n0 i := fun i hi => (k6 i (by omega)).trans (hN5 i hi)
  have ha6 : n6 61 = a := (k6 61 (by decide)).trans ha5
  refine mi_put hC hnm 5 dX3_init_43 ha6 rfl rfl rfl rfl ?_
  refine n_aload_n hC dX3_init_46 rfl ?_
  refine n_bipush hC (v := nI 9) dX3_init_47 (by decide) ?_
  refine mi_new hC 6 (by decide) dX3_init_49 (by decide) (by decide) (Nat.le_of_ble_eq_true rfl) (Nat.le_of_ble_eq_true rfl) (fun n7 k7 => ?_)
  have hN7 : ∀ i, 61 ≤ i → n7 i = n0 i := fun i hi => (k7 i (by omega)).trans (hN6 i hi)
  have ha7 : n7 61 = a := (k7 61 (by decide)).trans ha6
  refine mi_put hC hnm 6 dX3_init_51 ha7 rfl rfl rfl rfl ?_
  refine n_aload_n hC dX3_init_54 rfl ?_
  refine n_bipush hC (v := nI 9) dX3_init_55 (by decide) ?_
  refine mi_new hC 7 (by decide) dX3_init_57 (by decide) (by decide) (Nat.le_of_ble_eq_true rfl) (Nat.le_of_ble_eq_true rfl) (fun n8 k8 => ?_)
  have hN8 : ∀ i, 61 ≤ i → n8 i = n0 i := fun i hi => (k8 i (by omega)).trans (hN7 i hi)
  have ha8 : n8 61 = a := (k8 61 (by decide)).trans ha7
  refine mi_put hC hnm 7 dX3_init_59 ha8 rfl rfl rfl rfl ?_
  refine n_aload_n hC dX3_init_62 rfl ?_
  refine n_bipush hC (v := nI 9) dX3_init_63 (by decide) ?_
  refine mi_new hC 8 (by decide) dX3_init_65 (by decide) (by decide) (Nat.le_of_ble_eq_true rfl) (Nat.le_of_ble_eq_true rfl) (fun n9 k9 => ?_)
  have hN9 : ∀ i, 61 ≤ i → n9 i = n0 i := fun i hi => (k9 i (by omega)).trans (hN8 i hi)
  have ha9 : n9 61 = a := (k9 61 (by decide)).trans ha8
  refine mi_put hC hnm 8 dX3_init_67 ha9 rfl rfl rfl rfl ?_
  refine n_aload_n hC dX3_init_70 rfl ?_
  refine n_bipush hC (v := nI 9) dX3_init_71 (by decide) ?_
  refine mi_new hC 9 (by decide) dX3_init_73 (by decide) (by decide) (Nat.le_of_ble_eq_true rfl) (Nat.le_of_ble_eq_true rfl) (fun n10 k10 => ?_)
  have hN10 : ∀ i, 61 ≤ i → n10 i = n0 i := fun i hi => (k10 i (by omega)).trans (hN9 i hi)
  have ha10 : n10 61 = a := (k10 61 (by decide)).trans ha9
  refine mi_put hC hnm 9 dX3_init_75 ha10 rfl rfl rfl rfl ?_
  refine n_aload_n hC dX3_init_78 rfl ?_
  refine n_bipush hC (v := nI 9) dX3_init_79 (by decide) ?_
  refine mi_new hC 10 (by decide) dX3_init_81 (by decide) (by decide) (Nat.le_of_ble_eq_true rfl) (Nat.le_of_ble_eq_true rfl) (fun n11 k11 => ?_)
  have hN11 : ∀ i, 61 ≤ i → n11 i = n0 i := fun i hi => (k11 i (by omega)).trans (hN10 i hi)
  have ha11 : n11 61 = a := (k11 61 (by decide)).trans ha10
  refine mi_put hC hnm 10 dX3_init_83 ha11 rfl rfl rfl rfl ?_
  refine n_aload_n hC dX3_init_86 rfl ?_
  refine n_iconst hC (v := nI 0) dX3_init_87 (by decide) ?_
  refine mi_zero hC 11 dX3_init_88 ha11 rfl (by decide) rfl (ty := .boolean) rfl rfl rfl rfl ?_
  refine n_aload_n hC dX3_init_91 rfl ?_
  refine n_bipush hC (v := nI 9) dX3_init_92 (by decide) ?_
  refine mi_new hC 12 (by decide) dX3_init_94 (by decide) (by decide) (Nat.le_of_ble_eq_true rfl) (Nat.le_of_ble_eq_true rfl) (fun n13 k13 => ?_)
  have hN13 : ∀ i, 61 ≤ i → n13 i = n0 i := fun i hi => (k13 i (by omega)).trans (hN11 i hi)
  have ha13 : n13 61 = a := (k13 61 (by decide)).trans ha11
  refine mi_put hC hnm 12 dX3_init_96 ha13 rfl rfl rfl rfl ?_
  refine n_aload_n hC dX3_init_99 rfl ?_
  refine n_bipush hC (v := nI 9) dX3_init_100 (by decide) ?_
  refine mi_new hC 13 (by decide) dX3_init_102 (by decide) (by decide) (Nat.le_of_ble_eq_true rfl) (Nat.le_of_ble_eq_true rfl) (fun n14 k14 => ?_)
  have hN14 : ∀ i, 61 ≤ i → n14 i = n0 i := fun i hi => (k14 i (by omega)).trans (hN13 i hi)
  have ha14 : n14 61 = a := (k14 61 (by decide)).trans ha13
  refine mi_put hC hnm 13 dX3_init_104 ha14 rfl rfl rfl rfl ?_
  refine n_aload_n hC dX3_init_107 rfl ?_
  refine n_iconst hC (v := nI 0) dX3_init_108 (by decide) ?_
  refine mi_zero hC 14 dX3_init_109 ha14 rfl (by decide) rfl (ty := .int) rfl rfl rfl rfl ?_
  refine n_aload_n hC dX3_init_112 rfl ?_
  refine n_iconst hC (v := nI 0) dX3_init_113 (by decide) ?_
  refine mi_zero hC 15 dX3_init_114 ha14 rfl (by decide) rfl (ty := .int) rfl rfl rfl rfl ?_
  refine n_aload_n hC dX3_init_117 rfl ?_
  refine n_sipush hC (v := nI 300) dX3_init_118 (by decide) ?_
  refine mi_new hC 16 (by decide) dX3_init_121 (by decide) (by decide) (Nat.le_of_ble_eq_true rfl) (Nat.le_of_ble_eq_true rfl) (fun n17 k17 => ?_)
  have hN17 : ∀ i, 61 ≤ i → n17 i = n0 i := fun i hi => (k17 i (by omega)).trans (hN14 i hi)
  have ha17 : n17 61 = a := (k17 61 (by decide)).trans ha14
  refine mi_put hC hnm 16 dX3_init_123 ha17 rfl rfl rfl rfl ?_
  refine n_aload_n hC dX3_init_126 rfl ?_
  refine n_bipush hC (v := nI 9) dX3_init_127 (by decide) ?_
  refine mi_new hC 17 (by decide) dX3_init_129 (by decide) (by decide) (Nat.le_of_ble_eq_true rfl) (Nat.le_of_ble_eq_true rfl) (fun n18 k18 => ?_)
  have hN18 : ∀ i, 61 ≤ i → n18 i = n0 i := fun i hi => (k18 i (by omega)).trans (hN17 i hi)
  have ha18 : n18 61 = a := (k18 61 (by decide)).trans ha17
  refine mi_put hC hnm 17 dX3_init_131 ha18 rfl rfl rfl rfl ?_
  refine n_aload_n hC dX3_init_134 rfl ?_
  refine n_sipush hC (v := nI 900) dX3_init_135 (by decide) ?_
  refine mi_new hC 18 (by decide) dX3_init_138 (by decide) (by decide) (Nat.le_of_ble_eq_true rfl) (Nat.le_of_ble_eq_true rfl) (fun n19 k19 => ?_)
  have hN19 : ∀ i, 61 ≤ i → n19 i = n0 i := fun i hi => (k19 i (by omega)).trans (hN18 i hi)
  have ha19 : n19 61 = a := (k19 61 (by decide)).trans ha18
  refine mi_put hC hnm 18 dX3_init_140 ha19 rfl rfl rfl rfl ?_
  refine n_aload_n hC dX3_init_143 rfl ?_
  refine n_sipush hC (v := nI 900) dX3_init_144 (by decide) ?_
  refine mi_new hC 19 (by decide) dX3_init_147 (by decide) (by decide) (Nat.le_of_ble_eq_true rfl) (Nat.le_of_ble_eq_true rfl) (fun n20 k20 => ?_)
  have hN20 : ∀ i, 61 ≤ i → n20 i = n0 i := fun i hi => (k20 i (by omega)).trans (hN19 i hi)
  have ha20 : n20 61 = a := (k20 61 (by decide)).trans ha19
  refine mi_put hC hnm 19 dX3_init_149 ha20 rfl rfl rfl rfl ?_
  refine n_aload_n hC dX3_init_152 rfl ?_
  refine n_iconst hC (v := nI 0) dX3_init_153 (by decide) ?_
  refine mi_zero hC 20 dX3_init_154 ha20 rfl (by decide) rfl (ty := .int) rfl rfl rfl rfl ?_
  refine n_aload_n hC dX3_init_157 rfl ?_
  refine n_bipush hC (v := nI 40) dX3_init_158 (by decide) ?_
  refine mi_new hC 21 (by decide) dX3_init_160 (by decide) (by decide) (Nat.le_of_ble_eq_true rfl) (Nat.le_of_ble_eq_true rfl) (fun n22 k22 => ?_)
  have hN22 : ∀ i, 61 ≤ i → n22 i = n0 i := fun i hi => (k22 i (by omega)).trans (hN20 i hi)
  have ha22 : n22 61 = a := (k22 61 (by decide)).trans ha20
  refine mi_put hC hnm 21 dX3_init_162 ha22 rfl rfl rfl rfl ?_
  refine n_aload_n hC dX3_init_165 rfl ?_
  refine n_bipush hC (v := nI 40) dX3_init_166 (by decide) ?_
  refine mi_new hC 22 (by decide) dX3_init_168 (by decide) (by decide) (Nat.le_of_ble_eq_true rfl) (Nat.le_of_ble_eq_true rfl) (fun n23 k23 => ?_)
  have hN23 : ∀ i, 61 ≤ i → n23 i = n0 i := fun i hi => (k23 i (by omega)).trans (hN22 i hi)
  have ha23 : n23 61 = a := (k23 61 (by decide)).trans ha22
  refine mi_put hC hnm 22 dX3_init_170 ha23 rfl rfl rfl rfl ?_
  refine n_aload_n hC dX3_init_173 rfl ?_
  refine n_bipush hC (v := nI 40) dX3_init_174 (by decide) ?_
  refine mi_new hC 23 (by decide) dX3_init_176 (by decide) (by decide) (Nat.le_of_ble_eq_true rfl) (Nat.le_of_ble_eq_true rfl) (fun n24 k24 => ?_)
  have hN24 : ∀ i, 61 ≤ i → n24 i = n0 i := fun i hi => (k24 i (by omega)).trans (hN23 i hi)
  have ha24 : n24 61 = a := (k24 61 (by decide)).trans ha23
  refine mi_put hC hnm 23 dX3_init_178 ha24 rfl rfl rfl rfl ?_
  refine n_aload_n hC dX3_init_181 rfl ?_
  refine n_bipush hC (v := nI 9) dX3_init_182 (by decide) ?_
  refine mi_new hC 24 (by decide) dX3_init_184 (by decide) (by decide) (Nat.le_of_ble_eq_true rfl) (Nat.le_of_ble_eq_true rfl) (fun n25 k25 => ?_)
  have hN25 : ∀ i, 61 ≤ i → n25 i = n0 i := fun i hi => (k25 i (by omega)).trans (hN24 i hi)
  have ha25 : n25 61 = a := (k25 61 (by decide)).trans ha24
  refine mi_put hC hnm 24 dX3_init_186 ha25 rfl rfl rfl rfl ?_
  refine n_aload_n hC dX3_init_189 rfl ?_
  refine n_bipush hC (v := nI 9) dX3_init_190 (by decide) ?_
  refine mi_new hC 25 (by decide) dX3_init_192 (by decide) (by decide) (Nat.le_of_ble_eq_true rfl) (Nat.le_of_ble_eq_true rfl) (fun n26 k26 => ?_)
  have hN26 : ∀ i, 61 ≤ i → n26 i = n0 i := fun i hi => (k26 i (by omega)).trans (hN25 i hi)
  have ha26 : n26 61 = a := (k26 61 (by decide)).trans ha25
  refine mi_put hC hnm 25 dX3_init_194 ha26 rfl rfl rfl rfl ?_
  refine n_aload_n hC dX3_init_197 rfl ?_
  refine n_iconst hC (v := nI 0) dX3_init_198 (by decide) ?_
  refine mi_zero hC 26 dX3_init_199 ha26 rfl (by decide) rfl (ty := .int) rfl rfl rfl rfl ?_
  refine n_aload_n hC dX3_init_202 rfl ?_
  refine n_iconst hC (v := nI 0) dX3_init_203 (by decide) ?_
  refine mi_zero hC 27 dX3_init_204 ha26 rfl (by decide) rfl (ty := .int) rfl rfl rfl rfl ?_
  refine n_aload_n hC dX3_init_207 rfl ?_
  refine n_bipush hC (v := nI 11) dX3_init_208 (by decide) ?_
  refine mi_new hC 28 (by decide) dX3_init_210 (by decide) (by decide) (Nat.le_of_ble_eq_true rfl) (Nat.le_of_ble_eq_true rfl) (fun n29 k29 => ?_)
  have hN29 : ∀ i, 61 ≤ i → n29 i = n0 i := fun i hi => (k29 i (by omega)).trans (hN26 i hi)
  have ha29 : n29 61 = a := (k29 61 (by decide)).trans ha26
  refine mi_put hC hnm 28 dX3_init_212 ha29 rfl rfl rfl rfl ?_
  refine n_aload_n hC dX3_init_215 rfl ?_
  refine n_sipush hC (v := nI 3300) dX3_init_216 (by decide) ?_
  refine mi_new hC 29 (by decide) dX3_init_219 (by decide) (by decide) (Nat.le_of_ble_eq_true rfl) (Nat.le_of_ble_eq_true rfl) (fun n30 k30 => ?_)
  have hN30 : ∀ i, 61 ≤ i → n30 i = n0 i := fun i hi => (k30 i (by omega)).trans (hN29 i hi)
  have ha30 : n30 61 = a := (k30 61 (by decide)).trans ha29
  refine mi_put hC hnm 29 dX3_init_221 ha30 rfl rfl rfl rfl ?_
  refine n_aload_n hC dX3_init_224 rfl ?_
  refine n_bipush hC (v := nI 80) dX3_init_225 (by decide) ?_
  refine mi_new hC 30 (by decide) dX3_init_227 (by decide) (by decide) (Nat.le_of_ble_eq_true rfl) (Nat.le_of_ble_eq_true rfl) (fun n31 k31 => ?_)
  have hN31 : ∀ i, 61 ≤ i → n31 i = n0 i := fun i hi => (k31 i (by omega)).trans (hN30 i hi)
  have ha31 : n31 61 = a := (k31 61 (by decide)).trans ha30
  refine mi_put hC hnm 30 dX3_init_229 ha31 rfl rfl rfl rfl ?_
  refine n_aload_n hC dX3_init_232 rfl ?_
  refine n_iconst hC (v := nI 0) dX3_init_233 (by decide) ?_
  refine mi_zero hC 31 dX3_init_234 ha31 rfl (by decide) rfl (ty := .int) rfl rfl rfl rfl ?_
  refine n_aload_n hC dX3_init_237 rfl ?_
  refine n_iconst hC (v := nI 0) dX3_init_238 (by decide) ?_
  refine mi_zero hC 32 dX3_init_239 ha31 rfl (by decide) rfl (ty := .boolean) rfl rfl rfl rfl ?_
  refine n_aload_n hC dX3_init_242 rfl ?_
  refine n_iconst hC (v := nI 5) dX3_init_243 (by decide) ?_
  refine mi_new hC 33 (by decide) dX3_init_244 (by decide) (by decide) (Nat.le_of_ble_eq_true rfl) (Nat.le_of_ble_eq_true rfl) (fun n34 k34 => ?_)
  have hN34 : ∀ i, 61 ≤ i → n34 i = n0 i := fun i hi => (k34 i (by omega)).trans (hN31 i hi)
  have ha34 : n34 61 = a := (k34 61 (by decide)).trans ha31
  refine mi_put hC hnm 33 dX3_init_246 ha34 rfl rfl rfl rfl ?_
  refine n_aload_n hC dX3_init_249 rfl ?_
  refine n_iconst hC (v := nI 5) dX3_init_250 (by decide) ?_
  refine mi_new hC 34 (by decide) dX3_init_251 (by decide) (by decide) (Nat.le_of_ble_eq_true rfl) (Nat.le_of_ble_eq_true rfl) (fun n35 k35 => ?_)
  have hN35 : ∀ i, 61 ≤ i → n35 i = n0 i := fun i hi => (k35 i (by omega)).trans (hN34 i hi)
  have ha35 : n35 61 = a := (k35 61 (by decide)).trans ha34
  refine mi_put hC hnm 34 dX3_init_253 ha35 rfl rfl rfl rfl ?_
  refine n_aload_n hC dX3_init_256 rfl ?_
  refine n_sipush hC (v := nI 300) dX3_init_257 (by decide) ?_
  refine mi_new hC 35 (by decide) dX3_init_260 (by decide) (by decide) (Nat.le_of_ble_eq_true rfl) (Nat.le_of_ble_eq_true rfl) (fun n36 k36 => ?_)
  have hN36 : ∀ i, 61 ≤ i → n36 i = n0 i := fun i hi => (k36 i (by omega)).trans (hN35 i hi)
  have ha36 : n36 61 = a := (k36 61 (by decide)).trans ha35
  refine mi_put hC hnm 35 dX3_init_262 ha36 rfl rfl rfl rfl ?_
  refine n_aload_n hC dX3_init_265 rfl ?_
  refine n_sipush hC (v := nI 300) dX3_init_266 (by decide) ?_
  refine mi_new hC 36 (by decide) dX3_init_269 (by decide) (by decide) (Nat.le_of_ble_eq_true rfl) (Nat.le_of_ble_eq_true rfl) (fun n37 k37 => ?_)
  have hN37 : ∀ i, 61 ≤ i → n37 i = n0 i := fun i hi => (k37 i (by omega)).trans (hN36 i hi)
  have ha37 : n37 61 = a := (k37 61 (by decide)).trans ha36
  refine mi_put hC hnm 36 dX3_init_271 ha37 rfl rfl rfl rfl ?_
  refine n_aload_n hC dX3_init_274 rfl ?_
  refine n_iconst hC (v := nI 0) dX3_init_275 (by decide) ?_
  refine mi_zero hC 37 dX3_init_276 ha37 rfl (by decide) rfl (ty := .int) rfl rfl rfl rfl ?_
  refine n_aload_n hC dX3_init_279 rfl ?_
  refine n_iconst hC (v := nI 0) dX3_init_280 (by decide) ?_
  refine mi_zero hC 38 dX3_init_281 ha37 rfl (by decide) rfl (ty := .int) rfl rfl rfl rfl ?_
  refine n_aload_n hC dX3_init_284 rfl ?_
  refine n_bipush hC (v := nI 9) dX3_init_285 (by decide) ?_
  refine mi_new hC 39 (by decide) dX3_init_287 (by decide) (by decide) (Nat.le_of_ble_eq_true rfl) (Nat.le_of_ble_eq_true rfl) (fun n40 k40 => ?_)
  have hN40 : ∀ i, 61 ≤ i → n40 i = n0 i := fun i hi => (k40 i (by omega)).trans (hN37 i hi)
  have ha40 : n40 61 = a := (k40 61 (by decide)).trans ha37
  refine mi_put hC hnm 39 dX3_init_289 ha40 rfl rfl rfl rfl ?_
  refine n_aload_n hC dX3_init_292 rfl ?_
  refine n_bipush hC (v := nI 9) dX3_init_293 (by decide) ?_
  refine mi_new hC 40 (by decide) dX3_init_295 (by decide) (by decide) (Nat.le_of_ble_eq_true rfl) (Nat.le_of_ble_eq_true rfl) (fun n41 k41 => ?_)
  have hN41 : ∀ i, 61 ≤ i → n41 i = n0 i := fun i hi => (k41 i (by omega)).trans (hN40 i hi)
  have ha41 : n41 61 = a := (k41 61 (by decide)).trans ha40
  refine mi_put hC hnm 40 dX3_init_297 ha41 rfl rfl rfl rfl ?_
  refine n_aload_n hC dX3_init_300 rfl ?_
  refine n_bipush hC (v := nI 9) dX3_init_301 (by decide) ?_
  refine mi_new hC 41 (by decide) dX3_init_303 (by decide) (by decide) (Nat.le_of_ble_eq_true rfl) (Nat.le_of_ble_eq_true rfl) (fun n42 k42 => ?_)
  have hN42 : ∀ i, 61 ≤ i → n42 i = n0 i := fun i hi => (k42 i (by omega)).trans (hN41 i hi)
  have ha42 : n42 61 = a := (k42 61 (by decide)).trans ha41
  refine mi_put hC hnm 41 dX3_init_305 ha42 rfl rfl rfl rfl ?_
  refine n_aload_n hC dX3_init_308 rfl ?_
  refine n_iconst hC (v := nI 0) dX3_init_309 (by decide) ?_
  refine mi_zero hC 42 dX3_init_310 ha42 rfl (by decide) rfl (ty := .int) rfl rfl rfl rfl ?_
  refine n_aload_n hC dX3_init_313 rfl ?_
  refine n_iconst hC (v := nI 0) dX3_init_314 (by decide) ?_
  refine mi_zero hC 43 dX3_init_315 ha42 rfl (by decide) rfl (ty := .int) rfl rfl rfl rfl ?_
  refine n_aload_n hC dX3_init_318 rfl ?_
  refine n_bipush hC (v := nI 7) dX3_init_319 (by decide) ?_
  refine mi_new hC 44 (by decide) dX3_init_321 (by decide) (by decide) (Nat.le_of_ble_eq_true rfl) (Nat.le_of_ble_eq_true rfl) (fun n45 k45 => ?_)
  have hN45 : ∀ i, 61 ≤ i → n45 i = n0 i := fun i hi => (k45 i (by omega)).trans (hN42 i hi)
  have ha45 : n45 61 = a := (k45 61 (by decide)).trans ha42
  refine mi_put hC hnm 44 dX3_init_323 ha45 rfl rfl rfl rfl ?_
  refine n_aload_n hC dX3_init_326 rfl ?_
  refine n_bipush hC (v := nI 7) dX3_init_327 (by decide) ?_
  refine mi_new hC 45 (by decide) dX3_init_329 (by decide) (by decide) (Nat.le_of_ble_eq_true rfl) (Nat.le_of_ble_eq_true rfl) (fun n46 k46 => ?_)
  have hN46 : ∀ i, 61 ≤ i → n46 i = n0 i := fun i hi => (k46 i (by omega)).trans (hN45 i hi)
  have ha46 : n46 61 = a := (k46 61 (by decide)).trans ha45
  refine mi_put hC hnm 45 dX3_init_331 ha46 rfl rfl rfl rfl ?_
  refine n_aload_n hC dX3_init_334 rfl ?_
  refine n_sipush hC (v := nI 5040) dX3_init_335 (by decide) ?_
  refine mi_new hC 46 (by decide) dX3_init_338 (by decide) (by decide) (Nat.le_of_ble_eq_true rfl) (Nat.le_of_ble_eq_true rfl) (fun n47 k47 => ?_)
  have hN47 : ∀ i, 61 ≤ i → n47 i = n0 i := fun i hi => (k47 i (by omega)).trans (hN46 i hi)
  have ha47 : n47 61 = a := (k47 61 (by decide)).trans ha46
  refine mi_put hC hnm 46 dX3_init_340 ha47 rfl rfl rfl rfl ?_
  refine n_aload_n hC dX3_init_343 rfl ?_
  refine n_sipush hC (v := nI 5040) dX3_init_344 (by decide) ?_
  refine mi_new hC 47 (by decide) dX3_init_347 (by decide) (by decide) (Nat.le_of_ble_eq_true rfl) (Nat.le_of_ble_eq_true rfl) (fun n48 k48 => ?_)
  have hN48 : ∀ i, 61 ≤ i → n48 i = n0 i := fun i hi => (k48 i (by omega)).trans (hN47 i hi)
  have ha48 : n48 61 = a := (k48 61 (by decide)).trans ha47
  refine mi_put hC hnm 47 dX3_init_349 ha48 rfl rfl rfl rfl ?_
  refine n_aload_n hC dX3_init_352 rfl ?_
  refine n_bipush hC (v := nI 64) dX3_init_353 (by decide) ?_
  refine mi_new hC 48 (by decide) dX3_init_355 (by decide) (by decide) (Nat.le_of_ble_eq_true rfl) (Nat.le_of_ble_eq_true rfl) (fun n49 k49 => ?_)
  have hN49 : ∀ i, 61 ≤ i → n49 i = n0 i := fun i hi => (k49 i (by omega)).trans (hN48 i hi)
  have ha49 : n49 61 = a := (k49 61 (by decide)).trans ha48
  refine mi_put hC hnm 48 dX3_init_357 ha49 rfl rfl rfl rfl ?_
  refine n_aload_n hC dX3_init_360 rfl ?_
  refine n_iconst hC (v := nI 0) dX3_init_361 (by decide) ?_
  refine mi_zero hC 49 dX3_init_362 ha49 rfl (by decide) rfl (ty := .int) rfl rfl rfl rfl ?_
  refine n_aload_n hC dX3_init_365 rfl ?_
  refine n_bipush hC (v := nI 7) dX3_init_366 (by decide) ?_
  refine mi_new hC 50 (by decide) dX3_init_368 (by decide) (by decide) (Nat.le_of_ble_eq_true rfl) (Nat.le_of_ble_eq_true rfl) (fun n51 k51 => ?_)
  have hN51 : ∀ i, 61 ≤ i → n51 i = n0 i := fun i hi => (k51 i (by omega)).trans (hN49 i hi)
  have ha51 : n51 61 = a := (k51 61 (by decide)).trans ha49
  refine mi_put hC hnm 50 dX3_init_370 ha51 rfl rfl rfl rfl ?_
  refine n_aload_n hC dX3_init_373 rfl ?_
  refine n_bipush hC (v := nI 7) dX3_init_374 (by decide) ?_
  refine mi_new hC 51 (by decide) dX3_init_376 (by decide) (by decide) (Nat.le_of_ble_eq_true rfl) (Nat.le_of_ble_eq_true rfl) (fun n52 k52 => ?_)
  have hN52 : ∀ i, 61 ≤ i → n52 i = n0 i := fun i hi => (k52 i (by omega)).trans (hN51 i hi)
  have ha52 : n52 61 = a := (k52 61 (by decide)).trans ha51
  refine mi_put hC hnm 51 dX3_init_378 ha52 rfl rfl rfl rfl ?_
  refine n_aload_n hC dX3_init_381 rfl ?_
  refine n_bipush hC (v := nI 7) dX3_init_382 (by decide) ?_
  refine mi_new hC 52 (by decide) dX3_init_384 (by decide) (by decide) (Nat.le_of_ble_eq_true rfl) (Nat.le_of_ble_eq_true rfl) (fun n53 k53 => ?_)
  have hN53 : ∀ i, 61 ≤ i → n53 i = n0 i := fun i hi => (k53 i (by omega)).trans (hN52 i hi)
  have ha53 : n53 61 = a := (k53 61 (by decide)).trans ha52
  refine mi_put hC hnm 52 dX3_init_386 ha53 rfl rfl rfl rfl ?_
  refine n_aload_n hC dX3_init_389 rfl ?_
  refine n_bipush hC (v := nI 7) dX3_init_390 (by decide) ?_
  refine mi_new hC 53 (by decide) dX3_init_392 (by decide) (by decide) (Nat.le_of_ble_eq_true rfl) (Nat.le_of_ble_eq_true rfl) (fun n54 k54 => ?_)
  have hN54 : ∀ i, 61 ≤ i → n54 i = n0 i := fun i hi => (k54 i (by omega)).trans (hN53 i hi)
  have ha54 : n54 61 = a := (k54 61 (by decide)).trans ha53
  refine mi_put hC hnm 53 dX3_init_394 ha54 rfl rfl rfl rfl ?_
  refine n_aload_n hC dX3_init_397 rfl ?_
  refine n_iconst hC (v := nI 0) dX3_init_398 (by decide) ?_
  refine mi_zero hC 54 dX3_init_399 ha54 rfl (by decide) rfl (ty := .int) rfl rfl rfl rfl ?_
  refine n_aload_n hC dX3_init_402 rfl ?_
  refine n_iconst hC (v := nI 0) dX3_init_403 (by decide) ?_
  refine mi_zero hC 55 dX3_init_404 ha54 rfl (by decide) rfl (ty := .int) rfl rfl rfl rfl ?_
  refine n_aload_n hC dX3_init_407 rfl ?_
  refine n_bipush hC (v := nI 20) dX3_init_408 (by decide) ?_
  refine mi_new hC 56 (by decide) dX3_init_410 (by decide) (by decide) (Nat.le_of_ble_eq_true rfl) (Nat.le_of_ble_eq_true rfl) (fun n57 k57 => ?_)
  have hN57 : ∀ i, 61 ≤ i → n57 i = n0 i := fun i hi => (k57 i (by omega)).trans (hN54 i hi)
  have ha57 : n57 61 = a := (k57 61 (by decide)).trans ha54
  refine mi_put hC hnm 56 dX3_init_412 ha57 rfl rfl rfl rfl ?_
  refine n_aload_n hC dX3_init_415 rfl ?_
  refine n_bipush hC (v := nI 6) dX3_init_416 (by decide) ?_
  refine mi_new hC 57 (by decide) dX3_init_418 (by decide) (by decide) (Nat.le_of_ble_eq_true rfl) (Nat.le_of_ble_eq_true rfl) (fun n58 k58 => ?_)
  have hN58 : ∀ i, 61 ≤ i → n58 i = n0 i := fun i hi => (k58 i (by omega)).trans (hN57 i hi)
  have ha58 : n58 61 = a := (k58 61 (by decide)).trans ha57
  refine n_dup hC dX3_init_420 rfl ?_
  refine n_iconst hC (v := nI 0) dX3_init_421 (by decide) ?_
  refine n_iconst hC (v := (-1)) dX3_init_422 (by decide) ?_
  refine mi_st hC 57 dX3_init_423 rfl (by decide) ?_
  refine n_dup hC dX3_init_424 rfl ?_
  refine n_iconst hC (v := nI 1) dX3_init_425 (by decide) ?_
  refine n_iconst hC (v := (-1)) dX3_init_426 (by decide) ?_
  refine mi_st hC 57 dX3_init_427 rfl (by decide) ?_
  refine n_dup hC dX3_init_428 rfl ?_
  refine n_iconst hC (v := nI 2) dX3_init_429 (by decide) ?_
  refine n_iconst hC (v := (-1)) dX3_init_430 (by decide) ?_
  refine mi_st hC 57 dX3_init_431 rfl (by decide) ?_
  refine n_dup hC dX3_init_432 rfl ?_
  refine n_iconst hC (v := nI 3) dX3_init_433 (by decide) ?_
  refine n_iconst hC (v := (-1)) dX3_init_434 (by decide) ?_
  refine mi_st hC 57 dX3_init_435 rfl (by decide) ?_
  refine n_dup hC dX3_init_436 rfl ?_
  refine n_iconst hC (v := nI 4) dX3_init_437 (by decide) ?_
  refine n_iconst hC (v := (-1)) dX3_init_438 (by decide) ?_
  refine mi_st hC 57 dX3_init_439 rfl (by decide) ?_
  refine n_dup hC dX3_init_440 rfl ?_
  refine n_iconst hC (v := nI 5) dX3_init_441 (by decide) ?_
  refine n_iconst hC (v := (-1)) dX3_init_442 (by decide) ?_
  refine mi_st hC 57 dX3_init_443 rfl (by decide) ?_
  refine mi_put hC hnm 57 dX3_init_444 ha58 rfl rfl rfl rfl ?_
  refine n_aload_n hC dX3_init_447 rfl ?_
  refine n_bipush hC (v := nI 6) dX3_init_448 (by decide) ?_
  refine mi_new hC 58 (by decide) dX3_init_450 (by decide) (by decide) (Nat.le_of_ble_eq_true rfl) (Nat.le_of_ble_eq_true rfl) (fun n59 k59 => ?_)
  have hN59 : ∀ i, 61 ≤ i → n59 i = n0 i := fun i hi => (k59 i (by omega)).trans (hN58 i hi)
  have ha59 : n59 61 = a := (k59 61 (by decide)).trans ha58
  refine mi_put hC hnm 58 dX3_init_452 ha59 rfl rfl rfl rfl ?_
  refine n_aload_n hC dX3_init_455 rfl ?_
  refine n_sipush hC (v := nI 360) dX3_init_456 (by decide) ?_
  refine mi_new hC 59 (by decide) dX3_init_459 (by decide) (by decide) (Nat.le_of_ble_eq_true rfl) (Nat.le_of_ble_eq_true rfl) (fun n60 k60 => ?_)
  have hN60 : ∀ i, 61 ≤ i → n60 i = n0 i := fun i hi => (k60 i (by omega)).trans (hN59 i hi)
  have ha60 : n60 61 = a := (k60 61 (by decide)).trans ha59
  refine mi_put hC hnm 59 dX3_init_461 ha60 rfl rfl rfl rfl ?_
  refine n_aload_n hC dX3_init_464 rfl ?_
  refine n_bipush hC (v := nI 60) dX3_init_465 (by decide) ?_
  refine mi_new hC 60 (by decide) dX3_init_467 (by decide) (by decide) (Nat.le_of_ble_eq_true rfl) (Nat.le_of_ble_eq_true rfl) (fun n61 k61 => ?_)
  have hN61 : ∀ i, 61 ≤ i → n61 i = n0 i := fun i hi => (k61 i (by omega)).trans (hN60 i hi)
  have ha61 : n61 61 = a := (k61 61 (by decide)).trans ha60
  refine mi_put hC hnm 60 dX3_init_469 ha61 rfl rfl rfl rfl ?_
  exact n_vret hC dX3_init_472 (by decide) (by decide) ⟨fun i hi => by rw [hN61 i hi, hn0], mPutK_e⟩
theorem inv_mZero : mInv mZero := by
  have z : ∀ k, k ≠ 57 → ∀ i, mZero k i = 0 := fun k hk i => congrFun (if_neg hk) i
  have n : ∀ k, k ≠ 57 → mN mZero k = 0 := fun k hk => by unfold mN; rw [z k hk]; rfl
  have b : mB mZero 11 = false := by unfold mB; rw [z 11 (by decide)]; rfl
  refine ⟨⟨?_, ?_⟩, ⟨?_, ?_, ?_⟩, ⟨?_, bF b⟩, ⟨?_, ?_⟩, ⟨?_, ?_, ?_⟩, ⟨?_, ?_⟩, ⟨?_, ?_⟩, ⟨?_, ?_⟩, ⟨?_, ?_⟩, fun i hi => ?_, fun p hp => ?_, fun p q hp => ?_, fun _ p hp => ?_, fun r p hr => ?_, fun k hk => ?_, fun f hf => ?_, fun f k hf => ?_, fun i hi => ?_, fun t ht => ?_⟩
  all_goals try rw [n _ (by decide)] at *
  all_goals try rw [z _ (by decide)]
  all_goals try rw [n _ (by decide)]
  all_goals first | rfl | omega | (rw [b]; rfl) | skip
  refine ⟨Or.inl ?_, ?_, ?_⟩
  · have : ∀ t : Fin 6, mZero 57 t.val = -1 := by decide
    exact this ⟨t, ht⟩
  · unfold mA; rw [z 58 (by decide)]; rfl
  · unfold mA; rw [z 58 (by decide)]; decide
