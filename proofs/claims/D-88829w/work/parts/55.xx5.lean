/-! ===== THE CLASS: the dance ===== -/
set_option maxRecDepth 100000
theorem cpy_lt {f g : Nat → Int32} {n p : Nat} (h : p < n) : va_cpy f g 0 0 n p = f p := by
  unfold va_cpy
  rw [if_pos (by omega), show 0 + (p - 0) = p by omega]
def xMv (na : nA) (h : nH) (C : nMem) (B : Nat → nMem) (P : Nat → Nat × Nat) (I : Nat → Nat) (j n s : Nat) : nA → nH → Prop := fun na' h' => na = na' ∧ ∃ C2, xPut na h (C2, B, P, I) = h' ∧ mFr [19, j] C C2 ∧ ∀ p, p < n → C2 j p = mvd (C j) n s p
/-- a call that leaves codes and indices -/
def xOpS (na : nA) (h : nH) (P : Nat → Nat × Nat) (I : Nat → Nat) (o : Int32 × nMem) : Int32 → nA → nH → Prop := fun r na' h' => o.1 = r ∧ na = na' ∧ ∃ C B, xPut na h (C, B, P, I) = h' ∧ xRel (C, B, P, I) o.2
theorem xOpS.mk {na : nA} {h : nH} {P : Nat → Nat × Nat} {I : Nat → Nat} {o : Int32 × nMem} {r : Int32} {M2 C : nMem} {B : Nat → nMem} (e : o = (r, M2)) (hR : xRel (C, B, P, I) M2) : xOpS na h P I o r na (xPut na h (C, B, P, I)) := ⟨by rw [e], rfl, C, B, rfl, by rw [e]; exact hR⟩
set_option maxHeartbeats 4000000 in
set_option maxRecDepth 100000 in
theorem ct_X0_moves_3 (na : nA) (h : nH) (C : nMem) (B : Nat → nMem) (P : Nat → Nat × Nat) (I : Nat → Nat) {n s : Nat} (hn3 : 3 ≤ n) (hn9 : n ≤ 9) (hs : s < 102) (hs2 : s < 100 → s / 10 < n) : nM yX0_moves cX0_moves 7 (none) (nRm 0 0 0) [.ref (na 130), .ref (na 103), .int (nI n), .int (nI s)] na (xPut na h (C, B, P, I)) (nQv (xMv na h C B P I 3 n s)) 0 0 := by
  refine nM.ofN RX0 rfl (by decide) (by intro v hv; simp only [List.mem_cons, List.not_mem_nil, or_false] at hv; rcases hv with rfl | rfl | rfl | rfl <;> rfl) (Nat.le_of_ble_eq_true rfl) (fun K hC hnm => ?_)
  show WN K na (xPut na h (C, B, P, I)) 0 0 (nE K (nQv (xMv na h C B P I 3 n s)) 0 0) 0 [some (.ref (na 130)), some (.ref (na 103)), some (.int (nI n)), some (.int (nI s)), none, none, none] []
  let Q9 : State → Prop := nE K (nQv (xMv na h C B P I 3 n s)) 0 0
  show WN K na (xPut na h (C, B, P, I)) 0 0 Q9 0 [some (.ref (na 130)), some (.ref (na 103)), some (.int (nI n)), some (.int (nI s)), none, none, none] []
  refine n_iload_n hC dX0_moves_0 rfl ?_
  refine n_bipush hC (v := nI 100) dX0_moves_1 (by decide) ?_
  refine n_icmp_geN hC (tgt := 41) dX0_moves_3 (by decide) (by omega) (by omega) (fun c_3 => ?_) (fun c_3 => ?_)
  · skip
    rcases (show s = 100 ∨ s = 101 by omega) with e9 | e9
    · skip
      subst e9
      refine n_iconst hC (v := nI 0) dX0_moves_41 (by decide) ?_
      refine n_istore hC dX0_moves_42 (Nat.le_of_ble_eq_true rfl) ?_
      have lp44 : ∀ d9 : Nat, ∀ (p : Nat) (C2 : nMem), n - p = d9 → (p ≤ n) → (mFr [19] C C2) → (∀ q, q < p → C2 19 ((q + 1) % n) = C 3 q) → WN K na (xPut na h (C2, B, P, I)) 0 0 Q9 44 [some (.ref (na 130)), some (.ref (na 103)), some (.int (nI n)), some (.int (nI 100)), some (.int (nI p)), none, none] [] := by
        intro d9
        induction d9 using Nat.strongRecOn with
        | _ d9 ih44 =>
          intro p C2 hd44 hp hF wr
          refine n_iload hC dX0_moves_44 rfl ?_
          refine n_iload_n hC dX0_moves_46 rfl ?_
          refine n_icmp_geN hC (tgt := 83) dX0_moves_47 (by decide) (by omega) (by omega) (fun c_47 => ?_) (fun c_47 => ?_)
          · skip
            refine n_aload_n hC dX0_moves_83 rfl ?_
            refine x_getA hC 19 q167 dX0_moves_84 rfl (by decide) (by decide) ?_
            refine n_iconst hC (v := nI 0) dX0_moves_87 (by decide) ?_
            refine n_aload_n hC dX0_moves_88 rfl ?_
            refine n_iconst hC (v := nI 0) dX0_moves_89 (by decide) ?_
            refine n_iload_n hC dX0_moves_90 rfl ?_
            refine n_copyi hC q394 q396 q395 q89 (t := 0) (ty := .int) (fun d => rfl) rfl dX0_moves_91 rfl rfl (xPut_a (j := 19) rfl) (xPut_a (j := 3) rfl) (by decide) (by decide) (nI_nneg (by omega)) (by rw [show (nI (n)).toNatClampNeg = n from nI_clamp (by omega)]; show 0 + n ≤ 9; omega) (by rw [show (nI (n)).toNatClampNeg = n from nI_clamp (by omega)]; show 0 + n ≤ 9; omega) (fun _ _ => rfl) rfl (by decide) (by decide) ?_
            rw [xPut_setA (j := 3) rfl, nI_clamp (show n < 2 ^ 31 by omega)]
            exact n_vret hC dX0_moves_94 (by decide) (by decide) (⟨rfl, _, rfl, mFr.set (by decide) (mFr.wk (by decide) hF), fun x hx => by
        rw [mset_s]
        show va_cpy (C2 19) (C2 3) 0 0 n x = tur 0 n (C 3) x
        rw [cpy_lt hx]
        unfold tur
        rw [if_pos hx]
        have w9 := wr ((x + (n - 1)) % n) (by have : (x + (n - 1)) % n < n := Nat.mod_lt _ (by omega); omega)
        rw [md_b1 hx (by omega)] at w9
        exact w9⟩)
          · skip
            have hq9 : (p + 1) % n < n := Nat.mod_lt _ (by omega)
            have hq8 : (p + (n - 1)) % n < n := Nat.mod_lt _ (by omega)
            refine n_aload_n hC dX0_moves_50 rfl ?_
            refine x_getA hC 19 q167 dX0_moves_51 rfl (by decide) (by decide) ?_
            refine n_iload hC dX0_moves_54 rfl ?_
            refine n_iload_n hC dX0_moves_56 rfl ?_
            refine n_bipush hC (v := nI 100) dX0_moves_57 (by decide) ?_
            refine n_icmp_neN hC (tgt := 66) dX0_moves_59 (by decide) (by omega) (by omega) (fun c_59 => absurd c_59 (by decide)) (fun c_59 => ?_)
            refine n_iconst hC (v := nI 1) dX0_moves_62 (by decide) ?_
            refine n_goto hC (tgt := 69) dX0_moves_63 (by decide) ?_
            refine n_iaddN hC dX0_moves_69 rfl ?_
            refine n_iload_n hC dX0_moves_70 rfl ?_
            refine n_iremN hC dX0_moves_71 (by omega) (by omega) (by omega) rfl ?_
            refine n_aload_n hC dX0_moves_72 rfl ?_
            refine n_iload hC dX0_moves_73 rfl ?_
            refine x_aldN hC 3 (v := C 3 p) dX0_moves_75 rfl rfl (by have h9 : xLen 3 = 9 := rfl; omega) (congrFun (hF 3 (by decide)) p) ?_
            refine x_astN hC 19 (C2 := mset C2 19 (upd (C2 19) ((p + 1) % n) (C 3 p))) dX0_moves_76 rfl rfl (by have h9 : xLen 19 = 9 := rfl; omega) rfl ?_
            refine n_iincN hC dX0_moves_77 (j := 1) (c := p + 1) rfl (by decide) rfl ?_
            refine n_goto hC (tgt := 44) dX0_moves_80 (by decide) ?_
            exact WN.forget (L' := [some (.ref (na 130)), some (.ref (na 103)), some (.int (nI n)), some (.int (nI 100)), some (.int (nI (p + 1))), none, none]) (⟨Or.inr rfl, Or.inr rfl, Or.inr rfl, Or.inr rfl, Or.inr rfl, Or.inl rfl, Or.inl rfl, trivial⟩) (ih44 _ (by omega) (p + 1) (mset C2 19 (upd (C2 19) ((p + 1) % n) (C 3 p))) rfl (by omega) (mFr.set (by decide) hF) (fun q hq => by show upd (C2 19) ((p + 1) % n) _ ((q + 1) % n) = _; by_cases e : q = p; rw [e, upd_s]; rw [upd_n (fun z => e (md_inj (show p < n by omega) (show q < n by omega) (by omega) z))]; exact wr q (by omega)))
      exact WN.forget (L' := [some (.ref (na 130)), some (.ref (na 103)), some (.int (nI n)), some (.int (nI 100)), some (.int (nI 0)), none, none]) (⟨Or.inr rfl, Or.inr rfl, Or.inr rfl, Or.inr rfl, Or.inr rfl, Or.inl rfl, Or.inl rfl, trivial⟩) (lp44 _ 0 C rfl (by omega) mFr.rf lt_0)
    · skip
      subst e9
      refine n_iconst hC (v := nI 0) dX0_moves_41 (by decide) ?_
      refine n_istore hC dX0_moves_42 (Nat.le_of_ble_eq_true rfl) ?_
      have lp44 : ∀ d9 : Nat, ∀ (p : Nat) (C2 : nMem), n - p = d9 → (p ≤ n) → (mFr [19] C C2) → (∀ q, q < p → C2 19 ((q + (n - 1)) % n) = C 3 q) → WN K na (xPut na h (C2, B, P, I)) 0 0 Q9 44 [some (.ref (na 130)), some (.ref (na 103)), some (.int (nI n)), some (.int (nI 101)), some (.int (nI p)), none, none] [] := by
        intro d9
        induction d9 using Nat.strongRecOn with
        | _ d9 ih44 =>
          intro p C2 hd44 hp hF wr
          refine n_iload hC dX0_moves_44 rfl ?_
          refine n_iload_n hC dX0_moves_46 rfl ?_
          refine n_icmp_geN hC (tgt := 83) dX0_moves_47 (by decide) (by omega) (by omega) (fun c_47 => ?_) (fun c_47 => ?_)
          · skip
            refine n_aload_n hC dX0_moves_83 rfl ?_
            refine x_getA hC 19 q167 dX0_moves_84 rfl (by decide) (by decide) ?_
            refine n_iconst hC (v := nI 0) dX0_moves_87 (by decide) ?_
            refine n_aload_n hC dX0_moves_88 rfl ?_
            refine n_iconst hC (v := nI 0) dX0_moves_89 (by decide) ?_
            refine n_iload_n hC dX0_moves_90 rfl ?_
            refine n_copyi hC q394 q396 q395 q89 (t := 0) (ty := .int) (fun d => rfl) rfl dX0_moves_91 rfl rfl (xPut_a (j := 19) rfl) (xPut_a (j := 3) rfl) (by decide) (by decide) (nI_nneg (by omega)) (by rw [show (nI (n)).toNatClampNeg = n from nI_clamp (by omega)]; show 0 + n ≤ 9; omega) (by rw [show (nI (n)).toNatClampNeg = n from nI_clamp (by omega)]; show 0 + n ≤ 9; omega) (fun _ _ => rfl) rfl (by decide) (by decide) ?_
            rw [xPut_setA (j := 3) rfl, nI_clamp (show n < 2 ^ 31 by omega)]
            exact n_vret hC dX0_moves_94 (by decide) (by decide) (⟨rfl, _, rfl, mFr.set (by decide) (mFr.wk (by decide) hF), fun x hx => by
        rw [mset_s]
        show va_cpy (C2 19) (C2 3) 0 0 n x = tur 1 n (C 3) x
        rw [cpy_lt hx]
        unfold tur
        rw [if_pos hx]
        have w9 := wr ((x + 1) % n) (by have : (x + 1) % n < n := Nat.mod_lt _ (by omega); omega)
        rw [md_b2 hx (by omega)] at w9
        exact w9⟩)
          · skip
            have hq9 : (p + 1) % n < n := Nat.mod_lt _ (by omega)
            have hq8 : (p + (n - 1)) % n < n := Nat.mod_lt _ (by omega)
            refine n_aload_n hC dX0_moves_50 rfl ?_
            refine x_getA hC 19 q167 dX0_moves_51 rfl (by decide) (by decide) ?_
            refine n_iload hC dX0_moves_54 rfl ?_
            refine n_iload_n hC dX0_moves_56 rfl ?_
            refine n_bipush hC (v := nI 100) dX0_moves_57 (by decide) ?_
            refine n_icmp_neN hC (tgt := 66) dX0_moves_59 (by decide) (by omega) (by omega) (fun c_59 => ?_) (fun c_59 => absurd c_59 (by decide))
            refine n_iload_n hC dX0_moves_66 rfl ?_
            refine n_iconst hC (v := nI 1) dX0_moves_67 (by decide) ?_
            refine n_isubN hC dX0_moves_68 (by omega) rfl ?_
            refine n_iaddN hC dX0_moves_69 rfl ?_
            refine n_iload_n hC dX0_moves_70 rfl ?_
            refine n_iremN hC dX0_moves_71 (by omega) (by omega) (by omega) rfl ?_
            refine n_aload_n hC dX0_moves_72 rfl ?_
            refine n_iload hC dX0_moves_73 rfl ?_
            refine x_aldN hC 3 (v := C 3 p) dX0_moves_75 rfl rfl (by have h9 : xLen 3 = 9 := rfl; omega) (congrFun (hF 3 (by decide)) p) ?_
            refine x_astN hC 19 (C2 := mset C2 19 (upd (C2 19) ((p + (n - 1)) % n) (C 3 p))) dX0_moves_76 rfl rfl (by have h9 : xLen 19 = 9 := rfl; omega) rfl ?_
            refine n_iincN hC dX0_moves_77 (j := 1) (c := p + 1) rfl (by decide) rfl ?_
            refine n_goto hC (tgt := 44) dX0_moves_80 (by decide) ?_
            exact WN.forget (L' := [some (.ref (na 130)), some (.ref (na 103)), some (.int (nI n)), some (.int (nI 101)), some (.int (nI (p + 1))), none, none]) (⟨Or.inr rfl, Or.inr rfl, Or.inr rfl, Or.inr rfl, Or.inr rfl, Or.inl rfl, Or.inl rfl, trivial⟩) (ih44 _ (by omega) (p + 1) (mset C2 19 (upd (C2 19) ((p + (n - 1)) % n) (C 3 p))) rfl (by omega) (mFr.set (by decide) hF) (fun q hq => by show upd (C2 19) ((p + (n - 1)) % n) _ ((q + (n - 1)) % n) = _; by_cases e : q = p; rw [e, upd_s]; rw [upd_n (fun z => e (md_inj (show p < n by omega) (show q < n by omega) (by omega) z))]; exact wr q (by omega)))
      exact WN.forget (L' := [some (.ref (na 130)), some (.ref (na 103)), some (.int (nI n)), some (.int (nI 101)), some (.int (nI 0)), none, none]) (⟨Or.inr rfl, Or.inr rfl, Or.inr rfl, Or.inr rfl, Or.inr rfl, Or.inl rfl, Or.inl rfl, trivial⟩) (lp44 _ 0 C rfl (by omega) mFr.rf lt_0)
  · skip
    have hp : s / 10 < n := hs2 (by omega)
    have hq : (s / 10 + 1) % n < n := Nat.mod_lt _ (by omega)
    refine n_iload_n hC dX0_moves_6 rfl ?_
    refine n_bipush hC (v := nI 10) dX0_moves_7 (by decide) ?_
    refine n_idivN hC dX0_moves_9 (by omega) (by omega) (by omega) rfl ?_
    refine n_istore hC dX0_moves_10 (Nat.le_of_ble_eq_true rfl) ?_
    refine n_iload hC dX0_moves_12 rfl ?_
    refine n_iconst hC (v := nI 1) dX0_moves_14 (by decide) ?_
    refine n_iaddN hC dX0_moves_15 rfl ?_
    refine n_iload_n hC dX0_moves_16 rfl ?_
    refine n_iremN hC dX0_moves_17 (by omega) (by omega) (by omega) rfl ?_
    refine n_istore hC dX0_moves_18 (Nat.le_of_ble_eq_true rfl) ?_
    refine n_aload_n hC dX0_moves_20 rfl ?_
    refine n_iload hC dX0_moves_21 rfl ?_
    refine x_aldN hC 3 (v := C 3 (s / 10)) dX0_moves_23 rfl rfl (by have h9 : xLen 3 = 9 := rfl; omega) rfl ?_
    refine n_istore hC dX0_moves_24 (Nat.le_of_ble_eq_true rfl) ?_
    refine n_aload_n hC dX0_moves_26 rfl ?_
    refine n_iload hC dX0_moves_27 rfl ?_
    refine n_aload_n hC dX0_moves_29 rfl ?_
    refine n_iload hC dX0_moves_30 rfl ?_
    refine x_aldN hC 3 (v := C 3 ((s / 10 + 1) % n)) dX0_moves_32 rfl rfl (by have h9 : xLen 3 = 9 := rfl; omega) rfl ?_
    refine x_astN hC 3 (C2 := mset C 3 (upd (C 3) (s / 10) (C 3 ((s / 10 + 1) % n)))) dX0_moves_33 rfl rfl (by have h9 : xLen 3 = 9 := rfl; omega) rfl ?_
    refine n_aload_n hC dX0_moves_34 rfl ?_
    refine n_iload hC dX0_moves_35 rfl ?_
    refine n_iload hC dX0_moves_37 rfl ?_
    refine x_astN hC 3 (C2 := mset C 3 (upd (upd (C 3) (s / 10) (C 3 ((s / 10 + 1) % n))) ((s / 10 + 1) % n) (C 3 (s / 10)))) dX0_moves_39 rfl rfl (by have h9 : xLen 3 = 9 := rfl; omega) (mset_ss _ _ _ _) ?_
    exact n_vret hC dX0_moves_40 (by decide) (by decide) (⟨rfl, _, rfl, mFr.set (by decide) mFr.rf, fun p _ => by unfold mvd; rw [if_pos (by omega), mset_s]; rfl⟩)

set_option maxHeartbeats 4000000 in
set_option maxRecDepth 100000 in
theorem ct_X0_moves_28 (na : nA) (h : nH) (C : nMem) (B : Nat → nMem) (P : Nat → Nat × Nat) (I : Nat → Nat) {n s : Nat} (hn3 : 3 ≤ n) (hn9 : n ≤ 7) (hs : s < 102) (hs2 : s < 100 → s / 10 < n) : nM yX0_moves cX0_moves 7 (none) (nRm 0 0 0) [.ref (na 130), .ref (na 128), .int (nI n), .int (nI s)] na (xPut na h (C, B, P, I)) (nQv (xMv na h C B P I 28 n s)) 0 0 := by
  refine nM.ofN RX0 rfl (by decide) (by intro v hv; simp only [List.mem_cons, List.not_mem_nil, or_false] at hv; rcases hv with rfl | rfl | rfl | rfl <;> rfl) (Nat.le_of_ble_eq_true rfl) (fun K hC hnm => ?_)
  show WN K na (xPut na h (C, B, P, I)) 0 0 (nE K (nQv (xMv na h C B P I 28 n s)) 0 0) 0 [some (.ref (na 130)), some (.ref (na 128)), some (.int (nI n)), some (.int (nI s)), none, none, none] []
  let Q9 : State → Prop := nE K (nQv (xMv na h C B P I 28 n s)) 0 0
  show WN K na (xPut na h (C, B, P, I)) 0 0 Q9 0 [some (.ref (na 130)), some (.ref (na 128)), some (.int (nI n)), some (.int (nI s)), none, none, none] []
  refine n_iload_n hC dX0_moves_0 rfl ?_
  refine n_bipush hC (v := nI 100) dX0_moves_1 (by decide) ?_
  refine n_icmp_geN hC (tgt := 41) dX0_moves_3 (by decide) (by omega) (by omega) (fun c_3 => ?_) (fun c_3 => ?_)
  · skip
    rcases (show s = 100 ∨ s = 101 by omega) with e9 | e9
    · skip
      subst e9
      refine n_iconst hC (v := nI 0) dX0_moves_41 (by decide) ?_
      refine n_istore hC dX0_moves_42 (Nat.le_of_ble_eq_true rfl) ?_
      have lp44 : ∀ d9 : Nat, ∀ (p : Nat) (C2 : nMem), n - p = d9 → (p ≤ n) → (mFr [19] C C2) → (∀ q, q < p → C2 19 ((q + 1) % n) = C 28 q) → WN K na (xPut na h (C2, B, P, I)) 0 0 Q9 44 [some (.ref (na 130)), some (.ref (na 128)), some (.int (nI n)), some (.int (nI 100)), some (.int (nI p)), none, none] [] := by
        intro d9
        induction d9 using Nat.strongRecOn with
        | _ d9 ih44 =>
          intro p C2 hd44 hp hF wr
          refine n_iload hC dX0_moves_44 rfl ?_
          refine n_iload_n hC dX0_moves_46 rfl ?_
          refine n_icmp_geN hC (tgt := 83) dX0_moves_47 (by decide) (by omega) (by omega) (fun c_47 => ?_) (fun c_47 => ?_)
          · skip
            refine n_aload_n hC dX0_moves_83 rfl ?_
            refine x_getA hC 19 q167 dX0_moves_84 rfl (by decide) (by decide) ?_
            refine n_iconst hC (v := nI 0) dX0_moves_87 (by decide) ?_
            refine n_aload_n hC dX0_moves_88 rfl ?_
            refine n_iconst hC (v := nI 0) dX0_moves_89 (by decide) ?_
            refine n_iload_n hC dX0_moves_90 rfl ?_
            refine n_copyi hC q394 q396 q395 q89 (t := 0) (ty := .int) (fun d => rfl) rfl dX0_moves_91 rfl rfl (xPut_a (j := 19) rfl) (xPut_a (j := 28) rfl) (by decide) (by decide) (nI_nneg (by omega)) (by rw [show (nI (n)).toNatClampNeg = n from nI_clamp (by omega)]; show 0 + n ≤ 9; omega) (by rw [show (nI (n)).toNatClampNeg = n from nI_clamp (by omega)]; show 0 + n ≤ 7; omega) (fun _ _ => rfl) rfl (by decide) (by decide) ?_
            rw [xPut_setA (j := 28) rfl, nI_clamp (show n < 2 ^ 31 by omega)]
            exact n_vret hC dX0_moves_94 (by decide) (by decide) (⟨rfl, _, rfl, mFr.set (by decide) (mFr.wk (by decide) hF), fun x hx => by
        rw [mset_s]
        show va_cpy (C2 19) (C2 28) 0 0 n x = tur 0 n (C 28) x
        rw [cpy_lt hx]
        unfold tur
        rw [if_pos hx]
        have w9 := wr ((x + (n - 1)) % n) (by have : (x + (n - 1)) % n < n := Nat.mod_lt _ (by omega); omega)
        rw [md_b1 hx (by omega)] at w9
        exact w9⟩)
          · skip
            have hq9 : (p + 1) % n < n := Nat.mod_lt _ (by omega)
            have hq8 : (p + (n - 1)) % n < n := Nat.mod_lt _ (by omega)
            refine n_aload_n hC dX0_moves_50 rfl ?_
            refine x_getA hC 19 q167 dX0_moves_51 rfl (by decide) (by decide) ?_
            refine n_iload hC dX0_moves_54 rfl ?_
            refine n_iload_n hC dX0_moves_56 rfl ?_
            refine n_bipush hC (v := nI 100) dX0_moves_57 (by decide) ?_
            refine n_icmp_neN hC (tgt := 66) dX0_moves_59 (by decide) (by omega) (by omega) (fun c_59 => absurd c_59 (by decide)) (fun c_59 => ?_)
            refine n_iconst hC (v := nI 1) dX0_moves_62 (by decide) ?_
            refine n_goto hC (tgt := 69) dX0_moves_63 (by decide) ?_
            refine n_iaddN hC dX0_moves_69 rfl ?_
            refine n_iload_n hC dX0_moves_70 rfl ?_
            refine n_iremN hC dX0_moves_71 (by omega) (by omega) (by omega) rfl ?_
            refine n_aload_n hC dX0_moves_72 rfl ?_
            refine n_iload hC dX0_moves_73 rfl ?_
            refine x_aldN hC 28 (v := C 28 p) dX0_moves_75 rfl rfl (by have h9 : xLen 28 = 7 := rfl; omega) (congrFun (hF 28 (by decide)) p) ?_
            refine x_astN hC 19 (C2 := mset C2 19 (upd (C2 19) ((p + 1) % n) (C 28 p))) dX0_moves_76 rfl rfl (by have h9 : xLen 19 = 9 := rfl; omega) rfl ?_
            refine n_iincN hC dX0_moves_77 (j := 1) (c := p + 1) rfl (by decide) rfl ?_
            refine n_goto hC (tgt := 44) dX0_moves_80 (by decide) ?_
            exact WN.forget (L' := [some (.ref (na 130)), some (.ref (na 128)), some (.int (nI n)), some (.int (nI 100)), some (.int (nI (p + 1))), none, none]) (⟨Or.inr rfl, Or.inr rfl, Or.inr rfl, Or.inr rfl, Or.inr rfl, Or.inl rfl, Or.inl rfl, trivial⟩) (ih44 _ (by omega) (p + 1) (mset C2 19 (upd (C2 19) ((p + 1) % n) (C 28 p))) rfl (by omega) (mFr.set (by decide) hF) (fun q hq => by show upd (C2 19) ((p + 1) % n) _ ((q + 1) % n) = _; by_cases e : q = p; rw [e, upd_s]; rw [upd_n (fun z => e (md_inj (show p < n by omega) (show q < n by omega) (by omega) z))]; exact wr q (by omega)))
      exact WN.forget (L' := [some (.ref (na 130)), some (.ref (na 128)), some (.int (nI n)), some (.int (nI 100)), some (.int (nI 0)), none, none]) (⟨Or.inr rfl, Or.inr rfl, Or.inr rfl, Or.inr rfl, Or.inr rfl, Or.inl rfl, Or.inl rfl, trivial⟩) (lp44 _ 0 C rfl (by omega) mFr.rf lt_0)
    · skip
      subst e9
      refine n_iconst hC (v := nI 0) dX0_moves_41 (by decide) ?_
      refine n_istore hC dX0_moves_42 (Nat.le_of_ble_eq_true rfl) ?_
      have lp44 : ∀ d9 : Nat, ∀ (p : Nat) (C2 : nMem), n - p = d9 → (p ≤ n) → (mFr [19] C C2) → (∀ q, q < p → C2 19 ((q + (n - 1)) % n) = C 28 q) → WN K na (xPut na h (C2, B, P, I)) 0 0 Q9 44 [some (.ref (na 130)), some (.ref (na 128)), some (.int (nI n)), some (.int (nI 101)), some (.int (nI p)), none, none] [] := by
        intro d9
        induction d9 using Nat.strongRecOn with
        | _ d9 ih44 =>
          intro p C2 hd44 hp hF wr
          refine n_iload hC dX0_moves_44 rfl ?_
          refine n_iload_n hC dX0_moves_46 rfl ?_
          refine n_icmp_geN hC (tgt := 83) dX0_moves_47 (by decide) (by omega) (by omega) (fun c_47 => ?_) (fun c_47 => ?_)
          · skip
            refine n_aload_n hC dX0_moves_83 rfl ?_
            refine x_getA hC 19 q167 dX0_moves_84 rfl (by decide) (by decide) ?_
            refine n_iconst hC (v := nI 0) dX0_moves_87 (by decide) ?_
            refine n_aload_n hC dX0_moves_88 rfl ?_
            refine n_iconst hC (v := nI 0) dX0_moves_89 (by decide) ?_
            refine n_iload_n hC dX0_moves_90 rfl ?_
            refine n_copyi hC q394 q396 q395 q89 (t := 0) (ty := .int) (fun d => rfl) rfl dX0_moves_91 rfl rfl (xPut_a (j := 19) rfl) (xPut_a (j := 28) rfl) (by decide) (by decide) (nI_nneg (by omega)) (by rw [show (nI (n)).toNatClampNeg = n from nI_clamp (by omega)]; show 0 + n ≤ 9; omega) (by rw [show (nI (n)).toNatClampNeg = n from nI_clamp (by omega)]; show 0 + n ≤ 7; omega) (fun _ _ => rfl) rfl (by decide) (by decide) ?_
            rw [xPut_setA (j := 28) rfl, nI_clamp (show n < 2 ^ 31 by omega)]
            exact n_vret hC dX0_moves_94 (by decide) (by decide) (⟨rfl, _, rfl, mFr.set (by decide) (mFr.wk (by decide) hF), fun x hx => by
        rw [mset_s]
        show va_cpy (C2 19) (C2 28) 0 0 n x = tur 1 n (C 28) x
        rw [cpy_lt hx]
        unfold tur
        rw [if_pos hx]
        have w9 := wr ((x + 1) % n) (by have : (x + 1) % n < n := Nat.mod_lt _ (by omega); omega)
        rw [md_b2 hx (by omega)] at w9
        exact w9⟩)
          · skip
            have hq9 : (p + 1) % n < n := Nat.mod_lt _ (by omega)
            have hq8 : (p + (n - 1)) % n < n := Nat.mod_lt _ (by omega)
            refine n_aload_n hC dX0_moves_50 rfl ?_
            refine x_getA hC 19 q167 dX0_moves_51 rfl (by decide) (by decide) ?_
            refine n_iload hC dX0_moves_54 rfl ?_
            refine n_iload_n hC dX0_moves_56 rfl ?_
            refine n_bipush hC (v := nI 100) dX0_moves_57 (by decide) ?_
            refine n_icmp_neN hC (tgt := 66) dX0_moves_59 (by decide) (by omega) (by omega) (fun c_59 => ?_) (fun c_59 => absurd c_59 (by decide))
            refine n_iload_n hC dX0_moves_66 rfl ?_
            refine n_iconst hC (v := nI 1) dX0_moves_67 (by decide) ?_
            refine n_isubN hC dX0_moves_68 (by omega) rfl ?_
            refine n_iaddN hC dX0_moves_69 rfl ?_
            refine n_iload_n hC dX0_moves_70 rfl ?_
            refine n_iremN hC dX0_moves_71 (by omega) (by omega) (by omega) rfl ?_
            refine n_aload_n hC dX0_moves_72 rfl ?_
            refine n_iload hC dX0_moves_73 rfl ?_
            refine x_aldN hC 28 (v := C 28 p) dX0_moves_75 rfl rfl (by have h9 : xLen 28 = 7 := rfl; omega) (congrFun (hF 28 (by decide)) p) ?_
            refine x_astN hC 19 (C2 := mset C2 19 (upd (C2 19) ((p + (n - 1)) % n) (C 28 p))) dX0_moves_76 rfl rfl (by have h9 : xLen 19 = 9 := rfl; omega) rfl ?_
            refine n_iincN hC dX0_moves_77 (j := 1) (c := p + 1) rfl (by decide) rfl ?_
            refine n_goto hC (tgt := 44) dX0_moves_80 (by decide) ?_
            exact WN.forget (L' := [some (.ref (na 130)), some (.ref (na 128)), some (.int (nI n)), some (.int (nI 101)), some (.int (nI (p + 1))), none, none]) (⟨Or.inr rfl, Or.inr rfl, Or.inr rfl, Or.inr rfl, Or.inr rfl, Or.inl rfl, Or.inl rfl, trivial⟩) (ih44 _ (by omega) (p + 1) (mset C2 19 (upd (C2 19) ((p + (n - 1)) % n) (C 28 p))) rfl (by omega) (mFr.set (by decide) hF) (fun q hq => by show upd (C2 19) ((p + (n - 1)) % n) _ ((q + (n - 1)) % n) = _; by_cases e : q = p; rw [e, upd_s]; rw [upd_n (fun z => e (md_inj (show p < n by omega) (show q < n by omega) (by omega) z))]; exact wr q (by omega)))
      exact WN.forget (L' := [some (.ref (na 130)), some (.ref (na 128)), some (.int (nI n)), some (.int (nI 101)), some (.int (nI 0)), none, none]) (⟨Or.inr rfl, Or.inr rfl, Or.inr rfl, Or.inr rfl, Or.inr rfl, Or.inl rfl, Or.inl rfl, trivial⟩) (lp44 _ 0 C rfl (by omega) mFr.rf lt_0)
  · skip
    have hp : s / 10 < n := hs2 (by omega)
    have hq : (s / 10 + 1) % n < n := Nat.mod_lt _ (by omega)
    refine n_iload_n hC dX0_moves_6 rfl ?_
    refine n_bipush hC (v := nI 10) dX0_moves_7 (by decide) ?_
    refine n_idivN hC dX0_moves_9 (by omega) (by omega) (by omega) rfl ?_
    refine n_istore hC dX0_moves_10 (Nat.le_of_ble_eq_true rfl) ?_
    refine n_iload hC dX0_moves_12 rfl ?_
    refine n_iconst hC (v := nI 1) dX0_moves_14 (by decide) ?_
    refine n_iaddN hC dX0_moves_15 rfl ?_
    refine n_iload_n hC dX0_moves_16 rfl ?_
    refine n_iremN hC dX0_moves_17 (by omega) (by omega) (by omega) rfl ?_
    refine n_istore hC dX0_moves_18 (Nat.le_of_ble_eq_true rfl) ?_
    refine n_aload_n hC dX0_moves_20 rfl ?_
    refine n_iload hC dX0_moves_21 rfl ?_
    refine x_aldN hC 28 (v := C 28 (s / 10)) dX0_moves_23 rfl rfl (by have h9 : xLen 28 = 7 := rfl; omega) rfl ?_
    refine n_istore hC dX0_moves_24 (Nat.le_of_ble_eq_true rfl) ?_
    refine n_aload_n hC dX0_moves_26 rfl ?_
    refine n_iload hC dX0_moves_27 rfl ?_
    refine n_aload_n hC dX0_moves_29 rfl ?_
    refine n_iload hC dX0_moves_30 rfl ?_
    refine x_aldN hC 28 (v := C 28 ((s / 10 + 1) % n)) dX0_moves_32 rfl rfl (by have h9 : xLen 28 = 7 := rfl; omega) rfl ?_
    refine x_astN hC 28 (C2 := mset C 28 (upd (C 28) (s / 10) (C 28 ((s / 10 + 1) % n)))) dX0_moves_33 rfl rfl (by have h9 : xLen 28 = 7 := rfl; omega) rfl ?_
    refine n_aload_n hC dX0_moves_34 rfl ?_
    refine n_iload hC dX0_moves_35 rfl ?_
    refine n_iload hC dX0_moves_37 rfl ?_
    refine x_astN hC 28 (C2 := mset C 28 (upd (upd (C 28) (s / 10) (C 28 ((s / 10 + 1) % n))) ((s / 10 + 1) % n) (C 28 (s / 10)))) dX0_moves_39 rfl rfl (by have h9 : xLen 28 = 7 := rfl; omega) (mset_ss _ _ _ _) ?_
    exact n_vret hC dX0_moves_40 (by decide) (by decide) (⟨rfl, _, rfl, mFr.set (by decide) mFr.rf, fun p _ => by unfold mvd; rw [if_pos (by omega), mset_s]; rfl⟩)

set_option maxHeartbeats 4000000 in
set_option maxRecDepth 100000 in
theorem ct_X0_steps (na : nA) (h : nH) (C : nMem) (B : Nat → nMem) (P : Nat → Nat × Nat) (I : Nat → Nat) (M : nMem) (hR : xRel (C, B, P, I) M) (hI : mInv M) {s : Nat} (hs : s < 102) (hs2 : s < 100 → s / 10 < mN M 1 ∧ s % 10 ≤ 1) : nM yX0_steps cX0_steps 3 (some .int) (nRm 3 0 0) [.ref (na 130), .int (nI s)] na (xPut na h (C, B, P, I)) (nQi (xOpS na h P I (st_o s M))) 0 0 := by
  refine nM.ofN RX0 rfl (by decide) (by intro v hv; simp only [List.mem_cons, List.not_mem_nil, or_false] at hv; rcases hv with rfl | rfl <;> rfl) (Nat.le_of_ble_eq_true rfl) (fun K hC hnm => ?_)
  show WN K na (xPut na h (C, B, P, I)) 0 0 (nE K (nQi (xOpS na h P I (st_o s M))) 0 0) 0 [some (.ref (na 130)), some (.int (nI s)), none] []
  let Q9 : State → Prop := nE K (nQi (xOpS na h P I (st_o s M))) 0 0
  show WN K na (xPut na h (C, B, P, I)) 0 0 Q9 0 [some (.ref (na 130)), some (.int (nI s)), none] []
  have hR0 := hR
  obtain ⟨hw, gPe, gRi, gCl, gSt, gTh, gFi, gTx, gTr, gTp, gRd, gOr⟩ := hR
  dsimp only at hw gPe gRi gCl gSt gTh gFi gTx gTr gTp gRd gOr
  obtain ⟨⟨h0, b0⟩, ⟨h1, b1a, b1⟩, ⟨h11, b11⟩, ⟨h14, b14⟩, ⟨h15, b15, b15n⟩, ⟨h20, b20⟩, ⟨h26, b26⟩, ⟨h27, b27⟩, ⟨h55, b55⟩, iP, iH, iHi, iHd, iC, iT, iF, iG, iS, iZ⟩ := hI
  refine n_aload_n hC dX0_steps_0 rfl ?_
  refine x_getI hC 6 (v := nbo (mB M 11)) q154 dX0_steps_1 rfl (by decide) (by decide) (gRi.2.2.1.trans h11) ?_
  refine n_if_eqB hC (tgt := 18) dX0_steps_4 (by decide) (fun c_4 => ?_) (fun c_4 => ?_)
  · skip
    refine n_bipush hC (v := (-3)) dX0_steps_18 (by decide) ?_
    refine n_istore_n hC dX0_steps_20 (Nat.le_of_ble_eq_true rfl) ?_
    refine n_iload_n hC dX0_steps_21 rfl ?_
    refine n_if_eq hC (tgt := 27) dX0_steps_22 (by decide) (fun c_22 => absurd c_22 (by decide)) (fun c_22 => ?_)
    refine n_iload_n hC dX0_steps_25 rfl ?_
    exact n_iret hC dX0_steps_26 (by decide) (by decide) (xOpS.mk (M2 := M) (by unfold st_o; rw [if_pos c_4]) hR0)
  · skip
    have hn3 := b11 c_4
    obtain ⟨r1, r2, r3, r4, r5, r6, r7⟩ := gRd.2 (show mN M 1 ≠ 0 by omega)
    have hst := rf_st r6 c_4 b14 b15 hn3 iH hs2
    refine n_aload_n hC dX0_steps_7 rfl ?_
    refine x_getR hC 7 q155 dX0_steps_8 rfl (by decide) (by decide) r1 ?_
    refine n_iload_n hC dX0_steps_11 rfl ?_
    refine n_callV1i hC (xc_pure (i := (I 7)) (c := (2, 0)) r4 ⟨by decide, by decide⟩ (ct_X9_refuses (bB (I 7)) na _ (B (I 7)) (n := mN M 1) r6.1 hn3 b1 (by rw [rd_6 r6 b15]; exact r6.2.1) (by rw [rd_6 r6 b15]; omega) (by rw [rd_7 r6 c_4 b14]; exact (r6.2.2.2 c_4).1) (by rw [rd_7 r6 c_4 b14]; omega) (rd_A r6 c_4 iH) (s := s) (by omega) hs2)) md_X9_refuses q409 dX0_steps_12 rfl (((xBlk_o (na := na) (h := h) (X := (C, B, P, I)) (i := (I 7)) (c := (2, 0)) r4 ⟨by decide, by decide⟩) 9 (by decide)).trans (if_pos rfl)) rfl rfl ⟨rfl, rfl, by decide, by decide⟩ rfl (Nat.le_of_ble_eq_true rfl) (by decide) (by decide) (fun r0 na0 h0 hp0 => ?_)
    obtain ⟨rfl, rfl, rfl⟩ := hp0
    refine n_goto hC (tgt := 20) dX0_steps_15 (by decide) ?_
    refine n_istore_n hC dX0_steps_20 (Nat.le_of_ble_eq_true rfl) ?_
    refine n_iload_n hC dX0_steps_21 rfl ?_
    refine n_if_eq hC (tgt := 27) dX0_steps_22 (by decide) (fun c_22 => ?_) (fun c_22 => ?_)
    · skip
      obtain ⟨st1, st2, st3⟩ := hst.2 c_22
      refine n_aload_n hC dX0_steps_27 rfl ?_
      refine x_getR hC 7 q155 dX0_steps_28 rfl (by decide) (by decide) r1 ?_
      refine n_iload_n hC dX0_steps_31 rfl ?_
      refine n_callV1v hC (xc_rel (i := (I 7)) (c := (2, 0)) r4 ⟨by decide, by decide⟩ (ct_X9_does (bB (I 7)) na _ (B (I 7)) (n := mN M 1) r6.1 hn3 b1 (by rw [rd_6 r6 b15]; exact r6.2.1) (by rw [rd_7 r6 c_4 b14]; exact (r6.2.2.2 c_4).1) (by rw [rd_7 r6 c_4 b14]; omega) (rd_A r6 c_4 iH) (s := s) (by omega) hs2 (fun z => by rw [rd_6 r6 b15]; exact st3 z))) md_X9_does q417 dX0_steps_32 rfl (((xBlk_o (na := na) (h := h) (X := (C, B, P, I)) (i := (I 7)) (c := (2, 0)) r4 ⟨by decide, by decide⟩) 9 (by decide)).trans (if_pos rfl)) rfl rfl ⟨rfl, rfl, by decide, by decide⟩ rfl (Nat.le_of_ble_eq_true rfl) (by decide) (by decide) (fun na1 h1 hp1 => ?_)
      obtain ⟨rfl, R9, rfl, hD9⟩ := hp1
      refine n_aload_n hC dX0_steps_35 rfl ?_
      refine n_aload_n hC dX0_steps_36 rfl ?_
      refine x_getA hC 3 q151 dX0_steps_37 rfl (by decide) (by decide) ?_
      refine n_aload_n hC dX0_steps_40 rfl ?_
      refine x_getI hC 2 (v := nI (mN M 1)) q150 dX0_steps_41 rfl (by decide) (by decide) (gRi.1.trans h1) ?_
      refine n_iload_n hC dX0_steps_44 rfl ?_
      refine n_callV3v hC (ct_X0_moves_3 na _ _ _ _ _ (n := mN M 1) (s := s) (by omega) (by omega) (by omega) (fun z => (hs2 z).1)) md_X0_moves q430 dX0_steps_45 rfl xPut_o rfl rfl ⟨rfl, rfl, by decide, by decide⟩ rfl (Nat.le_of_ble_eq_true rfl) (by decide) (by decide) (fun na2 h2 hp2 => ?_)
      obtain ⟨rfl, C9, rfl, hF9, hm9⟩ := hp2
      refine n_aload_n hC dX0_steps_48 rfl ?_
      refine x_getA hC 11 q159 dX0_steps_49 rfl (by decide) (by decide) ?_
      refine n_aload_n hC dX0_steps_52 rfl ?_
      refine n_dup hC dX0_steps_53 rfl ?_
      refine x_getI hC 12 (v := nI (mN M 14)) q160 dX0_steps_54 rfl (by decide) (by decide) ((congrFun (hF9 12 (by decide)) 0).trans (gSt.1.trans h14)) ?_
      refine n_dup_x1 hC dX0_steps_57 rfl rfl ?_
      refine n_iconst hC (v := nI 1) dX0_steps_58 (by decide) ?_
      refine n_iaddN hC dX0_steps_59 rfl ?_
      refine x_putI hC 12 (C2 := mset C9 12 (fun _ => nI (mN M 14 + 1))) q160 dX0_steps_60 rfl (by decide) (by decide) rfl rfl rfl rfl rfl ?_
      refine n_iload_n hC dX0_steps_63 rfl ?_
      refine x_astN hC 11 (C2 := mset (mset C9 12 (fun _ => nI (mN M 14 + 1))) 11 (upd (C9 11) (mN M 14) (nI s))) dX0_steps_64 rfl rfl (by have h9 : xLen 11 = 300 := rfl; omega) rfl ?_
      refine n_aload_n hC dX0_steps_65 rfl ?_
      refine x_getI hC 12 (v := nI (mN M 14 + 1)) q160 dX0_steps_66 rfl (by decide) (by decide) rfl ?_
      exact n_iret hC dX0_steps_69 (by decide) (by decide) (xOpS.mk st1 (hR0.step c_4 hn3 b1 h14 st2 st3 iH iHi hs hs2 hD9 (mFr.set (by decide) (mFr.set (by decide) (mFr.wk (by decide) hF9))) hm9 rfl (by show upd (C9 11) _ _ = _; rw [hF9 11 (by decide)])))
    · skip
      refine n_iload_n hC dX0_steps_25 rfl ?_
      exact n_iret hC dX0_steps_26 (by decide) (by decide) (xOpS.mk (hst.1 c_22) hR0)

theorem o_pass_st {M : nMem} {j z : Nat} (hn : mN M 1 ≤ 9) (hj : j < mN M 1) (hz : z ≤ 1) : o_pass (nI j) (nI z) M = st_o (10 * j + z) M := by
  have h1 : nin (nI j) (mN M 1) = true := by rw [nin_nI (by omega)]; exact decide_eq_true hj
  have h2 : nrg (nI z) (nI 0) (nI 1) = true := (nrg_nn (by decide) (by decide)).mpr ⟨z, by omega, hz, rfl⟩
  unfold o_pass st_o
  rw [h1, h2, if_neg (by decide), if_neg (by decide), if_pos (show 10 * j + z < 100 by omega), nI_clamp (by omega), nI_clamp (by omega), show (10 * j + z) / 10 = j by omega, show (10 * j + z) % 10 = z by omega]
theorem o_walk_st {M : nMem} {z : Nat} (hz : z ≤ 1) : o_walk (nI z) M = st_o (100 + z) M := by
  have h2 : nrg (nI z) (nI 0) (nI 1) = true := (nrg_nn (by decide) (by decide)).mpr ⟨z, by omega, hz, rfl⟩
  unfold o_walk st_o
  rw [h2, if_neg (by decide), if_neg (show ¬ 100 + z < 100 by omega), nI_clamp (by omega), show 100 + z - 100 = z by omega]
set_option maxHeartbeats 4000000 in
set_option maxRecDepth 100000 in
theorem xt_X0_pass (na : nA) (h : nH) (C : nMem) (B : Nat → nMem) (P : Nat → Nat × Nat) (I : Nat → Nat) (M : nMem) (hR : xRel (C, B, P, I) M) (hI : mInv M) (p how : Int32) : nM yX0_pass cX0_pass 3 (some .int) (nRm 4 0 0) [.ref (na 130), .int p, .int how] na (xPut na h (C, B, P, I)) (nQi (xOp na h (o_pass p how M))) 0 0 := by
  refine nM.ofN RX0 rfl (by decide) (by intro v hv; simp only [List.mem_cons, List.not_mem_nil, or_false] at hv; rcases hv with rfl | rfl | rfl <;> rfl) (Nat.le_of_ble_eq_true rfl) (fun K hC hnm => ?_)
  show WN K na (xPut na h (C, B, P, I)) 0 0 (nE K (nQi (xOp na h (o_pass p how M))) 0 0) 0 [some (.ref (na 130)), some (.int p), some (.int how)] []
  let Q9 : State → Prop := nE K (nQi (xOp na h (o_pass p how M))) 0 0
  show WN K na (xPut na h (C, B, P, I)) 0 0 Q9 0 [some (.ref (na 130)), some (.int p), some (.int how)] []
  have hI0 := hI
  have hR0 := hR
  obtain ⟨hw, gPe, gRi, gCl, gSt, gTh, gFi, gTx, gTr, gTp, gRd, gOr⟩ := hR
  dsimp only at hw gPe gRi gCl gSt gTh gFi gTx gTr gTp gRd gOr
  obtain ⟨⟨h0, b0⟩, ⟨h1, b1a, b1⟩, ⟨h11, b11⟩, ⟨h14, b14⟩, ⟨h15, b15, b15n⟩, ⟨h20, b20⟩, ⟨h26, b26⟩, ⟨h27, b27⟩, ⟨h55, b55⟩, iP, iH, iHi, iHd, iC, iT, iF, iG, iS, iZ⟩ := hI
  refine n_aload_n hC dX0_pass_0 rfl ?_
  refine n_iload_n hC dX0_pass_1 rfl ?_
  refine n_callV1z hC (ct_X0_isPlace na _ _ _ _ _ (n := mN M 1) (gRi.1.trans h1) (by omega) p) md_X0_isPlace q373 dX0_pass_2 rfl xPut_o rfl rfl ⟨rfl, rfl, by decide, by decide⟩ rfl (Nat.le_of_ble_eq_true rfl) (by decide) (by decide) (fun r0 na0 h0 hp0 => ?_)
  obtain ⟨rfl, rfl, rfl⟩ := hp0
  refine n_if_neB hC (tgt := 10) dX0_pass_5 (by decide) (fun c_5 => ?_) (fun c_5 => ?_)
  · skip
    refine n_iload_n hC dX0_pass_10 rfl ?_
    refine n_iconst hC (v := nI 0) dX0_pass_11 (by decide) ?_
    refine n_iconst hC (v := nI 1) dX0_pass_12 (by decide) ?_
    refine n_callS3z hC (ct_X0_in na _ how (nI 0) (nI 1)) ms_X0_in q243 dX0_pass_13 ⟨rfl, rfl, by decide, by decide⟩ rfl (Nat.le_of_ble_eq_true rfl) (by decide) (by decide) (fun r1 na1 h1 hp1 => ?_)
    obtain ⟨rfl, rfl, rfl⟩ := hp1
    refine n_if_eqB hC (tgt := 32) dX0_pass_16 (by decide) (fun c_16 => ?_) (fun c_16 => ?_)
    · skip
      refine n_bipush hC (v := (-2)) dX0_pass_32 (by decide) ?_
      exact n_iret hC dX0_pass_34 (by decide) (by decide) (xOp.mk (M2 := M) (by simp [o_pass, c_5, c_16]) hR0)
    · skip
      obtain ⟨j, hj, ej⟩ := (nin_t (by omega)).mp c_5
      subst ej
      obtain ⟨z, -, hz, ez⟩ := (nrg_nn (by decide) (by decide)).mp c_16
      subst ez
      have hop := o_pass_st (M := M) b1 hj hz
      refine n_aload_n hC dX0_pass_19 rfl ?_
      refine n_bipush hC (v := nI 10) dX0_pass_20 (by decide) ?_
      refine n_iload_n hC dX0_pass_22 rfl ?_
      refine n_imulN hC dX0_pass_23 rfl ?_
      refine n_iload_n hC dX0_pass_24 rfl ?_
      refine n_iaddN hC dX0_pass_25 rfl ?_
      refine n_callV1i hC (ct_X0_steps na _ _ _ _ _ M hR0 hI0 (s := 10 * j + z) (by omega) (fun _ => ⟨by omega, by omega⟩)) md_X0_steps q405 dX0_pass_26 rfl xPut_o rfl rfl ⟨rfl, rfl, by decide, by decide⟩ rfl (Nat.le_of_ble_eq_true rfl) (by decide) (by decide) (fun r2 na2 h2 hp2 => ?_)
      obtain ⟨rfl, rfl, C9, B9, rfl, hR9⟩ := hp2
      refine n_goto hC (tgt := 34) dX0_pass_29 (by decide) ?_
      exact n_iret hC dX0_pass_34 (by decide) (by decide) (⟨by rw [hop], fun _ _ => rfl, _, rfl, by rw [hop]; exact hR9⟩)
  · skip
    refine n_iconst hC (v := (-1)) dX0_pass_8 (by decide) ?_
    exact n_iret hC dX0_pass_9 (by decide) (by decide) (xOp.mk (M2 := M) (by simp [o_pass, c_5]) hR0)

set_option maxHeartbeats 4000000 in
set_option maxRecDepth 100000 in
theorem xt_X0_walk (na : nA) (h : nH) (C : nMem) (B : Nat → nMem) (P : Nat → Nat × Nat) (I : Nat → Nat) (M : nMem) (hR : xRel (C, B, P, I) M) (hI : mInv M) (how : Int32) : nM yX0_walk cX0_walk 2 (some .int) (nRm 4 0 0) [.ref (na 130), .int how] na (xPut na h (C, B, P, I)) (nQi (xOp na h (o_walk how M))) 0 0 := by
  refine nM.ofN RX0 rfl (by decide) (by intro v hv; simp only [List.mem_cons, List.not_mem_nil, or_false] at hv; rcases hv with rfl | rfl <;> rfl) (Nat.le_of_ble_eq_true rfl) (fun K hC hnm => ?_)
  show WN K na (xPut na h (C, B, P, I)) 0 0 (nE K (nQi (xOp na h (o_walk how M))) 0 0) 0 [some (.ref (na 130)), some (.int how)] []
  let Q9 : State → Prop := nE K (nQi (xOp na h (o_walk how M))) 0 0
  show WN K na (xPut na h (C, B, P, I)) 0 0 Q9 0 [some (.ref (na 130)), some (.int how)] []
  have hI0 := hI
  have hR0 := hR
  obtain ⟨hw, gPe, gRi, gCl, gSt, gTh, gFi, gTx, gTr, gTp, gRd, gOr⟩ := hR
  dsimp only at hw gPe gRi gCl gSt gTh gFi gTx gTr gTp gRd gOr
  obtain ⟨⟨h0, b0⟩, ⟨h1, b1a, b1⟩, ⟨h11, b11⟩, ⟨h14, b14⟩, ⟨h15, b15, b15n⟩, ⟨h20, b20⟩, ⟨h26, b26⟩, ⟨h27, b27⟩, ⟨h55, b55⟩, iP, iH, iHi, iHd, iC, iT, iF, iG, iS, iZ⟩ := hI
  refine n_iload_n hC dX0_walk_0 rfl ?_
  refine n_iconst hC (v := nI 0) dX0_walk_1 (by decide) ?_
  refine n_iconst hC (v := nI 1) dX0_walk_2 (by decide) ?_
  refine n_callS3z hC (ct_X0_in na _ how (nI 0) (nI 1)) ms_X0_in q243 dX0_walk_3 ⟨rfl, rfl, by decide, by decide⟩ rfl (Nat.le_of_ble_eq_true rfl) (by decide) (by decide) (fun r0 na0 h0 hp0 => ?_)
  obtain ⟨rfl, rfl, rfl⟩ := hp0
  refine n_if_eqB hC (tgt := 20) dX0_walk_6 (by decide) (fun c_6 => ?_) (fun c_6 => ?_)
  · skip
    refine n_bipush hC (v := (-2)) dX0_walk_20 (by decide) ?_
    exact n_iret hC dX0_walk_22 (by decide) (by decide) (xOp.mk (M2 := M) (by simp [o_walk, c_6]) hR0)
  · skip
    obtain ⟨z, -, hz, ez⟩ := (nrg_nn (by decide) (by decide)).mp c_6
    subst ez
    have hop := o_walk_st (M := M) hz
    refine n_aload_n hC dX0_walk_9 rfl ?_
    refine n_bipush hC (v := nI 100) dX0_walk_10 (by decide) ?_
    refine n_iload_n hC dX0_walk_12 rfl ?_
    refine n_iaddN hC dX0_walk_13 rfl ?_
    refine n_callV1i hC (ct_X0_steps na _ _ _ _ _ M hR0 hI0 (s := 100 + z) (by omega) (fun w => absurd w (by omega))) md_X0_steps q405 dX0_walk_14 rfl xPut_o rfl rfl ⟨rfl, rfl, by decide, by decide⟩ rfl (Nat.le_of_ble_eq_true rfl) (by decide) (by decide) (fun r1 na1 h1 hp1 => ?_)
    obtain ⟨rfl, rfl, C9, B9, rfl, hR9⟩ := hp1
    refine n_goto hC (tgt := 22) dX0_walk_17 (by decide) ?_
    exact n_iret hC dX0_walk_22 (by decide) (by decide) (⟨by rw [hop], fun _ _ => rfl, _, rfl, by rw [hop]; exact hR9⟩)

theorem bg_no {M : nMem} (hd : mB M 11 = false) (h : (decide (0 < mN M 1) && allb (mN M 1) (fun q => decide (¬ M 5 q = -5))) = false) : o_begin M = (-3, M) := by
  unfold o_begin
  rw [hd, if_neg (by decide)]
  by_cases c : mN M 1 = 0
  · rw [if_pos c]
  · rw [if_neg c]
    rw [decide_eq_true (show 0 < mN M 1 by omega), Bool.true_and] at h
    have hh : mHas (M 5) (-5) (mN M 1) := by
      apply Classical.byContradiction
      intro z
      have : allb (mN M 1) (fun q => decide (¬ M 5 q = -5)) = true := allb_iff.mpr fun p hp => decide_eq_true fun e => z ⟨p, hp, e⟩
      rw [h] at this
      cases this
    rw [if_pos hh]
def beginM (M : nMem) : nMem := mset (mset (mset (mset (mset (mset M 11 (fun _ => nI 1)) 14 (fun _ => nI 0)) 15 (fun _ => nI 0)) 9 (fil (M 8) (M 9) (mN M 1))) 10 (fil (M 7) (M 10) (mN M 1))) 17 (fil (fun _ => nI 0) (M 17) (mN M 1))
theorem bg_yes {M : nMem} (hd : mB M 11 = false) (h : (decide (0 < mN M 1) && allb (mN M 1) (fun q => decide (¬ M 5 q = -5))) = true) : o_begin M = (nI (mN M 1), beginM M) ∧ 0 < mN M 1 := by
  rw [Bool.and_eq_true, decide_eq_true_iff] at h
  refine ⟨?_, h.1⟩
  unfold o_begin
  rw [hd, if_neg (by decide), if_neg (by omega), if_neg (fun ⟨p, hp, e⟩ => (of_decide_eq_true (allb_iff.mp h.2 p hp)) e)]
  rfl
set_option maxHeartbeats 4000000 in
set_option maxRecDepth 100000 in
theorem xt_X0_begin (na : nA) (h : nH) (C : nMem) (B : Nat → nMem) (P : Nat → Nat × Nat) (I : Nat → Nat) (M : nMem) (hR : xRel (C, B, P, I) M) (hI : mInv M) : nM yX0_begin cX0_begin 3 (some .int) (nRm 4 0 0) [.ref (na 130)] na (xPut na h (C, B, P, I)) (nQi (xOp na h (o_begin M))) 0 0 := by
  refine nM.ofN RX0 rfl (by decide) (by intro v hv; simp only [List.mem_cons, List.not_mem_nil, or_false] at hv; subst hv; rfl) (Nat.le_of_ble_eq_true rfl) (fun K hC hnm => ?_)
  show WN K na (xPut na h (C, B, P, I)) 0 0 (nE K (nQi (xOp na h (o_begin M))) 0 0) 0 [some (.ref (na 130)), none, none] []
  let Q9 : State → Prop := nE K (nQi (xOp na h (o_begin M))) 0 0
  show WN K na (xPut na h (C, B, P, I)) 0 0 Q9 0 [some (.ref (na 130)), none, none] []
  have hI0 := hI
  have hR0 := hR
  obtain ⟨hw, gPe, gRi, gCl, gSt, gTh, gFi, gTx, gTr, gTp, gRd, gOr⟩ := hR
  dsimp only at hw gPe gRi gCl gSt gTh gFi gTx gTr gTp gRd gOr
  obtain ⟨⟨h0, b0⟩, ⟨h1, b1a, b1⟩, ⟨h11, b11⟩, ⟨h14, b14⟩, ⟨h15, b15, b15n⟩, ⟨h20, b20⟩, ⟨h26, b26⟩, ⟨h27, b27⟩, ⟨h55, b55⟩, iP, iH, iHi, iHd, iC, iT, iF, iG, iS, iZ⟩ := hI
  refine n_aload_n hC dX0_begin_0 rfl ?_
  refine x_getI hC 2 (v := nI (mN M 1)) q150 dX0_begin_1 rfl (by decide) (by decide) (gRi.1.trans h1) ?_
  refine n_if_leN hC (tgt := 11) dX0_begin_4 (by decide) (by omega) (fun c_4 => ?_) (fun c_4 => ?_)
  · skip
    refine n_iconst hC (v := nbo false) dX0_begin_11 (by decide) ?_
    refine n_istore_n hC dX0_begin_12 (Nat.le_of_ble_eq_true rfl) ?_
    refine n_iconst hC (v := nI 0) dX0_begin_13 (by decide) ?_
    refine n_istore_n hC dX0_begin_14 (Nat.le_of_ble_eq_true rfl) ?_
    have lp15 : ∀ d9 : Nat, ∀ (p : Nat) (g : Bool), mN M 1 - p = d9 → (p ≤ mN M 1) → ((decide (0 < mN M 1) && allb p (fun q => decide (¬ M 5 q = -5))) = g) → WN K na (xPut na h (C, B, P, I)) 0 0 Q9 15 [some (.ref (na 130)), some (.int (nbo g)), some (.int (nI p))] [] := by
      intro d9
      induction d9 using Nat.strongRecOn with
      | _ d9 ih15 =>
        intro p g hd15 hp hg
        refine n_iload_n hC dX0_begin_15 rfl ?_
        refine n_aload_n hC dX0_begin_16 rfl ?_
        refine x_getI hC 2 (v := nI (mN M 1)) q150 dX0_begin_17 rfl (by decide) (by decide) (gRi.1.trans h1) ?_
        refine n_icmp_geN hC (tgt := 48) dX0_begin_20 (by decide) (by omega) (by omega) (fun c_20 => ?_) (fun c_20 => ?_)
        · skip
          have hp9 : p = mN M 1 := by omega
          subst hp9
          refine n_aload_n hC dX0_begin_48 rfl ?_
          refine x_getI hC 6 (v := nbo (mB M 11)) q154 dX0_begin_49 rfl (by decide) (by decide) (gRi.2.2.1.trans h11) ?_
          refine n_if_neB hC (tgt := 59) dX0_begin_52 (by decide) (fun c_52 => ?_) (fun c_52 => ?_)
          · skip
            refine n_bipush hC (v := (-3)) dX0_begin_59 (by decide) ?_
            exact n_iret hC dX0_begin_61 (by decide) (by decide) (xOp.mk (M2 := M) (by simp [o_begin, c_52]) hR0)
          · skip
            refine n_iload_n hC dX0_begin_55 rfl ?_
            refine n_if_neB hC (tgt := 62) dX0_begin_56 (by decide) (fun c_56 => ?_) (fun c_56 => ?_)
            · skip
              obtain ⟨ob1, ob2⟩ := bg_yes c_52 (hg.trans c_56)
              have hn3 : 3 ≤ mN M 1 := by omega
              obtain ⟨r1, r2, r3, r4, r5, r6, r7⟩ := gRd.2 (show mN M 1 ≠ 0 by omega)
              refine n_aload_n hC dX0_begin_62 rfl ?_
              refine x_getA hC 4 q152 dX0_begin_63 rfl (by decide) (by decide) ?_
              refine n_iconst hC (v := nI 0) dX0_begin_66 (by decide) ?_
              refine n_aload_n hC dX0_begin_67 rfl ?_
              refine x_getA hC 9 q157 dX0_begin_68 rfl (by decide) (by decide) ?_
              refine n_iconst hC (v := nI 0) dX0_begin_71 (by decide) ?_
              refine n_bipush hC (v := nI 9) dX0_begin_72 (by decide) ?_
              refine n_copyi hC q394 q396 q395 q89 (t := 0) (ty := .int) (fun d => rfl) rfl dX0_begin_74 rfl rfl (xPut_a (j := 4) rfl) (xPut_a (j := 9) rfl) (by decide) (by decide) (nI_nneg (by omega)) (by rw [show (nI (9)).toNatClampNeg = 9 from nI_clamp (by omega)]; show 0 + 9 ≤ 9; omega) (by rw [show (nI (9)).toNatClampNeg = 9 from nI_clamp (by omega)]; show 0 + 9 ≤ 9; omega) (fun _ _ => rfl) rfl (by decide) (by decide) ?_
              rw [xPut_setA (j := 9) rfl, nI_clamp (show 9 < 2 ^ 31 by omega)]
              refine n_aload_n hC dX0_begin_77 rfl ?_
              refine x_getA hC 5 q153 dX0_begin_78 rfl (by decide) (by decide) ?_
              refine n_iconst hC (v := nI 0) dX0_begin_81 (by decide) ?_
              refine n_aload_n hC dX0_begin_82 rfl ?_
              refine x_getA hC 10 q158 dX0_begin_83 rfl (by decide) (by decide) ?_
              refine n_iconst hC (v := nI 0) dX0_begin_86 (by decide) ?_
              refine n_bipush hC (v := nI 9) dX0_begin_87 (by decide) ?_
              refine n_copyi hC q394 q396 q395 q89 (t := 0) (ty := .int) (fun d => rfl) rfl dX0_begin_89 rfl rfl (xPut_a (j := 5) rfl) (xPut_a (j := 10) rfl) (by decide) (by decide) (nI_nneg (by omega)) (by rw [show (nI (9)).toNatClampNeg = 9 from nI_clamp (by omega)]; show 0 + 9 ≤ 9; omega) (by rw [show (nI (9)).toNatClampNeg = 9 from nI_clamp (by omega)]; show 0 + 9 ≤ 9; omega) (fun _ _ => rfl) rfl (by decide) (by decide) ?_
              rw [xPut_setA (j := 10) rfl, nI_clamp (show 9 < 2 ^ 31 by omega)]
              refine n_aload_n hC dX0_begin_92 rfl ?_
              refine x_getR hC 7 q155 dX0_begin_93 rfl (by decide) (by decide) r1 ?_
              refine n_aload_n hC dX0_begin_96 rfl ?_
              refine x_getA hC 10 q158 dX0_begin_97 rfl (by decide) (by decide) ?_
              refine n_callV1v hC (xc_rel (i := (I 7)) (c := (2, 0)) r4 ⟨by decide, by decide⟩ (ct_X9_begins (bB (I 7)) na _ (B (I 7)) (n := mN M 1) r6.1 hn3 b1 (kk := 110) (f := va_cpy (C 5) (C 10) 0 0 (9)) (by unfold bB; omega) (xPut_a (j := 10) rfl))) md_X9_begins q365 dX0_begin_100 rfl (((xBlk_o (na := na) (h := h) (X := (mset (mset C 9 (va_cpy (C 4) (C 9) 0 0 (9))) 10 (va_cpy (C 5) (C 10) 0 0 (9)), B, P, I)) (i := (I 7)) (c := (2, 0)) r4 ⟨by decide, by decide⟩) 9 (by decide)).trans (if_pos rfl)) rfl rfl ⟨rfl, rfl, by decide, by decide⟩ rfl (Nat.le_of_ble_eq_true rfl) (by decide) (by decide) (fun na0 h0 hp0 => ?_)
              obtain ⟨rfl, R9, rfl, eR9⟩ := hp0
              refine n_aload_n hC dX0_begin_103 rfl ?_
              refine n_iconst hC (v := nI 0) dX0_begin_104 (by decide) ?_
              refine x_putI hC 12 (C2 := mset (mset (mset C 9 (va_cpy (C 4) (C 9) 0 0 (9))) 10 (va_cpy (C 5) (C 10) 0 0 (9))) 12 (fun _ => nI 0)) q160 dX0_begin_105 rfl (by decide) (by decide) rfl rfl rfl rfl rfl ?_
              refine n_aload_n hC dX0_begin_108 rfl ?_
              refine n_iconst hC (v := nI 1) dX0_begin_109 (by decide) ?_
              refine x_putI hC 6 (C2 := mset (mset (mset (mset C 9 (va_cpy (C 4) (C 9) 0 0 (9))) 10 (va_cpy (C 5) (C 10) 0 0 (9))) 12 (fun _ => nI 0)) 6 (fun _ => nI 1)) q154 dX0_begin_110 rfl (by decide) (by decide) rfl rfl rfl rfl rfl ?_
              refine n_aload_n hC dX0_begin_113 rfl ?_
              refine x_getI hC 2 (v := nI (mN M 1)) q150 dX0_begin_114 rfl (by decide) (by decide) (gRi.1.trans h1) ?_
              exact n_iret hC dX0_begin_117 (by decide) (by decide) (xOp.mk ob1 (by
      have e10 : ∀ p, p < mN M 1 → va_cpy (C 5) (C 10) 0 0 9 p = M 8 p := fun p hp => by rw [cpy_lt (by omega)]; exact ((gRi.2.2.2 c_52) p hp).2
      have e9 : ∀ p, p < mN M 1 → va_cpy (C 4) (C 9) 0 0 9 p = M 7 p := fun p hp => by rw [cpy_lt (by omega)]; exact ((gRi.2.2.2 c_52) p hp).1
      have z14 : mN (beginM M) 14 = 0 := mN_of rfl (by decide)
      have z15 : mN (beginM M) 15 = 0 := mN_of rfl (by decide)
      have z11 : mB (beginM M) 11 = true := mB_of (b := true) rfl
      refine xRel.round hR0.1 gRd gOr (show mN M 1 ≠ 0 by omega) gFi gTr gTp gPe ⟨gRi.1, gRi.2.1, rfl, fun z => absurd (z11.symm.trans z) (by decide)⟩ ⟨fun _ p hp => ?_, fun _ p hp => ⟨?_, ?_⟩⟩ ⟨rfl, fun i hi => ?_⟩ gTh gTx rfl ?_
      · show va_cpy (C 4) (C 9) 0 0 9 p = fil (M 7) (M 10) (mN M 1) p
        have hp : p < mN M 1 := hp
        rw [e9 p hp, fil_lt hp]
      · show va_cpy (C 5) (C 10) 0 0 9 p = fil (M 8) (M 9) (mN M 1) p
        have hp : p < mN M 1 := hp
        rw [e10 p hp, fil_lt hp]
      · show M 7 p = fil (M 7) (M 10) (mN M 1) p
        have hp : p < mN M 1 := hp
        rw [fil_lt hp]
      · rw [z14] at hi; omega
      · subst eR9
        refine ⟨r6.1, ?_, fun r p hr _ => ?_, fun _ => ⟨?_, fun p hp => ?_⟩⟩
        · rw [z15]; rfl
        · rw [z15] at hr; omega
        · rw [z14]; rfl
        · have hp : p < mN M 1 := hp
          refine ⟨?_, ?_, ?_⟩
          · show fil nI (B (I 7) 1) (mN M 1) p = M 6 p
            rw [fil_lt hp, (iH p hp).1, iHd c_52 p hp]
          · show fil (va_cpy (C 5) (C 10) 0 0 9) (B (I 7) 2) (mN M 1) p = M 8 p
            rw [fil_lt hp, e10 p hp]
          · show fil (fun _ => nI 0) (B (I 7) 3) (mN M 1) p = fil (fun _ => nI 0) (M 17) (mN M 1) p
            rw [fil_lt hp, fil_lt hp]))
            · skip
              refine n_bipush hC (v := (-3)) dX0_begin_59 (by decide) ?_
              exact n_iret hC dX0_begin_61 (by decide) (by decide) (xOp.mk (M2 := M) (bg_no c_52 (hg.trans c_56)) hR0)
        · skip
          refine n_iload_n hC dX0_begin_23 rfl ?_
          refine n_aload_n hC dX0_begin_24 rfl ?_
          refine x_getA hC 3 q151 dX0_begin_25 rfl (by decide) (by decide) ?_
          refine n_iload_n hC dX0_begin_28 rfl ?_
          refine x_aldN hC 3 (v := M 5 p) dX0_begin_29 rfl rfl (by have h9 : xLen 3 = 9 := rfl; omega) (gRi.2.1 p (by omega)) ?_
          refine n_bipush hC (v := (-5)) dX0_begin_30 (by decide) ?_
          refine n_icmp_eq hC (tgt := 39) dX0_begin_32 (by decide) (fun c_32 => ?_) (fun c_32 => ?_)
          · skip
            refine n_iconst hC (v := nbo false) dX0_begin_39 (by decide) ?_
            refine n_iand hC dX0_begin_40 ?_
            rw [show (nbo g) &&& (nbo false) = nbo (g && false) from (by cases g <;> decide)]
            refine n_istore_n hC dX0_begin_41 (Nat.le_of_ble_eq_true rfl) ?_
            refine n_iincN hC dX0_begin_42 (j := 1) (c := p + 1) rfl (by decide) rfl ?_
            refine n_goto hC (tgt := 15) dX0_begin_45 (by decide) ?_
            exact WN.forget (L' := [some (.ref (na 130)), some (.int (nbo (g && false))), some (.int (nI (p + 1)))]) (⟨Or.inr rfl, Or.inr rfl, Or.inr rfl, trivial⟩) (ih15 _ (by omega) (p + 1) (g && false) rfl (by omega) (by show (decide _ && (allb p _ && decide _)) = _; rw [← Bool.and_assoc, hg, decide_eq_false (fun z => z c_32)]))
          · skip
            refine n_iconst hC (v := nbo true) dX0_begin_35 (by decide) ?_
            refine n_goto hC (tgt := 40) dX0_begin_36 (by decide) ?_
            refine n_iand hC dX0_begin_40 ?_
            rw [show (nbo g) &&& (nbo true) = nbo (g && true) from (by cases g <;> decide)]
            refine n_istore_n hC dX0_begin_41 (Nat.le_of_ble_eq_true rfl) ?_
            refine n_iincN hC dX0_begin_42 (j := 1) (c := p + 1) rfl (by decide) rfl ?_
            refine n_goto hC (tgt := 15) dX0_begin_45 (by decide) ?_
            exact WN.forget (L' := [some (.ref (na 130)), some (.int (nbo (g && true))), some (.int (nI (p + 1)))]) (⟨Or.inr rfl, Or.inr rfl, Or.inr rfl, trivial⟩) (ih15 _ (by omega) (p + 1) (g && true) rfl (by omega) (by show (decide _ && (allb p _ && decide _)) = _; rw [← Bool.and_assoc, hg, decide_eq_true c_32]))
    exact WN.forget (L' := [some (.ref (na 130)), some (.int (nbo false)), some (.int (nI 0))]) (⟨Or.inr rfl, Or.inr rfl, Or.inr rfl, trivial⟩) (lp15 _ 0 false rfl (by omega) (by show (decide _ && true) = false; rw [decide_eq_false (by omega)]; rfl))
  · skip
    refine n_iconst hC (v := nbo true) dX0_begin_7 (by decide) ?_
    refine n_goto hC (tgt := 12) dX0_begin_8 (by decide) ?_
    refine n_istore_n hC dX0_begin_12 (Nat.le_of_ble_eq_true rfl) ?_
    refine n_iconst hC (v := nI 0) dX0_begin_13 (by decide) ?_
    refine n_istore_n hC dX0_begin_14 (Nat.le_of_ble_eq_true rfl) ?_
    have lp15 : ∀ d9 : Nat, ∀ (p : Nat) (g : Bool), mN M 1 - p = d9 → (p ≤ mN M 1) → ((decide (0 < mN M 1) && allb p (fun q => decide (¬ M 5 q = -5))) = g) → WN K na (xPut na h (C, B, P, I)) 0 0 Q9 15 [some (.ref (na 130)), some (.int (nbo g)), some (.int (nI p))] [] := by
      intro d9
      induction d9 using Nat.strongRecOn with
      | _ d9 ih15 =>
        intro p g hd15 hp hg
        refine n_iload_n hC dX0_begin_15 rfl ?_
        refine n_aload_n hC dX0_begin_16 rfl ?_
        refine x_getI hC 2 (v := nI (mN M 1)) q150 dX0_begin_17 rfl (by decide) (by decide) (gRi.1.trans h1) ?_
        refine n_icmp_geN hC (tgt := 48) dX0_begin_20 (by decide) (by omega) (by omega) (fun c_20 => ?_) (fun c_20 => ?_)
        · skip
          have hp9 : p = mN M 1 := by omega
          subst hp9
          refine n_aload_n hC dX0_begin_48 rfl ?_
          refine x_getI hC 6 (v := nbo (mB M 11)) q154 dX0_begin_49 rfl (by decide) (by decide) (gRi.2.2.1.trans h11) ?_
          refine n_if_neB hC (tgt := 59) dX0_begin_52 (by decide) (fun c_52 => ?_) (fun c_52 => ?_)
          · skip
            refine n_bipush hC (v := (-3)) dX0_begin_59 (by decide) ?_
            exact n_iret hC dX0_begin_61 (by decide) (by decide) (xOp.mk (M2 := M) (by simp [o_begin, c_52]) hR0)
          · skip
            refine n_iload_n hC dX0_begin_55 rfl ?_
            refine n_if_neB hC (tgt := 62) dX0_begin_56 (by decide) (fun c_56 => ?_) (fun c_56 => ?_)
            · skip
              obtain ⟨ob1, ob2⟩ := bg_yes c_52 (hg.trans c_56)
              have hn3 : 3 ≤ mN M 1 := by omega
              obtain ⟨r1, r2, r3, r4, r5, r6, r7⟩ := gRd.2 (show mN M 1 ≠ 0 by omega)
              refine n_aload_n hC dX0_begin_62 rfl ?_
              refine x_getA hC 4 q152 dX0_begin_63 rfl (by decide) (by decide) ?_
              refine n_iconst hC (v := nI 0) dX0_begin_66 (by decide) ?_
              refine n_aload_n hC dX0_begin_67 rfl ?_
              refine x_getA hC 9 q157 dX0_begin_68 rfl (by decide) (by decide) ?_
              refine n_iconst hC (v := nI 0) dX0_begin_71 (by decide) ?_
              refine n_bipush hC (v := nI 9) dX0_begin_72 (by decide) ?_
              refine n_copyi hC q394 q396 q395 q89 (t := 0) (ty := .int) (fun d => rfl) rfl dX0_begin_74 rfl rfl (xPut_a (j := 4) rfl) (xPut_a (j := 9) rfl) (by decide) (by decide) (nI_nneg (by omega)) (by rw [show (nI (9)).toNatClampNeg = 9 from nI_clamp (by omega)]; show 0 + 9 ≤ 9; omega) (by rw [show (nI (9)).toNatClampNeg = 9 from nI_clamp (by omega)]; show 0 + 9 ≤ 9; omega) (fun _ _ => rfl) rfl (by decide) (by decide) ?_
              rw [xPut_setA (j := 9) rfl, nI_clamp (show 9 < 2 ^ 31 by omega)]
              refine n_aload_n hC dX0_begin_77 rfl ?_
              refine x_getA hC 5 q153 dX0_begin_78 rfl (by decide) (by decide) ?_
              refine n_iconst hC (v := nI 0) dX0_begin_81 (by decide) ?_
              refine n_aload_n hC dX0_begin_82 rfl ?_
              refine x_getA hC 10 q158 dX0_begin_83 rfl (by decide) (by decide) ?_
              refine n_iconst hC (v := nI 0) dX0_begin_86 (by decide) ?_
              refine n_bipush hC (v := nI 9) dX0_begin_87 (by decide) ?_
              refine n_copyi hC q394 q396 q395 q89 (t := 0) (ty := .int) (fun d => rfl) rfl dX0_begin_89 rfl rfl (xPut_a (j := 5) rfl) (xPut_a (j := 10) rfl) (by decide) (by decide) (nI_nneg (by omega)) (by rw [show (nI (9)).toNatClampNeg = 9 from nI_clamp (by omega)]; show 0 + 9 ≤ 9; omega) (by rw [show (nI (9)).toNatClampNeg = 9 from nI_clamp (by omega)]; show 0 + 9 ≤ 9; omega) (fun _ _ => rfl) rfl (by decide) (by decide) ?_
              rw [xPut_setA (j := 10) rfl, nI_clamp (show 9 < 2 ^ 31 by omega)]
              refine n_aload_n hC dX0_begin_92 rfl ?_
              refine x_getR hC 7 q155 dX0_begin_93 rfl (by decide) (by decide) r1 ?_
              refine n_aload_n hC dX0_begin_96 rfl ?_
              refine x_getA hC 10 q158 dX0_begin_97 rfl (by decide) (by decide) ?_
              refine n_callV1v hC (xc_rel (i := (I 7)) (c := (2, 0)) r4 ⟨by decide, by decide⟩ (ct_X9_begins (bB (I 7)) na _ (B (I 7)) (n := mN M 1) r6.1 hn3 b1 (kk := 110) (f := va_cpy (C 5) (C 10) 0 0 (9)) (by unfold bB; omega) (xPut_a (j := 10) rfl))) md_X9_begins q365 dX0_begin_100 rfl (((xBlk_o (na := na) (h := h) (X := (mset (mset C 9 (va_cpy (C 4) (C 9) 0 0 (9))) 10 (va_cpy (C 5) (C 10) 0 0 (9)), B, P, I)) (i := (I 7)) (c := (2, 0)) r4 ⟨by decide, by decide⟩) 9 (by decide)).trans (if_pos rfl)) rfl rfl ⟨rfl, rfl, by decide, by decide⟩ rfl (Nat.le_of_ble_eq_true rfl) (by decide) (by decide) (fun na1 h1 hp1 => ?_)
              obtain ⟨rfl, R9, rfl, eR9⟩ := hp1
              refine n_aload_n hC dX0_begin_103 rfl ?_
              refine n_iconst hC (v := nI 0) dX0_begin_104 (by decide) ?_
              refine x_putI hC 12 (C2 := mset (mset (mset C 9 (va_cpy (C 4) (C 9) 0 0 (9))) 10 (va_cpy (C 5) (C 10) 0 0 (9))) 12 (fun _ => nI 0)) q160 dX0_begin_105 rfl (by decide) (by decide) rfl rfl rfl rfl rfl ?_
              refine n_aload_n hC dX0_begin_108 rfl ?_
              refine n_iconst hC (v := nI 1) dX0_begin_109 (by decide) ?_
              refine x_putI hC 6 (C2 := mset (mset (mset (mset C 9 (va_cpy (C 4) (C 9) 0 0 (9))) 10 (va_cpy (C 5) (C 10) 0 0 (9))) 12 (fun _ => nI 0)) 6 (fun _ => nI 1)) q154 dX0_begin_110 rfl (by decide) (by decide) rfl rfl rfl rfl rfl ?_
              refine n_aload_n hC dX0_begin_113 rfl ?_
              refine x_getI hC 2 (v := nI (mN M 1)) q150 dX0_begin_114 rfl (by decide) (by decide) (gRi.1.trans h1) ?_
              exact n_iret hC dX0_begin_117 (by decide) (by decide) (xOp.mk ob1 (by
      have e10 : ∀ p, p < mN M 1 → va_cpy (C 5) (C 10) 0 0 9 p = M 8 p := fun p hp => by rw [cpy_lt (by omega)]; exact ((gRi.2.2.2 c_52) p hp).2
      have e9 : ∀ p, p < mN M 1 → va_cpy (C 4) (C 9) 0 0 9 p = M 7 p := fun p hp => by rw [cpy_lt (by omega)]; exact ((gRi.2.2.2 c_52) p hp).1
      have z14 : mN (beginM M) 14 = 0 := mN_of rfl (by decide)
      have z15 : mN (beginM M) 15 = 0 := mN_of rfl (by decide)
      have z11 : mB (beginM M) 11 = true := mB_of (b := true) rfl
      refine xRel.round hR0.1 gRd gOr (show mN M 1 ≠ 0 by omega) gFi gTr gTp gPe ⟨gRi.1, gRi.2.1, rfl, fun z => absurd (z11.symm.trans z) (by decide)⟩ ⟨fun _ p hp => ?_, fun _ p hp => ⟨?_, ?_⟩⟩ ⟨rfl, fun i hi => ?_⟩ gTh gTx rfl ?_
      · show va_cpy (C 4) (C 9) 0 0 9 p = fil (M 7) (M 10) (mN M 1) p
        have hp : p < mN M 1 := hp
        rw [e9 p hp, fil_lt hp]
      · show va_cpy (C 5) (C 10) 0 0 9 p = fil (M 8) (M 9) (mN M 1) p
        have hp : p < mN M 1 := hp
        rw [e10 p hp, fil_lt hp]
      · show M 7 p = fil (M 7) (M 10) (mN M 1) p
        have hp : p < mN M 1 := hp
        rw [fil_lt hp]
      · rw [z14] at hi; omega
      · subst eR9
        refine ⟨r6.1, ?_, fun r p hr _ => ?_, fun _ => ⟨?_, fun p hp => ?_⟩⟩
        · rw [z15]; rfl
        · rw [z15] at hr; omega
        · rw [z14]; rfl
        · have hp : p < mN M 1 := hp
          refine ⟨?_, ?_, ?_⟩
          · show fil nI (B (I 7) 1) (mN M 1) p = M 6 p
            rw [fil_lt hp, (iH p hp).1, iHd c_52 p hp]
          · show fil (va_cpy (C 5) (C 10) 0 0 9) (B (I 7) 2) (mN M 1) p = M 8 p
            rw [fil_lt hp, e10 p hp]
          · show fil (fun _ => nI 0) (B (I 7) 3) (mN M 1) p = fil (fun _ => nI 0) (M 17) (mN M 1) p
            rw [fil_lt hp, fil_lt hp]))
            · skip
              refine n_bipush hC (v := (-3)) dX0_begin_59 (by decide) ?_
              exact n_iret hC dX0_begin_61 (by decide) (by decide) (xOp.mk (M2 := M) (bg_no c_52 (hg.trans c_56)) hR0)
        · skip
          refine n_iload_n hC dX0_begin_23 rfl ?_
          refine n_aload_n hC dX0_begin_24 rfl ?_
          refine x_getA hC 3 q151 dX0_begin_25 rfl (by decide) (by decide) ?_
          refine n_iload_n hC dX0_begin_28 rfl ?_
          refine x_aldN hC 3 (v := M 5 p) dX0_begin_29 rfl rfl (by have h9 : xLen 3 = 9 := rfl; omega) (gRi.2.1 p (by omega)) ?_
          refine n_bipush hC (v := (-5)) dX0_begin_30 (by decide) ?_
          refine n_icmp_eq hC (tgt := 39) dX0_begin_32 (by decide) (fun c_32 => ?_) (fun c_32 => ?_)
          · skip
            refine n_iconst hC (v := nbo false) dX0_begin_39 (by decide) ?_
            refine n_iand hC dX0_begin_40 ?_
            rw [show (nbo g) &&& (nbo false) = nbo (g && false) from (by cases g <;> decide)]
            refine n_istore_n hC dX0_begin_41 (Nat.le_of_ble_eq_true rfl) ?_
            refine n_iincN hC dX0_begin_42 (j := 1) (c := p + 1) rfl (by decide) rfl ?_
            refine n_goto hC (tgt := 15) dX0_begin_45 (by decide) ?_
            exact WN.forget (L' := [some (.ref (na 130)), some (.int (nbo (g && false))), some (.int (nI (p + 1)))]) (⟨Or.inr rfl, Or.inr rfl, Or.inr rfl, trivial⟩) (ih15 _ (by omega) (p + 1) (g && false) rfl (by omega) (by show (decide _ && (allb p _ && decide _)) = _; rw [← Bool.and_assoc, hg, decide_eq_false (fun z => z c_32)]))
          · skip
            refine n_iconst hC (v := nbo true) dX0_begin_35 (by decide) ?_
            refine n_goto hC (tgt := 40) dX0_begin_36 (by decide) ?_
            refine n_iand hC dX0_begin_40 ?_
            rw [show (nbo g) &&& (nbo true) = nbo (g && true) from (by cases g <;> decide)]
            refine n_istore_n hC dX0_begin_41 (Nat.le_of_ble_eq_true rfl) ?_
            refine n_iincN hC dX0_begin_42 (j := 1) (c := p + 1) rfl (by decide) rfl ?_
            refine n_goto hC (tgt := 15) dX0_begin_45 (by decide) ?_
            exact WN.forget (L' := [some (.ref (na 130)), some (.int (nbo (g && true))), some (.int (nI (p + 1)))]) (⟨Or.inr rfl, Or.inr rfl, Or.inr rfl, trivial⟩) (ih15 _ (by omega) (p + 1) (g && true) rfl (by omega) (by show (decide _ && (allb p _ && decide _)) = _; rw [← Bool.and_assoc, hg, decide_eq_true c_32]))
    exact WN.forget (L' := [some (.ref (na 130)), some (.int (nbo true)), some (.int (nI 0))]) (⟨Or.inr rfl, Or.inr rfl, Or.inr rfl, trivial⟩) (lp15 _ 0 true rfl (by omega) (by show (decide _ && true) = true; rw [decide_eq_true (by omega)]; rfl))

set_option maxHeartbeats 4000000 in
set_option maxRecDepth 100000 in
theorem xt_X0_end (na : nA) (h : nH) (C : nMem) (B : Nat → nMem) (P : Nat → Nat × Nat) (I : Nat → Nat) (M : nMem) (hR : xRel (C, B, P, I) M) (hI : mInv M) : nM yX0_end cX0_end 2 (some .int) (nRm 4 0 0) [.ref (na 130)] na (xPut na h (C, B, P, I)) (nQi (xOp na h (o_end M))) 0 0 := by
  refine nM.ofN RX0 rfl (by decide) (by intro v hv; simp only [List.mem_cons, List.not_mem_nil, or_false] at hv; subst hv; rfl) (Nat.le_of_ble_eq_true rfl) (fun K hC hnm => ?_)
  show WN K na (xPut na h (C, B, P, I)) 0 0 (nE K (nQi (xOp na h (o_end M))) 0 0) 0 [some (.ref (na 130)), none] []
  let Q9 : State → Prop := nE K (nQi (xOp na h (o_end M))) 0 0
  show WN K na (xPut na h (C, B, P, I)) 0 0 Q9 0 [some (.ref (na 130)), none] []
  have hI0 := hI
  have hR0 := hR
  obtain ⟨hw, gPe, gRi, gCl, gSt, gTh, gFi, gTx, gTr, gTp, gRd, gOr⟩ := hR
  dsimp only at hw gPe gRi gCl gSt gTh gFi gTx gTr gTp gRd gOr
  obtain ⟨⟨h0, b0⟩, ⟨h1, b1a, b1⟩, ⟨h11, b11⟩, ⟨h14, b14⟩, ⟨h15, b15, b15n⟩, ⟨h20, b20⟩, ⟨h26, b26⟩, ⟨h27, b27⟩, ⟨h55, b55⟩, iP, iH, iHi, iHd, iC, iT, iF, iG, iS, iZ⟩ := hI
  refine n_aload_n hC dX0_end_0 rfl ?_
  refine x_getI hC 6 (v := nbo (mB M 11)) q154 dX0_end_1 rfl (by decide) (by decide) (gRi.2.2.1.trans h11) ?_
  refine n_if_neB hC (tgt := 10) dX0_end_4 (by decide) (fun c_4 => ?_) (fun c_4 => ?_)
  · skip
    have hn3 := b11 c_4
    obtain ⟨r1, r2, r3, r4, r5, r6, r7⟩ := gRd.2 (show mN M 1 ≠ 0 by omega)
    have rd9 := (r6.2.2.2 c_4).2
    refine n_iconst hC (v := nI 0) dX0_end_10 (by decide) ?_
    refine n_istore_n hC dX0_end_11 (Nat.le_of_ble_eq_true rfl) ?_
    have lp12 : ∀ d9 : Nat, ∀ (p : Nat) (C2 : nMem), mN M 1 - p = d9 → (p ≤ mN M 1) → (mFr [4, 5] C C2) → (∀ q, q < p → C2 4 q = M 7 (mA M 6 q)) → (∀ q, q < p → C2 5 q = M 8 (mA M 6 q)) → WN K na (xPut na h (C2, B, P, I)) 0 0 Q9 12 [some (.ref (na 130)), some (.int (nI p))] [] := by
      intro d9
      induction d9 using Nat.strongRecOn with
      | _ d9 ih12 =>
        intro p C2 hd12 hp hF w4 w5
        refine n_iload_n hC dX0_end_12 rfl ?_
        refine n_aload_n hC dX0_end_13 rfl ?_
        refine x_getI hC 2 (v := nI (mN M 1)) q150 dX0_end_14 rfl (by decide) (by decide) ((congrFun (hF 2 (by decide)) 0).trans (gRi.1.trans h1)) ?_
        refine n_icmp_geN hC (tgt := 69) dX0_end_17 (by decide) (by omega) (by omega) (fun c_17 => ?_) (fun c_17 => ?_)
        · skip
          have hp9 : p = mN M 1 := by omega
          subst hp9
          refine n_aload_n hC dX0_end_69 rfl ?_
          refine n_iconst hC (v := nI 0) dX0_end_70 (by decide) ?_
          refine x_putI hC 6 (C2 := mset C2 6 (fun _ => nI 0)) q154 dX0_end_71 rfl (by decide) (by decide) rfl rfl rfl rfl rfl ?_
          refine n_aload_n hC dX0_end_74 rfl ?_
          refine x_getI hC 12 (v := nI (mN M 14)) q160 dX0_end_75 rfl (by decide) (by decide) ((congrFun (hF 12 (by decide)) 0).trans (gSt.1.trans h14)) ?_
          exact n_iret hC dX0_end_78 (by decide) (by decide) (xOp.mk (M2 := mset (mset (mset (mset M 11 (fun _ => nI 0)) 7 (fil (fun p => M 7 (mA M 6 p)) (M 7) (mN M 1))) 8 (fil (fun p => M 8 (mA M 6 p)) (M 8) (mN M 1))) 6 (fil nI (M 6) (mN M 1))) (by simp [o_end, c_4]) (by
      have hF2 : mFr [4, 5, 6] C (mset C2 6 (fun _ => nI 0)) := mFr.set (by decide) (mFr.wk (by decide) hF)
      refine ⟨hw, gPe.c hF2 (by decide), ⟨?_, ?_, rfl, fun _ p hp => ?_⟩, ⟨fun _ => ?_, fun z => absurd z (by rw [mB_of (b := false) rfl]; decide)⟩, gSt.c hF2 (by decide), gTh.c hF2 (by decide), gFi.c hF2 (by decide), gTx.c hF2 (by decide), gTr, gTp, gRd.idle (mB_of (b := false) rfl) rfl rfl rfl rfl, gOr⟩
      · exact (congrFun (hF2 2 (by decide)) 0).trans gRi.1
      · exact fun p hp => (congrFun (hF2 3 (by decide)) p).trans (gRi.2.1 p hp)
      · have hp : p < mN M 1 := hp
        refine ⟨?_, ?_⟩
        · show C2 4 p = fil (fun p => M 7 (mA M 6 p)) (M 7) (mN M 1) p
          rw [fil_lt hp]; exact w4 p hp
        · show C2 5 p = fil (fun p => M 8 (mA M 6 p)) (M 8) (mN M 1) p
          rw [fil_lt hp]; exact w5 p hp
      · exact fun p hp => (congrFun (hF2 9 (by decide)) p).trans (gCl.1 (Or.inl c_4) p hp)))
        · skip
          have ip := iH p (by omega)
          have ip2 := ip.2
          refine n_aload_n hC dX0_end_20 rfl ?_
          refine x_getA hC 4 q152 dX0_end_21 rfl (by decide) (by decide) ?_
          refine n_iload_n hC dX0_end_24 rfl ?_
          refine n_aload_n hC dX0_end_25 rfl ?_
          refine x_getA hC 9 q157 dX0_end_26 rfl (by decide) (by decide) ?_
          refine n_aload_n hC dX0_end_29 rfl ?_
          refine x_getR hC 7 q155 dX0_end_30 rfl (by decide) (by decide) r1 ?_
          refine o_getAN hC gW_X9 (xBlk_o (na := na) (h := h) (X := (C2, B, P, I)) (i := (I 7)) (c := (2, 0)) r4 ⟨by decide, by decide⟩) (host := "MaypoleGreen") 1 (by decide) dX0_end_33 rfl (by decide) (by decide) ?_
          refine n_iload_n hC dX0_end_36 rfl ?_
          refine o_aldN hC gW_X9 (xBlk_o (na := na) (h := h) (X := (C2, B, P, I)) (i := (I 7)) (c := (2, 0)) r4 ⟨by decide, by decide⟩) 1 (v := nI (mA M 6 p)) dX0_end_37 rfl gI_X9_1 (by show p < 9; omega) ((rd9 p (by omega)).1.trans ip.1) ?_
          refine x_aldN hC 9 (v := M 7 (mA M 6 p)) dX0_end_38 rfl rfl (by have h9 : xLen 9 = 9 := rfl; omega) ((congrFun (hF 9 (by decide)) _).trans ((gCl.1 (Or.inl c_4) _ ip.2).trans (gCl.2 c_4 _ ip.2).2.symm)) ?_
          refine x_astN hC 4 (C2 := mset C2 4 (upd (C2 4) p (M 7 (mA M 6 p)))) dX0_end_39 rfl rfl (by have h9 : xLen 4 = 9 := rfl; omega) rfl ?_
          refine n_aload_n hC dX0_end_40 rfl ?_
          refine x_getA hC 5 q153 dX0_end_41 rfl (by decide) (by decide) ?_
          refine n_iload_n hC dX0_end_44 rfl ?_
          refine n_aload_n hC dX0_end_45 rfl ?_
          refine x_getR hC 7 q155 dX0_end_46 rfl (by decide) (by decide) r1 ?_
          refine o_getAN hC gW_X9 (xBlk_o (na := na) (h := h) (X := (mset C2 4 (upd (C2 4) p (M 7 (mA M 6 p))), B, P, I)) (i := (I 7)) (c := (2, 0)) r4 ⟨by decide, by decide⟩) (host := "MaypoleGreen") 2 (by decide) dX0_end_49 rfl (by decide) (by decide) ?_
          refine n_aload_n hC dX0_end_52 rfl ?_
          refine x_getR hC 7 q155 dX0_end_53 rfl (by decide) (by decide) r1 ?_
          refine o_getAN hC gW_X9 (xBlk_o (na := na) (h := h) (X := (mset C2 4 (upd (C2 4) p (M 7 (mA M 6 p))), B, P, I)) (i := (I 7)) (c := (2, 0)) r4 ⟨by decide, by decide⟩) (host := "MaypoleGreen") 1 (by decide) dX0_end_56 rfl (by decide) (by decide) ?_
          refine n_iload_n hC dX0_end_59 rfl ?_
          refine o_aldN hC gW_X9 (xBlk_o (na := na) (h := h) (X := (mset C2 4 (upd (C2 4) p (M 7 (mA M 6 p))), B, P, I)) (i := (I 7)) (c := (2, 0)) r4 ⟨by decide, by decide⟩) 1 (v := nI (mA M 6 p)) dX0_end_60 rfl gI_X9_1 (by show p < 9; omega) ((rd9 p (by omega)).1.trans ip.1) ?_
          refine o_aldN hC gW_X9 (xBlk_o (na := na) (h := h) (X := (mset C2 4 (upd (C2 4) p (M 7 (mA M 6 p))), B, P, I)) (i := (I 7)) (c := (2, 0)) r4 ⟨by decide, by decide⟩) 2 (v := M 8 (mA M 6 p)) dX0_end_61 rfl gI_X9_2 (by show mA M 6 p < 9; omega) ((rd9 _ ip.2).2.1) ?_
          refine x_astN hC 5 (C2 := mset (mset C2 4 (upd (C2 4) p (M 7 (mA M 6 p)))) 5 (upd (C2 5) p (M 8 (mA M 6 p)))) dX0_end_62 rfl rfl (by have h9 : xLen 5 = 9 := rfl; omega) rfl ?_
          refine n_iincN hC dX0_end_63 (j := 1) (c := p + 1) rfl (by decide) rfl ?_
          refine n_goto hC (tgt := 12) dX0_end_66 (by decide) ?_
          exact WN.forget (L' := [some (.ref (na 130)), some (.int (nI (p + 1)))]) (⟨Or.inr rfl, Or.inr rfl, trivial⟩) (ih12 _ (by omega) (p + 1) (mset (mset C2 4 (upd (C2 4) p (M 7 (mA M 6 p)))) 5 (upd (C2 5) p (M 8 (mA M 6 p)))) rfl (by omega) (mFr.set (by decide) (mFr.set (by decide) hF)) (fun q hq => by show upd (C2 4) p _ q = _; by_cases e : q = p; rw [e, upd_s]; rw [upd_n e]; exact w4 q (by omega)) (fun q hq => by show upd (C2 5) p _ q = _; by_cases e : q = p; rw [e, upd_s]; rw [upd_n e]; exact w5 q (by omega)))
    exact WN.forget (L' := [some (.ref (na 130)), some (.int (nI 0))]) (⟨Or.inr rfl, Or.inr rfl, trivial⟩) (lp12 _ 0 C rfl (by omega) mFr.rf lt_0 lt_0)
  · skip
    refine n_bipush hC (v := (-3)) dX0_end_7 (by decide) ?_
    exact n_iret hC dX0_end_9 (by decide) (by decide) (xOp.mk (M2 := M) (by simp [o_end, c_4]) hR0)

