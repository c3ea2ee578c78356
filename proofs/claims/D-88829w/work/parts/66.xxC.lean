/-! ===== THE CLASS: persons made ===== -/
set_option maxRecDepth 100000
theorem nup_nup (h : nH) (k : Nat) (e f : nV) : nup (nup h k e) k f = nup h k f := by
  funext j
  unfold nup
  split <;> rfl
def perC (C : nMem) (m c : Nat) (r a : Int32) : nMem := mset (mset (mset C 30 (upd (C 30) m (nI c))) 31 (upd (C 31) m r)) 32 (upd (C 32) m a)
section PERS
variable {na : nA} {h : nH} {C : nMem} {B : Nat → nMem} {P : Nat → Nat × Nat} {I : Nat → Nat}
theorem x_setPer {m c : Nat} {r a : Int32} (hm : m < 15) (hc : c ≤ 8) (hc0 : c ≠ 0) : nup (xPut na h (C, B, P, I)) (131 + m) (.inr (c, [.ref (na (bB 0 + 9)), .int (nI m), .int r, .int a])) = xPut na h (perC C m c r a, B, P, I) := by
  have e30 : perC C m c r a 30 = upd (C 30) m (nI c) := rfl
  have e31 : perC C m c r a 31 = upd (C 31) m r := rfl
  have e32 : perC C m c r a 32 = upd (C 32) m a := rfl
  have hn : ∀ k, k < 30 ∨ k = 33 → perC C m c r a k = C k := fun k hk => by
    unfold perC
    rw [mset_n (by omega), mset_n (by omega), mset_n (by omega)]
  rw [show 131 + m = 100 + (31 + m) by omega]
  refine xPut_setC (j := 31 + m) (by omega) ?_ (Or.inr fun i hi _ => (hn i (by omega)).symm) (Or.inr fun p _ => by rw [hn 33 (Or.inr rfl)]) (fun i hi _ _ => (hn i (by omega)).symm) (fun p hp hne => ?_)
  · rw [xOwn_p hm (by
      rw [e30, upd_s]
      intro z
      exact hc0 (nI_inj (by omega) (by decide) z)), e30, e31, e32, upd_s, upd_s, upd_s, nI_clamp (by omega)]
  · rw [e30, e31, e32, upd_n (by omega), upd_n (by omega), upd_n (by omega)]
    exact ⟨rfl, rfl, rfl⟩
theorem x_setPP {m : Nat} {g : Nat → Option Nat} (hm : m < 15) (hg : g = va_up (fun p => if p < 15 ∧ C 33 p ≠ 0 then some (na (131 + p)) else none) m (some (na (131 + m)))) : nup (xPut na h (C, B, P, I)) 100 (.inl (6, 15, .inr (.inr (.inr (.inr g))))) = xPut na h (mset C 33 (upd (C 33) m (nI 1)), B, P, I) := by
  subst hg
  refine xPut_setC (j := 0) (by decide) ?_ (Or.inr fun i hi _ => by rw [mset_n (by omega)]) (Or.inl rfl) (fun i hi _ _ => by rw [mset_n (by omega)]) (fun p _ _ => ⟨by rw [mset_n (by decide)], by rw [mset_n (by decide)], by rw [mset_n (by decide)]⟩)
  rw [xOwn_pe, mset_s]
  congr 8
  funext p
  unfold va_up
  by_cases q : p = m
  · rw [if_pos q, q, upd_s, if_pos ⟨hm, by decide⟩]
  · rw [if_neg q, upd_n q]
end PERS
section NPER
variable {K : nK} {na : nA} {h : nH} {C : nMem} {B : Nat → nMem} {P : Nat → Nat × Nat} {I : Nat → Nat} {cells slots : Nat} {Q : State → Prop} {cc : ByteArray} {nL pc a : Nat} {own Cn : String} {T : u_T} {ty0 : Nat → FieldType} {ret : Option FieldType} {rm : Room} {L : List (Option Value)} {st : List Value}
theorem x_newP (hC : nC K cc nL own ret rm) {m ci index : Nat} (hin : ∀ w ∈ u_ws Cn T 4, w ∈ lw_all) (hty : ∀ k, k < 4 → parseFieldDescriptor (T k).2.2.1 = some (ty0 k)) (h1 : Cond.classLink own index Cn ∈ lw_all) (h2 : Cond.instantiable Cn 4 ∈ lw_all) (h3 : Cond.initialized Cn ∈ lw_all) (hdg : decode cc pc = .ok (.new index, 3)) (hc : nCl[ci]? = some (Cn, T, 4)) (hfs : ∀ j, j < 4 → defaultValue (ty0 j) = vp_V [.null, .int 0, .int 0, .int 0] j) (hm : m < 15) (c30 : C 30 m = 0) (c33 : C 33 m = 0) (hce : cells + 1 ≤ rm.cells) (hsl : slots + 4 ≤ rm.slots)
    (kt : ∀ na1 : nA, (∀ x, x ≠ 131 + m → na1 x = na x) → WN K na1 (nup (xPut na1 h (C, B, P, I)) (131 + m) (.inr (ci, [.null, .int 0, .int 0, .int 0]))) (cells + 1) (slots + 4) Q (pc + 3) L (.ref (na1 (131 + m)) :: st)) : WN K na (xPut na h (C, B, P, I)) cells slots Q pc L st := by
  refine n_new hC (fs := [.null, .int 0, .int 0, .int 0]) hin ty0 hty h1 h2 h3 hdg (131 + m) (by rw [show 131 + m = 100 + (31 + m) by omega, xPut_own (by omega)]; exact xOwn_p0 hm c30) hc hfs hce hsl (fun q => ?_)
  have ho : ∀ x, x ≠ 131 + m → nua na (131 + m) q x = na x := fun x hx => nua_n hx
  have e1 : xPut na h (C, B, P, I) = xPut (nua na (131 + m) q) h (C, B, P, I) := xPut_na (fun k _ h2 => (ho k (by omega)).symm) (fun p hp hc9 => (ho _ (fun z => hc9 (by rw [show p = m by omega]; exact c33))).symm) (fun t ht => (ho _ (by omega)).symm) (ho _ (by unfold bB; omega)).symm (fun j _ _ => (ho _ (by unfold bB; omega)).symm) (fun i _ j _ => (ho _ (by unfold bB; omega)).symm)
  have e4 := kt _ ho
  rw [← e1, nua_s] at e4
  exact e4
theorem x_astP (hC : nC K cc nL own ret rm) {m v k : Nat} {C2 : nMem} (hdg : decode cc pc = .ok (.aastore, 1)) (hk : na 100 = a) (hm : m < 15) (c30 : C 30 m = nI (4 + k)) (hk4 : k ≤ 4) (hv : na (131 + m) = v) (hM : mset C 33 (upd (C 33) m (nI 1)) = C2) (kt : WN K na (xPut na h (C2, B, P, I)) cells slots Q (pc + 1) L st) : WN K na (xPut na h (C, B, P, I)) cells slots Q pc L (.ref v :: .int (nI m) :: .ref a :: st) := by
  subst hM
  subst hv
  have hcl : ∃ rC : vw_C, nCl[4 + k]? = some rC ∧ (rC.1 = RX4 ∨ (rC.1, RX4) ∈ nWC) := by
    rcases (show k = 0 ∨ k = 1 ∨ k = 2 ∨ k = 3 ∨ k = 4 by omega) with rfl | rfl | rfl | rfl | rfl
    · exact ⟨(RX4, TX4, 4), rfl, Or.inl rfl⟩
    · exact ⟨(RX5, TX5, 4), rfl, Or.inr (by decide)⟩
    · exact ⟨(RX6, TX6, 4), rfl, Or.inr (by decide)⟩
    · exact ⟨(RX7, TX7, 4), rfl, Or.inr (by decide)⟩
    · exact ⟨(RX8, TX8, 4), rfl, Or.inr (by decide)⟩
  obtain ⟨rC, hc, hsub⟩ := hcl
  refine n_aast hC 6 (fun _ => rfl) hdg hk (kk := 100) (f := fun p => if p < 15 ∧ C 33 p ≠ 0 then some (na (131 + p)) else none) (n := 15) (by rw [show (100 : Nat) = 100 + 0 from rfl, xPut_own (by decide)]; rfl) rfl (xPut_p (X := (C, B, P, I)) hm c30 hk4) hc hsub (vp_in_nI hm (by decide)) ?_
  rw [nI_clamp (by omega), x_setPP hm rfl]
  exact kt
end NPER
set_option maxHeartbeats 4000000 in
set_option maxRecDepth 100000 in
theorem ct_X4_init_0 (na : nA) (h : nH) {kk : Nat} (t : Nat) (a b c : Int32) : nM yX4_init cX4_init 5 (none) (nRm 0 0 0) [.ref (na kk), .ref t, .int a, .int b, .int c] na (nup h kk (.inr (4, [.null, .int 0, .int 0, .int 0]))) (nQv (fun na' h' => na = na' ∧ nup h kk (.inr (4, [.ref t, .int a, .int b, .int c])) = h')) 0 0 := by
  refine nM.ofN RX4 rfl (by decide) (by intro v hv; simp only [List.mem_cons, List.not_mem_nil, or_false] at hv; rcases hv with rfl | rfl | rfl | rfl | rfl <;> rfl) (Nat.le_of_ble_eq_true rfl) (fun K hC hnm => ?_)
  show WN K na (nup h kk (.inr (4, [.null, .int 0, .int 0, .int 0]))) 0 0 (nE K (nQv (fun na' h' => na = na' ∧ nup h kk (.inr (4, [.ref t, .int a, .int b, .int c])) = h')) 0 0) 0 [some (.ref (na kk)), some (.ref t), some (.int a), some (.int b), some (.int c)] []
  let Q9 : State → Prop := nE K (nQv (fun na' h' => na = na' ∧ nup h kk (.inr (4, [.ref t, .int a, .int b, .int c])) = h')) 0 0
  show WN K na (nup h kk (.inr (4, [.null, .int 0, .int 0, .int 0]))) 0 0 Q9 0 [some (.ref (na kk)), some (.ref t), some (.int a), some (.int b), some (.int c)] []
  refine n_aload_n hC dX4_init_0 rfl ?_
  refine n_objInit (kk := 0) (e9 := .inr (0, [])) hC q254 q113 q114 dX4_init_1 rfl (by decide) (by decide) (by decide) ?_
  refine n_aload_n hC dX4_init_4 rfl ?_
  refine n_aload_n hC dX4_init_5 rfl ?_
  refine n_putF hC in_X4 tyX4 tyX4_ok nmX4 0 q255 dX4_init_6 (kk := kk) rfl (nup_s _ _ _) rfl (by decide) rfl rfl hnm rfl rfl rfl rfl (by show 0 < 4; decide) ?_
  rw [nup_nup]
  show WN K na (nup h kk (.inr (4, [.ref t, .int 0, .int 0, .int 0]))) _ _ _ _ _ _
  refine n_aload_n hC dX4_init_9 rfl ?_
  refine n_iload_n hC dX4_init_10 rfl ?_
  refine n_putF hC in_X4 tyX4 tyX4_ok nmX4 1 q264 dX4_init_11 (kk := kk) rfl (nup_s _ _ _) rfl (by decide) rfl rfl hnm rfl rfl rfl rfl (by show 1 < 4; decide) ?_
  rw [nup_nup]
  show WN K na (nup h kk (.inr (4, [.ref t, .int a, .int 0, .int 0]))) _ _ _ _ _ _
  refine n_aload_n hC dX4_init_14 rfl ?_
  refine n_iload_n hC dX4_init_15 rfl ?_
  refine n_putF hC in_X4 tyX4 tyX4_ok nmX4 2 q265 dX4_init_16 (kk := kk) rfl (nup_s _ _ _) rfl (by decide) rfl rfl hnm rfl rfl rfl rfl (by show 2 < 4; decide) ?_
  rw [nup_nup]
  show WN K na (nup h kk (.inr (4, [.ref t, .int a, .int b, .int 0]))) _ _ _ _ _ _
  refine n_aload_n hC dX4_init_19 rfl ?_
  refine n_iload hC dX4_init_20 rfl ?_
  refine n_putF hC in_X4 tyX4 tyX4_ok nmX4 3 q267 dX4_init_22 (kk := kk) rfl (nup_s _ _ _) rfl (by decide) rfl rfl hnm rfl rfl rfl rfl (by show 3 < 4; decide) ?_
  rw [nup_nup]
  show WN K na (nup h kk (.inr (4, [.ref t, .int a, .int b, .int c]))) _ _ _ _ _ _
  exact n_vret hC dX4_init_25 (by decide) (by decide) (⟨rfl, rfl⟩)

set_option maxHeartbeats 4000000 in
set_option maxRecDepth 100000 in
theorem ct_X4_init_1 (na : nA) (h : nH) {kk : Nat} (t : Nat) (a b c : Int32) : nM yX4_init cX4_init 5 (none) (nRm 0 0 0) [.ref (na kk), .ref t, .int a, .int b, .int c] na (nup h kk (.inr (5, [.null, .int 0, .int 0, .int 0]))) (nQv (fun na' h' => na = na' ∧ nup h kk (.inr (5, [.ref t, .int a, .int b, .int c])) = h')) 0 0 := by
  refine nM.ofN RX4 rfl (by decide) (by intro v hv; simp only [List.mem_cons, List.not_mem_nil, or_false] at hv; rcases hv with rfl | rfl | rfl | rfl | rfl <;> rfl) (Nat.le_of_ble_eq_true rfl) (fun K hC hnm => ?_)
  show WN K na (nup h kk (.inr (5, [.null, .int 0, .int 0, .int 0]))) 0 0 (nE K (nQv (fun na' h' => na = na' ∧ nup h kk (.inr (5, [.ref t, .int a, .int b, .int c])) = h')) 0 0) 0 [some (.ref (na kk)), some (.ref t), some (.int a), some (.int b), some (.int c)] []
  let Q9 : State → Prop := nE K (nQv (fun na' h' => na = na' ∧ nup h kk (.inr (5, [.ref t, .int a, .int b, .int c])) = h')) 0 0
  show WN K na (nup h kk (.inr (5, [.null, .int 0, .int 0, .int 0]))) 0 0 Q9 0 [some (.ref (na kk)), some (.ref t), some (.int a), some (.int b), some (.int c)] []
  refine n_aload_n hC dX4_init_0 rfl ?_
  refine n_objInit (kk := 0) (e9 := .inr (0, [])) hC q254 q113 q114 dX4_init_1 rfl (by decide) (by decide) (by decide) ?_
  refine n_aload_n hC dX4_init_4 rfl ?_
  refine n_aload_n hC dX4_init_5 rfl ?_
  refine n_putF hC in_X5 tyX5 tyX5_ok nmX5 0 q255 dX4_init_6 (kk := kk) rfl (nup_s _ _ _) rfl (by decide) rfl rfl hnm rfl rfl rfl rfl (by show 0 < 4; decide) ?_
  rw [nup_nup]
  show WN K na (nup h kk (.inr (5, [.ref t, .int 0, .int 0, .int 0]))) _ _ _ _ _ _
  refine n_aload_n hC dX4_init_9 rfl ?_
  refine n_iload_n hC dX4_init_10 rfl ?_
  refine n_putF hC in_X5 tyX5 tyX5_ok nmX5 1 q264 dX4_init_11 (kk := kk) rfl (nup_s _ _ _) rfl (by decide) rfl rfl hnm rfl rfl rfl rfl (by show 1 < 4; decide) ?_
  rw [nup_nup]
  show WN K na (nup h kk (.inr (5, [.ref t, .int a, .int 0, .int 0]))) _ _ _ _ _ _
  refine n_aload_n hC dX4_init_14 rfl ?_
  refine n_iload_n hC dX4_init_15 rfl ?_
  refine n_putF hC in_X5 tyX5 tyX5_ok nmX5 2 q265 dX4_init_16 (kk := kk) rfl (nup_s _ _ _) rfl (by decide) rfl rfl hnm rfl rfl rfl rfl (by show 2 < 4; decide) ?_
  rw [nup_nup]
  show WN K na (nup h kk (.inr (5, [.ref t, .int a, .int b, .int 0]))) _ _ _ _ _ _
  refine n_aload_n hC dX4_init_19 rfl ?_
  refine n_iload hC dX4_init_20 rfl ?_
  refine n_putF hC in_X5 tyX5 tyX5_ok nmX5 3 q267 dX4_init_22 (kk := kk) rfl (nup_s _ _ _) rfl (by decide) rfl rfl hnm rfl rfl rfl rfl (by show 3 < 4; decide) ?_
  rw [nup_nup]
  show WN K na (nup h kk (.inr (5, [.ref t, .int a, .int b, .int c]))) _ _ _ _ _ _
  exact n_vret hC dX4_init_25 (by decide) (by decide) (⟨rfl, rfl⟩)

set_option maxHeartbeats 4000000 in
set_option maxRecDepth 100000 in
theorem ct_X4_init_2 (na : nA) (h : nH) {kk : Nat} (t : Nat) (a b c : Int32) : nM yX4_init cX4_init 5 (none) (nRm 0 0 0) [.ref (na kk), .ref t, .int a, .int b, .int c] na (nup h kk (.inr (6, [.null, .int 0, .int 0, .int 0]))) (nQv (fun na' h' => na = na' ∧ nup h kk (.inr (6, [.ref t, .int a, .int b, .int c])) = h')) 0 0 := by
  refine nM.ofN RX4 rfl (by decide) (by intro v hv; simp only [List.mem_cons, List.not_mem_nil, or_false] at hv; rcases hv with rfl | rfl | rfl | rfl | rfl <;> rfl) (Nat.le_of_ble_eq_true rfl) (fun K hC hnm => ?_)
  show WN K na (nup h kk (.inr (6, [.null, .int 0, .int 0, .int 0]))) 0 0 (nE K (nQv (fun na' h' => na = na' ∧ nup h kk (.inr (6, [.ref t, .int a, .int b, .int c])) = h')) 0 0) 0 [some (.ref (na kk)), some (.ref t), some (.int a), some (.int b), some (.int c)] []
  let Q9 : State → Prop := nE K (nQv (fun na' h' => na = na' ∧ nup h kk (.inr (6, [.ref t, .int a, .int b, .int c])) = h')) 0 0
  show WN K na (nup h kk (.inr (6, [.null, .int 0, .int 0, .int 0]))) 0 0 Q9 0 [some (.ref (na kk)), some (.ref t), some (.int a), some (.int b), some (.int c)] []
  refine n_aload_n hC dX4_init_0 rfl ?_
  refine n_objInit (kk := 0) (e9 := .inr (0, [])) hC q254 q113 q114 dX4_init_1 rfl (by decide) (by decide) (by decide) ?_
  refine n_aload_n hC dX4_init_4 rfl ?_
  refine n_aload_n hC dX4_init_5 rfl ?_
  refine n_putF hC in_X6 tyX6 tyX6_ok nmX6 0 q255 dX4_init_6 (kk := kk) rfl (nup_s _ _ _) rfl (by decide) rfl rfl hnm rfl rfl rfl rfl (by show 0 < 4; decide) ?_
  rw [nup_nup]
  show WN K na (nup h kk (.inr (6, [.ref t, .int 0, .int 0, .int 0]))) _ _ _ _ _ _
  refine n_aload_n hC dX4_init_9 rfl ?_
  refine n_iload_n hC dX4_init_10 rfl ?_
  refine n_putF hC in_X6 tyX6 tyX6_ok nmX6 1 q264 dX4_init_11 (kk := kk) rfl (nup_s _ _ _) rfl (by decide) rfl rfl hnm rfl rfl rfl rfl (by show 1 < 4; decide) ?_
  rw [nup_nup]
  show WN K na (nup h kk (.inr (6, [.ref t, .int a, .int 0, .int 0]))) _ _ _ _ _ _
  refine n_aload_n hC dX4_init_14 rfl ?_
  refine n_iload_n hC dX4_init_15 rfl ?_
  refine n_putF hC in_X6 tyX6 tyX6_ok nmX6 2 q265 dX4_init_16 (kk := kk) rfl (nup_s _ _ _) rfl (by decide) rfl rfl hnm rfl rfl rfl rfl (by show 2 < 4; decide) ?_
  rw [nup_nup]
  show WN K na (nup h kk (.inr (6, [.ref t, .int a, .int b, .int 0]))) _ _ _ _ _ _
  refine n_aload_n hC dX4_init_19 rfl ?_
  refine n_iload hC dX4_init_20 rfl ?_
  refine n_putF hC in_X6 tyX6 tyX6_ok nmX6 3 q267 dX4_init_22 (kk := kk) rfl (nup_s _ _ _) rfl (by decide) rfl rfl hnm rfl rfl rfl rfl (by show 3 < 4; decide) ?_
  rw [nup_nup]
  show WN K na (nup h kk (.inr (6, [.ref t, .int a, .int b, .int c]))) _ _ _ _ _ _
  exact n_vret hC dX4_init_25 (by decide) (by decide) (⟨rfl, rfl⟩)

set_option maxHeartbeats 4000000 in
set_option maxRecDepth 100000 in
theorem ct_X4_init_3 (na : nA) (h : nH) {kk : Nat} (t : Nat) (a b c : Int32) : nM yX4_init cX4_init 5 (none) (nRm 0 0 0) [.ref (na kk), .ref t, .int a, .int b, .int c] na (nup h kk (.inr (7, [.null, .int 0, .int 0, .int 0]))) (nQv (fun na' h' => na = na' ∧ nup h kk (.inr (7, [.ref t, .int a, .int b, .int c])) = h')) 0 0 := by
  refine nM.ofN RX4 rfl (by decide) (by intro v hv; simp only [List.mem_cons, List.not_mem_nil, or_false] at hv; rcases hv with rfl | rfl | rfl | rfl | rfl <;> rfl) (Nat.le_of_ble_eq_true rfl) (fun K hC hnm => ?_)
  show WN K na (nup h kk (.inr (7, [.null, .int 0, .int 0, .int 0]))) 0 0 (nE K (nQv (fun na' h' => na = na' ∧ nup h kk (.inr (7, [.ref t, .int a, .int b, .int c])) = h')) 0 0) 0 [some (.ref (na kk)), some (.ref t), some (.int a), some (.int b), some (.int c)] []
  let Q9 : State → Prop := nE K (nQv (fun na' h' => na = na' ∧ nup h kk (.inr (7, [.ref t, .int a, .int b, .int c])) = h')) 0 0
  show WN K na (nup h kk (.inr (7, [.null, .int 0, .int 0, .int 0]))) 0 0 Q9 0 [some (.ref (na kk)), some (.ref t), some (.int a), some (.int b), some (.int c)] []
  refine n_aload_n hC dX4_init_0 rfl ?_
  refine n_objInit (kk := 0) (e9 := .inr (0, [])) hC q254 q113 q114 dX4_init_1 rfl (by decide) (by decide) (by decide) ?_
  refine n_aload_n hC dX4_init_4 rfl ?_
  refine n_aload_n hC dX4_init_5 rfl ?_
  refine n_putF hC in_X7 tyX7 tyX7_ok nmX7 0 q255 dX4_init_6 (kk := kk) rfl (nup_s _ _ _) rfl (by decide) rfl rfl hnm rfl rfl rfl rfl (by show 0 < 4; decide) ?_
  rw [nup_nup]
  show WN K na (nup h kk (.inr (7, [.ref t, .int 0, .int 0, .int 0]))) _ _ _ _ _ _
  refine n_aload_n hC dX4_init_9 rfl ?_
  refine n_iload_n hC dX4_init_10 rfl ?_
  refine n_putF hC in_X7 tyX7 tyX7_ok nmX7 1 q264 dX4_init_11 (kk := kk) rfl (nup_s _ _ _) rfl (by decide) rfl rfl hnm rfl rfl rfl rfl (by show 1 < 4; decide) ?_
  rw [nup_nup]
  show WN K na (nup h kk (.inr (7, [.ref t, .int a, .int 0, .int 0]))) _ _ _ _ _ _
  refine n_aload_n hC dX4_init_14 rfl ?_
  refine n_iload_n hC dX4_init_15 rfl ?_
  refine n_putF hC in_X7 tyX7 tyX7_ok nmX7 2 q265 dX4_init_16 (kk := kk) rfl (nup_s _ _ _) rfl (by decide) rfl rfl hnm rfl rfl rfl rfl (by show 2 < 4; decide) ?_
  rw [nup_nup]
  show WN K na (nup h kk (.inr (7, [.ref t, .int a, .int b, .int 0]))) _ _ _ _ _ _
  refine n_aload_n hC dX4_init_19 rfl ?_
  refine n_iload hC dX4_init_20 rfl ?_
  refine n_putF hC in_X7 tyX7 tyX7_ok nmX7 3 q267 dX4_init_22 (kk := kk) rfl (nup_s _ _ _) rfl (by decide) rfl rfl hnm rfl rfl rfl rfl (by show 3 < 4; decide) ?_
  rw [nup_nup]
  show WN K na (nup h kk (.inr (7, [.ref t, .int a, .int b, .int c]))) _ _ _ _ _ _
  exact n_vret hC dX4_init_25 (by decide) (by decide) (⟨rfl, rfl⟩)

set_option maxHeartbeats 4000000 in
set_option maxRecDepth 100000 in
theorem ct_X4_init_4 (na : nA) (h : nH) {kk : Nat} (t : Nat) (a b c : Int32) : nM yX4_init cX4_init 5 (none) (nRm 0 0 0) [.ref (na kk), .ref t, .int a, .int b, .int c] na (nup h kk (.inr (8, [.null, .int 0, .int 0, .int 0]))) (nQv (fun na' h' => na = na' ∧ nup h kk (.inr (8, [.ref t, .int a, .int b, .int c])) = h')) 0 0 := by
  refine nM.ofN RX4 rfl (by decide) (by intro v hv; simp only [List.mem_cons, List.not_mem_nil, or_false] at hv; rcases hv with rfl | rfl | rfl | rfl | rfl <;> rfl) (Nat.le_of_ble_eq_true rfl) (fun K hC hnm => ?_)
  show WN K na (nup h kk (.inr (8, [.null, .int 0, .int 0, .int 0]))) 0 0 (nE K (nQv (fun na' h' => na = na' ∧ nup h kk (.inr (8, [.ref t, .int a, .int b, .int c])) = h')) 0 0) 0 [some (.ref (na kk)), some (.ref t), some (.int a), some (.int b), some (.int c)] []
  let Q9 : State → Prop := nE K (nQv (fun na' h' => na = na' ∧ nup h kk (.inr (8, [.ref t, .int a, .int b, .int c])) = h')) 0 0
  show WN K na (nup h kk (.inr (8, [.null, .int 0, .int 0, .int 0]))) 0 0 Q9 0 [some (.ref (na kk)), some (.ref t), some (.int a), some (.int b), some (.int c)] []
  refine n_aload_n hC dX4_init_0 rfl ?_
  refine n_objInit (kk := 0) (e9 := .inr (0, [])) hC q254 q113 q114 dX4_init_1 rfl (by decide) (by decide) (by decide) ?_
  refine n_aload_n hC dX4_init_4 rfl ?_
  refine n_aload_n hC dX4_init_5 rfl ?_
  refine n_putF hC in_X8 tyX8 tyX8_ok nmX8 0 q255 dX4_init_6 (kk := kk) rfl (nup_s _ _ _) rfl (by decide) rfl rfl hnm rfl rfl rfl rfl (by show 0 < 4; decide) ?_
  rw [nup_nup]
  show WN K na (nup h kk (.inr (8, [.ref t, .int 0, .int 0, .int 0]))) _ _ _ _ _ _
  refine n_aload_n hC dX4_init_9 rfl ?_
  refine n_iload_n hC dX4_init_10 rfl ?_
  refine n_putF hC in_X8 tyX8 tyX8_ok nmX8 1 q264 dX4_init_11 (kk := kk) rfl (nup_s _ _ _) rfl (by decide) rfl rfl hnm rfl rfl rfl rfl (by show 1 < 4; decide) ?_
  rw [nup_nup]
  show WN K na (nup h kk (.inr (8, [.ref t, .int a, .int 0, .int 0]))) _ _ _ _ _ _
  refine n_aload_n hC dX4_init_14 rfl ?_
  refine n_iload_n hC dX4_init_15 rfl ?_
  refine n_putF hC in_X8 tyX8 tyX8_ok nmX8 2 q265 dX4_init_16 (kk := kk) rfl (nup_s _ _ _) rfl (by decide) rfl rfl hnm rfl rfl rfl rfl (by show 2 < 4; decide) ?_
  rw [nup_nup]
  show WN K na (nup h kk (.inr (8, [.ref t, .int a, .int b, .int 0]))) _ _ _ _ _ _
  refine n_aload_n hC dX4_init_19 rfl ?_
  refine n_iload hC dX4_init_20 rfl ?_
  refine n_putF hC in_X8 tyX8 tyX8_ok nmX8 3 q267 dX4_init_22 (kk := kk) rfl (nup_s _ _ _) rfl (by decide) rfl rfl hnm rfl rfl rfl rfl (by show 3 < 4; decide) ?_
  rw [nup_nup]
  show WN K na (nup h kk (.inr (8, [.ref t, .int a, .int b, .int c]))) _ _ _ _ _ _
  exact n_vret hC dX4_init_25 (by decide) (by decide) (⟨rfl, rfl⟩)

set_option maxHeartbeats 4000000 in
set_option maxRecDepth 100000 in
theorem ct_X5_init_1 (na : nA) (h : nH) {kk : Nat} (t : Nat) (a b c : Int32) : nM yX5_init cX5_init 5 (none) (nRm 1 0 0) [.ref (na kk), .ref t, .int a, .int b, .int c] na (nup h kk (.inr (5, [.null, .int 0, .int 0, .int 0]))) (nQv (fun na' h' => na = na' ∧ nup h kk (.inr (5, [.ref t, .int a, .int b, .int c])) = h')) 0 0 := by
  refine nM.ofN RX5 rfl (by decide) (by intro v hv; simp only [List.mem_cons, List.not_mem_nil, or_false] at hv; rcases hv with rfl | rfl | rfl | rfl | rfl <;> rfl) (Nat.le_of_ble_eq_true rfl) (fun K hC hnm => ?_)
  show WN K na (nup h kk (.inr (5, [.null, .int 0, .int 0, .int 0]))) 0 0 (nE K (nQv (fun na' h' => na = na' ∧ nup h kk (.inr (5, [.ref t, .int a, .int b, .int c])) = h')) 0 0) 0 [some (.ref (na kk)), some (.ref t), some (.int a), some (.int b), some (.int c)] []
  let Q9 : State → Prop := nE K (nQv (fun na' h' => na = na' ∧ nup h kk (.inr (5, [.ref t, .int a, .int b, .int c])) = h')) 0 0
  show WN K na (nup h kk (.inr (5, [.null, .int 0, .int 0, .int 0]))) 0 0 Q9 0 [some (.ref (na kk)), some (.ref t), some (.int a), some (.int b), some (.int c)] []
  refine n_aload_n hC dX5_init_0 rfl ?_
  refine n_aload_n hC dX5_init_1 rfl ?_
  refine n_iload_n hC dX5_init_2 rfl ?_
  refine n_iload_n hC dX5_init_3 rfl ?_
  refine n_iload hC dX5_init_4 rfl ?_
  refine n_callI4v hC (ct_X4_init_1 na h (kk := kk) t a b c) mi_X4_init q283 dX5_init_6 ⟨rfl, rfl, by decide, by decide⟩ rfl (Nat.le_of_ble_eq_true rfl) (by decide) (by decide) (fun na0 h0 hp0 => ?_)
  obtain ⟨rfl, rfl⟩ := hp0
  exact n_vret hC dX5_init_9 (by decide) (by decide) (⟨rfl, rfl⟩)

set_option maxHeartbeats 4000000 in
set_option maxRecDepth 100000 in
theorem ct_X6_init_2 (na : nA) (h : nH) {kk : Nat} (t : Nat) (a b c : Int32) : nM yX6_init cX6_init 5 (none) (nRm 1 0 0) [.ref (na kk), .ref t, .int a, .int b, .int c] na (nup h kk (.inr (6, [.null, .int 0, .int 0, .int 0]))) (nQv (fun na' h' => na = na' ∧ nup h kk (.inr (6, [.ref t, .int a, .int b, .int c])) = h')) 0 0 := by
  refine nM.ofN RX6 rfl (by decide) (by intro v hv; simp only [List.mem_cons, List.not_mem_nil, or_false] at hv; rcases hv with rfl | rfl | rfl | rfl | rfl <;> rfl) (Nat.le_of_ble_eq_true rfl) (fun K hC hnm => ?_)
  show WN K na (nup h kk (.inr (6, [.null, .int 0, .int 0, .int 0]))) 0 0 (nE K (nQv (fun na' h' => na = na' ∧ nup h kk (.inr (6, [.ref t, .int a, .int b, .int c])) = h')) 0 0) 0 [some (.ref (na kk)), some (.ref t), some (.int a), some (.int b), some (.int c)] []
  let Q9 : State → Prop := nE K (nQv (fun na' h' => na = na' ∧ nup h kk (.inr (6, [.ref t, .int a, .int b, .int c])) = h')) 0 0
  show WN K na (nup h kk (.inr (6, [.null, .int 0, .int 0, .int 0]))) 0 0 Q9 0 [some (.ref (na kk)), some (.ref t), some (.int a), some (.int b), some (.int c)] []
  refine n_aload_n hC dX6_init_0 rfl ?_
  refine n_aload_n hC dX6_init_1 rfl ?_
  refine n_iload_n hC dX6_init_2 rfl ?_
  refine n_iload_n hC dX6_init_3 rfl ?_
  refine n_iload hC dX6_init_4 rfl ?_
  refine n_callI4v hC (ct_X4_init_2 na h (kk := kk) t a b c) mi_X4_init q294 dX6_init_6 ⟨rfl, rfl, by decide, by decide⟩ rfl (Nat.le_of_ble_eq_true rfl) (by decide) (by decide) (fun na0 h0 hp0 => ?_)
  obtain ⟨rfl, rfl⟩ := hp0
  exact n_vret hC dX6_init_9 (by decide) (by decide) (⟨rfl, rfl⟩)

set_option maxHeartbeats 4000000 in
set_option maxRecDepth 100000 in
theorem ct_X6_init_3 (na : nA) (h : nH) {kk : Nat} (t : Nat) (a b c : Int32) : nM yX6_init cX6_init 5 (none) (nRm 1 0 0) [.ref (na kk), .ref t, .int a, .int b, .int c] na (nup h kk (.inr (7, [.null, .int 0, .int 0, .int 0]))) (nQv (fun na' h' => na = na' ∧ nup h kk (.inr (7, [.ref t, .int a, .int b, .int c])) = h')) 0 0 := by
  refine nM.ofN RX6 rfl (by decide) (by intro v hv; simp only [List.mem_cons, List.not_mem_nil, or_false] at hv; rcases hv with rfl | rfl | rfl | rfl | rfl <;> rfl) (Nat.le_of_ble_eq_true rfl) (fun K hC hnm => ?_)
  show WN K na (nup h kk (.inr (7, [.null, .int 0, .int 0, .int 0]))) 0 0 (nE K (nQv (fun na' h' => na = na' ∧ nup h kk (.inr (7, [.ref t, .int a, .int b, .int c])) = h')) 0 0) 0 [some (.ref (na kk)), some (.ref t), some (.int a), some (.int b), some (.int c)] []
  let Q9 : State → Prop := nE K (nQv (fun na' h' => na = na' ∧ nup h kk (.inr (7, [.ref t, .int a, .int b, .int c])) = h')) 0 0
  show WN K na (nup h kk (.inr (7, [.null, .int 0, .int 0, .int 0]))) 0 0 Q9 0 [some (.ref (na kk)), some (.ref t), some (.int a), some (.int b), some (.int c)] []
  refine n_aload_n hC dX6_init_0 rfl ?_
  refine n_aload_n hC dX6_init_1 rfl ?_
  refine n_iload_n hC dX6_init_2 rfl ?_
  refine n_iload_n hC dX6_init_3 rfl ?_
  refine n_iload hC dX6_init_4 rfl ?_
  refine n_callI4v hC (ct_X4_init_3 na h (kk := kk) t a b c) mi_X4_init q294 dX6_init_6 ⟨rfl, rfl, by decide, by decide⟩ rfl (Nat.le_of_ble_eq_true rfl) (by decide) (by decide) (fun na0 h0 hp0 => ?_)
  obtain ⟨rfl, rfl⟩ := hp0
  exact n_vret hC dX6_init_9 (by decide) (by decide) (⟨rfl, rfl⟩)

set_option maxHeartbeats 4000000 in
set_option maxRecDepth 100000 in
theorem ct_X7_init_3 (na : nA) (h : nH) {kk : Nat} (t : Nat) (a b c : Int32) : nM yX7_init cX7_init 5 (none) (nRm 2 0 0) [.ref (na kk), .ref t, .int a, .int b, .int c] na (nup h kk (.inr (7, [.null, .int 0, .int 0, .int 0]))) (nQv (fun na' h' => na = na' ∧ nup h kk (.inr (7, [.ref t, .int a, .int b, .int c])) = h')) 0 0 := by
  refine nM.ofN RX7 rfl (by decide) (by intro v hv; simp only [List.mem_cons, List.not_mem_nil, or_false] at hv; rcases hv with rfl | rfl | rfl | rfl | rfl <;> rfl) (Nat.le_of_ble_eq_true rfl) (fun K hC hnm => ?_)
  show WN K na (nup h kk (.inr (7, [.null, .int 0, .int 0, .int 0]))) 0 0 (nE K (nQv (fun na' h' => na = na' ∧ nup h kk (.inr (7, [.ref t, .int a, .int b, .int c])) = h')) 0 0) 0 [some (.ref (na kk)), some (.ref t), some (.int a), some (.int b), some (.int c)] []
  let Q9 : State → Prop := nE K (nQv (fun na' h' => na = na' ∧ nup h kk (.inr (7, [.ref t, .int a, .int b, .int c])) = h')) 0 0
  show WN K na (nup h kk (.inr (7, [.null, .int 0, .int 0, .int 0]))) 0 0 Q9 0 [some (.ref (na kk)), some (.ref t), some (.int a), some (.int b), some (.int c)] []
  refine n_aload_n hC dX7_init_0 rfl ?_
  refine n_aload_n hC dX7_init_1 rfl ?_
  refine n_iload_n hC dX7_init_2 rfl ?_
  refine n_iload_n hC dX7_init_3 rfl ?_
  refine n_iload hC dX7_init_4 rfl ?_
  refine n_callI4v hC (ct_X6_init_3 na h (kk := kk) t a b c) mi_X6_init q305 dX7_init_6 ⟨rfl, rfl, by decide, by decide⟩ rfl (Nat.le_of_ble_eq_true rfl) (by decide) (by decide) (fun na0 h0 hp0 => ?_)
  obtain ⟨rfl, rfl⟩ := hp0
  exact n_vret hC dX7_init_9 (by decide) (by decide) (⟨rfl, rfl⟩)

set_option maxHeartbeats 4000000 in
set_option maxRecDepth 100000 in
theorem ct_X8_init_4 (na : nA) (h : nH) {kk : Nat} (t : Nat) (a b c : Int32) : nM yX8_init cX8_init 5 (none) (nRm 1 0 0) [.ref (na kk), .ref t, .int a, .int b, .int c] na (nup h kk (.inr (8, [.null, .int 0, .int 0, .int 0]))) (nQv (fun na' h' => na = na' ∧ nup h kk (.inr (8, [.ref t, .int a, .int b, .int c])) = h')) 0 0 := by
  refine nM.ofN RX8 rfl (by decide) (by intro v hv; simp only [List.mem_cons, List.not_mem_nil, or_false] at hv; rcases hv with rfl | rfl | rfl | rfl | rfl <;> rfl) (Nat.le_of_ble_eq_true rfl) (fun K hC hnm => ?_)
  show WN K na (nup h kk (.inr (8, [.null, .int 0, .int 0, .int 0]))) 0 0 (nE K (nQv (fun na' h' => na = na' ∧ nup h kk (.inr (8, [.ref t, .int a, .int b, .int c])) = h')) 0 0) 0 [some (.ref (na kk)), some (.ref t), some (.int a), some (.int b), some (.int c)] []
  let Q9 : State → Prop := nE K (nQv (fun na' h' => na = na' ∧ nup h kk (.inr (8, [.ref t, .int a, .int b, .int c])) = h')) 0 0
  show WN K na (nup h kk (.inr (8, [.null, .int 0, .int 0, .int 0]))) 0 0 Q9 0 [some (.ref (na kk)), some (.ref t), some (.int a), some (.int b), some (.int c)] []
  refine n_aload_n hC dX8_init_0 rfl ?_
  refine n_aload_n hC dX8_init_1 rfl ?_
  refine n_iload_n hC dX8_init_2 rfl ?_
  refine n_iload_n hC dX8_init_3 rfl ?_
  refine n_iload hC dX8_init_4 rfl ?_
  refine n_callI4v hC (ct_X4_init_4 na h (kk := kk) t a b c) mi_X4_init q316 dX8_init_6 ⟨rfl, rfl, by decide, by decide⟩ rfl (Nat.le_of_ble_eq_true rfl) (by decide) (by decide) (fun na0 h0 hp0 => ?_)
  obtain ⟨rfl, rfl⟩ := hp0
  exact n_vret hC dX8_init_9 (by decide) (by decide) (⟨rfl, rfl⟩)

