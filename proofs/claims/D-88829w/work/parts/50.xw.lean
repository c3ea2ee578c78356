/-! ===== THE CLASS's WORLD: the object, what is its own (names 100 .. 199), and blocks (from 200 on, 220 names each) ===== -/
set_option maxRecDepth 100000
/-- what is its own, the blocks' contents, their codes, indices -/
abbrev xX : Type := nMem × (Nat → nMem) × (Nat → Nat × Nat) × (Nat → Nat)
def bB (i : Nat) : Nat := 200 + 220 * i
def shX10 : gS := (10, 4, fun j => [0, 1, 0, 0].getD j 0, fun _ => 300, false)
def shX14 (n : Nat) : gS := (14, 4, fun j => [0, 1, 1, 1].getD j 0, fun j => if j = 3 then n else fct n, false)
theorem gL_X10 (i : Nat) : gL shX10 i ≤ 5040 := by unfold gL; split; exact (by decide : 300 ≤ 5040); decide
theorem gW_X10 : gW shX10 RX10 TX10 tyX10 := ⟨rfl, in_X10, by decide, tyX10_ok, nmX10, by decide, gL_X10⟩
theorem gI_X10_1 : gI shX10 1 := ⟨by decide, by decide, Or.inl rfl⟩
theorem gL_X14 {n : Nat} (hn : n ≤ 7) (i : Nat) : gL (shX14 n) i ≤ 5040 := by
  have h1 := fct_le hn
  unfold gL
  split
  · show (if i = 3 then n else fct n) ≤ 5040
    split <;> omega
  · decide
theorem gW_X14 {n : Nat} (hn : n ≤ 7) : gW (shX14 n) RX14 TX14 tyX14 := ⟨rfl, in_X14, (by decide : ∀ j, j < 4 → (TX14 j).1 = RX14), tyX14_ok, nmX14, (by decide : 4 ≤ 9), gL_X14 hn⟩
theorem gI_X14_1 (n : Nat) : gI (shX14 n) 1 := ⟨by decide, by decide, Or.inl rfl⟩
theorem gI_X14_2 (n : Nat) : gI (shX14 n) 2 := ⟨by decide, by decide, Or.inl rfl⟩
theorem gI_X14_3 (n : Nat) : gI (shX14 n) 3 := ⟨by decide, by decide, Or.inl rfl⟩
/-- a block's shape by its code: 1 trace, 2 round, 3 figure, 4 form, 5 orders; 6 .. 10: a tape's row of sort 0 .. 4 -/
def shOf (c : Nat × Nat) : gS := if c.1 = 1 then shX1 else if c.1 = 2 then shX9 else if c.1 = 3 then shX12 else if c.1 = 4 then shX10 else shX14 c.2
def tkd (s : Nat) : Nat := [1, 2, 0, 3, 4].getD s 0
def bCell (c : Nat × Nat) (b : Nat) (na : nA) (R : nMem) (i : Nat) : Option nV :=
  if c.1 = 0 then none else if c.1 < 6 then gCell (shOf c) b na R i else if i = 9 then some (.inl (tkd (c.1 - 6), c.2, .inl (R 0))) else none
/-- the object's fields: 0 a value, 1 an array of its own, 2 a block or nothing, 3 the trace -/
def xK : Nat → Nat := fun j => [1, 0, 0, 1, 1, 1, 0, 2, 2, 1, 1, 1, 0, 1, 0, 1, 0, 3, 1, 1, 1, 1, 1, 0, 1, 1, 2, 1, 1, 0].getD j 4
def xLen : Nat → Nat := fun j => [0, 0, 0, 9, 9, 9, 0, 0, 0, 9, 9, 300, 0, 0, 0, 80, 0, 0, 0, 9, 40, 40, 40, 0, 9, 9, 0, 7, 7, 0].getD j 0
/-- whether it is an array of ints -/
def xIA (j : Nat) : Bool := [false, false, false, true, true, true, false, false, false, true, true, true, false, false, false, false, false, false, false, true, true, true, true, false, true, true, false, true, true, false].getD j false
def xRf (na : nA) (i : Nat) : Option Nat := if i = 0 then none else some (na (bB i + 9))
def xFv (na : nA) (C : nMem) (I : Nat → Nat) (j : Nat) : Value :=
  if xK j = 0 then .int (C j 0) else if xK j = 1 then .ref (na (100 + j)) else if xK j = 2 then va_rf (xRf na (I j)) else .ref (na (bB 0 + 9))
def xfs (na : nA) (C : nMem) (I : Nat → Nat) : List Value := (List.range 30).map (xFv na C I)
/-- C 30 p: the class of person p, 0: none; C 33 p: whether it stands in the row of people -/
def xOwn (na : nA) (C : nMem) (I : Nat → Nat) (i : Nat) : Option nV :=
  if i = 30 then some (.inr (0, xfs na C I))
  else if i = 0 then some (.inl (6, 15, .inr (.inr (.inr (.inr (fun p => if p < 15 ∧ C 33 p ≠ 0 then some (na (131 + p)) else none))))))
  else if i = 13 then some (.inl (7, 10, .inr (.inr (.inr (.inr (fun f => if f < 10 then xRf na (I (100 + f)) else none))))))
  else if i = 18 then some (.inl (8, 6, .inr (.inr (.inr (.inr (fun t => if t < 6 then some (na (146 + t)) else none))))))
  else if i = 15 then some (.inl (1, 80, .inl (C 15)))
  else if xIA i = true then some (.inl (0, xLen i, .inl (C i)))
  else if 31 ≤ i ∧ i < 46 then (if C 30 (i - 31) = 0 then none else some (.inr ((C 30 (i - 31)).toNatClampNeg, [.ref (na (bB 0 + 9)), .int (nI (i - 31)), .int (C 31 (i - 31)), .int (C 32 (i - 31))])))
  else if 46 ≤ i ∧ i < 52 then some (.inr (2, [va_rf (xRf na (I (120 + (i - 46))))]))
  else none
def xPut (na : nA) (h : nH) (X : xX) : nH := fun k =>
  if k < 100 then h k else if k < 200 then xOwn na X.1 X.2.2.2 (k - 100)
  else bCell (X.2.2.1 ((k - 200) / 220)) (bB ((k - 200) / 220)) na (X.2.1 ((k - 200) / 220)) ((k - 200) % 220)
def bset (B : Nat → nMem) (i : Nat) (R : nMem) : Nat → nMem := fun j => if j = i then R else B j
def pset (P : Nat → Nat × Nat) (i : Nat) (c : Nat × Nat) : Nat → Nat × Nat := fun j => if j = i then c else P j
def iset (I : Nat → Nat) (i v : Nat) : Nat → Nat := fun j => if j = i then v else I j
theorem bset_s (B : Nat → nMem) (i : Nat) (R : nMem) : bset B i R i = R := by unfold bset; rw [if_pos rfl]
theorem bset_n {B : Nat → nMem} {i j : Nat} {R : nMem} (h : j ≠ i) : bset B i R j = B j := by unfold bset; rw [if_neg h]
theorem pset_s (P : Nat → Nat × Nat) (i : Nat) (c : Nat × Nat) : pset P i c i = c := by unfold pset; rw [if_pos rfl]
theorem pset_n {P : Nat → Nat × Nat} {i j : Nat} {c : Nat × Nat} (h : j ≠ i) : pset P i c j = P j := by unfold pset; rw [if_neg h]
theorem iset_s (I : Nat → Nat) (i v : Nat) : iset I i v i = v := by unfold iset; rw [if_pos rfl]
theorem iset_n {I : Nat → Nat} {i j v : Nat} (h : j ≠ i) : iset I i v j = I j := by unfold iset; rw [if_neg h]
theorem xPut_lo {na : nA} {h : nH} {X : xX} {k : Nat} (hk : k < 100) : xPut na h X k = h k := by unfold xPut; rw [if_pos hk]
theorem xPut_own {na : nA} {h : nH} {X : xX} {i : Nat} (hi : i < 100) : xPut na h X (100 + i) = xOwn na X.1 X.2.2.2 i := by
  unfold xPut
  rw [if_neg (by omega), if_pos (by omega), Nat.add_sub_cancel_left]
theorem bB_div {i j : Nat} (hj : j < 220) : (bB i + j - 200) / 220 = i ∧ (bB i + j - 200) % 220 = j := by unfold bB; omega
theorem xPut_b {na : nA} {h : nH} {X : xX} {i j : Nat} (hj : j < 220) : xPut na h X (bB i + j) = bCell (X.2.2.1 i) (bB i) na (X.2.1 i) j := by
  obtain ⟨e1, e2⟩ := bB_div (i := i) hj
  have hb : 200 ≤ bB i + j := by unfold bB; omega
  unfold xPut
  rw [if_neg (by omega), if_neg (by omega), e1, e2]
theorem bB_of {k : Nat} (hk : 200 ≤ k) : ∃ i j, k = bB i + j ∧ j < 220 := ⟨(k - 200) / 220, (k - 200) % 220, by unfold bB; omega, Nat.mod_lt _ (by decide)⟩
theorem bB_inj {i j a b : Nat} (ha : a < 220) (hb : b < 220) (h : bB i + a = bB j + b) : i = j ∧ a = b := by unfold bB at h; omega
/-- by regions -/
theorem xPut_at {na na2 : nA} {h : nH} {X X2 : xX} (k : Nat) (h1 : ∀ i, i < 100 → k = 100 + i → xOwn na X.1 X.2.2.2 i = xOwn na2 X2.1 X2.2.2.2 i)
    (h2 : ∀ i j, j < 220 → k = bB i + j → bCell (X.2.2.1 i) (bB i) na (X.2.1 i) j = bCell (X2.2.2.1 i) (bB i) na2 (X2.2.1 i) j) : xPut na h X k = xPut na2 h X2 k := by
  by_cases a : k < 100
  · rw [xPut_lo a, xPut_lo a]
  · by_cases b : k < 200
    · have e : k = 100 + (k - 100) := by omega
      rw [e, xPut_own (by omega), xPut_own (by omega)]
      exact h1 _ (by omega) e
    · obtain ⟨i, j, e, hj⟩ := bB_of (k := k) (by omega)
      subst e
      rw [xPut_b hj, xPut_b hj]
      exact h2 i j hj rfl
/-- X with name k0's cell changed -/
theorem xPut_nup {na : nA} {h : nH} {X X2 : xX} {k0 : Nat} {e : nV} (h0 : xPut na h X2 k0 = some e) (h1 : ∀ k, k ≠ k0 → xPut na h X k = xPut na h X2 k) : nup (xPut na h X) k0 e = xPut na h X2 := by
  funext k
  by_cases q : k = k0
  · rw [q, nup_s, h0]
  · rw [nup_n q]; exact h1 k q
/-! blocks -/
theorem bCell_g {c : Nat × Nat} {b : Nat} {na : nA} {R : nMem} {i : Nat} (hc : c.1 ≠ 0 ∧ c.1 < 6) : bCell c b na R i = gCell (shOf c) b na R i := by
  unfold bCell
  rw [if_neg hc.1, if_pos hc.2]
theorem xBlk {na : nA} {h : nH} {X : xX} {i : Nat} {c : Nat × Nat} (hP : X.2.2.1 i = c) (hc : c.1 ≠ 0 ∧ c.1 < 6) : gPut (shOf c) (bB i) na (xPut na h X) (X.2.1 i) = xPut na h X :=
  (gPut_self fun j hj => by rw [xPut_b hj, hP, bCell_g hc]).symm
theorem xBlk_o {na : nA} {h : nH} {X : xX} {i : Nat} {c : Nat × Nat} (hP : X.2.2.1 i = c) (hc : c.1 ≠ 0 ∧ c.1 < 6) : ∀ j, j < 220 → xPut na h X (bB i + j) = gCell (shOf c) (bB i) na (X.2.1 i) j := fun j hj => by rw [xPut_b hj, hP, bCell_g hc]
theorem xBlk_set {na : nA} {h : nH} {C : nMem} {B : Nat → nMem} {P : Nat → Nat × Nat} {I : Nat → Nat} {i : Nat} {c : Nat × Nat} {R : nMem} (hP : P i = c) (hc : c.1 ≠ 0 ∧ c.1 < 6) : gPut (shOf c) (bB i) na (xPut na h (C, B, P, I)) R = xPut na h (C, bset B i R, P, I) := by
  funext k
  unfold gPut
  by_cases a : bB i ≤ k ∧ k < bB i + 220
  · rw [if_pos a]
    have e : k = bB i + (k - bB i) := by omega
    conv => rhs; rw [e]
    rw [xPut_b (by omega)]
    dsimp only
    rw [hP, bCell_g hc, bset_s]
  · rw [if_neg a]
    refine xPut_at k (fun _ _ _ => rfl) (fun i2 j hj e => ?_)
    dsimp only
    rw [bset_n (fun z => a (by rw [e, z]; omega))]
/-! contracts of blocks, in the class's world -/
section XCALL
variable {y : MethodName} {cc : ByteArray} {nL i : Nat} {ret : Option FieldType} {rm : Room} {args : List Value} {na : nA} {h : nH} {C : nMem} {B : Nat → nMem} {P : Nat → Nat × Nat} {I : Nat → Nat} {c : Nat × Nat} {mc ms : Nat}
theorem xc_pure {v : Int32} (hP : P i = c) (hc : c.1 ≠ 0 ∧ c.1 < 6) (hM : nM y cc nL ret rm args na (gPut (shOf c) (bB i) na (xPut na h (C, B, P, I)) (B i)) (nQi (gPure (shOf c) (bB i) na (xPut na h (C, B, P, I)) (B i) v)) mc ms) :
    nM y cc nL ret rm args na (xPut na h (C, B, P, I)) (nQi (hPure na (xPut na h (C, B, P, I)) v)) mc ms := by
  unfold gPure at hM
  rw [xBlk (X := (C, B, P, I)) hP hc] at hM
  exact hM
/-- block i changed -/
def xRelV (na : nA) (h : nH) (X : xX) (i : Nat) (p : nMem → Prop) : nA → nH → Prop := fun na' h' => na = na' ∧ ∃ R2, xPut na h (X.1, bset X.2.1 i R2, X.2.2.1, X.2.2.2) = h' ∧ p R2
theorem xc_rel {p : nMem → Prop} (hP : P i = c) (hc : c.1 ≠ 0 ∧ c.1 < 6) (hM : nM y cc nL ret rm args na (gPut (shOf c) (bB i) na (xPut na h (C, B, P, I)) (B i)) (nQv (gRelV (shOf c) (bB i) na (xPut na h (C, B, P, I)) p)) mc ms) :
    nM y cc nL ret rm args na (xPut na h (C, B, P, I)) (nQv (xRelV na h (C, B, P, I) i p)) mc ms := by
  have e : gRelV (shOf c) (bB i) na (xPut na h (C, B, P, I)) p = xRelV na h (C, B, P, I) i p := by
    funext na' h'
    unfold gRelV xRelV
    apply propext
    refine and_congr_right fun _ => exists_congr fun R2 => ?_
    rw [xBlk_set hP hc]
  rw [xBlk (X := (C, B, P, I)) hP hc, e] at hM
  exact hM
end XCALL
/-! the object's own cells -/
theorem xfs_len (na : nA) (C : nMem) (I : Nat → Nat) : (xfs na C I).length = 30 := by unfold xfs; rw [List.length_map, List.length_range]
theorem xfs_at {na : nA} {C : nMem} {I : Nat → Nat} {j : Nat} (hj : j < 30) : (xfs na C I)[j]? = some (xFv na C I j) := by
  unfold xfs
  rw [List.getElem?_map, List.getElem?_range hj]
  rfl
theorem xfs_cong {na na2 : nA} {C C2 : nMem} {I I2 : Nat → Nat} (h : ∀ j, j < 30 → xFv na C I j = xFv na2 C2 I2 j) : xfs na C I = xfs na2 C2 I2 := List.map_congr_left fun j hj => h j (List.mem_range.mp hj)
theorem xfs_set {na : nA} {C C2 : nMem} {I I2 : Nat → Nat} {j : Nat} {v : Value} (hj : j < 30) (hv : xFv na C2 I2 j = v) (h : ∀ i, i < 30 → i ≠ j → xFv na C I i = xFv na C2 I2 i) : (xfs na C I).set j v = xfs na C2 I2 := by
  apply List.ext_getElem?
  intro n
  by_cases q : n = j
  · rw [q, List.getElem?_set_self (by rw [xfs_len]; exact hj), xfs_at hj, hv]
  · rw [List.getElem?_set_ne (Ne.symm q)]
    by_cases hn : n < 30
    · rw [xfs_at hn, xfs_at hn, h n hn q]
    · rw [List.getElem?_eq_none (by rw [xfs_len]; omega), List.getElem?_eq_none (by rw [xfs_len]; omega)]
theorem xIA_lt {j : Nat} (h : xIA j = true) : j < 30 := by
  unfold xIA at h
  by_cases q : j < 30
  · exact q
  · rw [List.getD_eq_getElem?_getD, List.getElem?_eq_none (by show 30 ≤ j; omega)] at h
    cases h
theorem xIA_K : ∀ j, j < 30 → xIA j = true → xK j = 1 ∧ j ≠ 0 ∧ j ≠ 13 ∧ j ≠ 15 ∧ j ≠ 18 := by decide
theorem xOwn_o {na : nA} {C : nMem} {I : Nat → Nat} : xOwn na C I 30 = some (.inr (0, xfs na C I)) := by unfold xOwn; rw [if_pos rfl]
theorem xOwn_a {na : nA} {C : nMem} {I : Nat → Nat} {j : Nat} (hj : xIA j = true) : xOwn na C I j = some (.inl (0, xLen j, .inl (C j))) := by
  have hl := xIA_lt hj
  obtain ⟨-, a, b, c, d⟩ := xIA_K j hl hj
  unfold xOwn
  rw [if_neg (by omega), if_neg a, if_neg b, if_neg d, if_neg c, if_pos hj]
theorem xOwn_t {na : nA} {C : nMem} {I : Nat → Nat} : xOwn na C I 15 = some (.inl (1, 80, .inl (C 15))) := rfl
theorem xOwn_pe {na : nA} {C : nMem} {I : Nat → Nat} : xOwn na C I 0 = some (.inl (6, 15, .inr (.inr (.inr (.inr (fun p => if p < 15 ∧ C 33 p ≠ 0 then some (na (131 + p)) else none)))))) := rfl
theorem xOwn_fi {na : nA} {C : nMem} {I : Nat → Nat} : xOwn na C I 13 = some (.inl (7, 10, .inr (.inr (.inr (.inr (fun f => if f < 10 then xRf na (I (100 + f)) else none)))))) := rfl
theorem xOwn_ta {na : nA} {C : nMem} {I : Nat → Nat} : xOwn na C I 18 = some (.inl (8, 6, .inr (.inr (.inr (.inr (fun t => if t < 6 then some (na (146 + t)) else none)))))) := rfl
theorem xOwn_p {na : nA} {C : nMem} {I : Nat → Nat} {p : Nat} (hp : p < 15) (hc : C 30 p ≠ 0) : xOwn na C I (31 + p) = some (.inr ((C 30 p).toNatClampNeg, [.ref (na (bB 0 + 9)), .int (nI p), .int (C 31 p), .int (C 32 p)])) := by
  have hx : xIA (31 + p) = false := by
    cases e : xIA (31 + p) with
    | false => rfl
    | true => have := xIA_lt e; omega
  unfold xOwn
  rw [if_neg (by omega), if_neg (by omega), if_neg (by omega), if_neg (by omega), if_neg (by omega), if_neg (by rw [hx]; decide), if_pos (by omega), Nat.add_sub_cancel_left, if_neg hc]
theorem xOwn_p0 {na : nA} {C : nMem} {I : Nat → Nat} {p : Nat} (hp : p < 15) (hc : C 30 p = 0) : xOwn na C I (31 + p) = none := by
  have hx : xIA (31 + p) = false := by
    cases e : xIA (31 + p) with
    | false => rfl
    | true => have := xIA_lt e; omega
  unfold xOwn
  rw [if_neg (by omega), if_neg (by omega), if_neg (by omega), if_neg (by omega), if_neg (by omega), if_neg (by rw [hx]; decide), if_pos (by omega), Nat.add_sub_cancel_left, if_pos hc]
theorem xOwn_tp {na : nA} {C : nMem} {I : Nat → Nat} {t : Nat} (ht : t < 6) : xOwn na C I (46 + t) = some (.inr (2, [va_rf (xRf na (I (120 + t)))])) := by
  have hx : xIA (46 + t) = false := by
    cases e : xIA (46 + t) with
    | false => rfl
    | true => have := xIA_lt e; omega
  unfold xOwn
  rw [if_neg (by omega), if_neg (by omega), if_neg (by omega), if_neg (by omega), if_neg (by omega), if_neg (by rw [hx]; decide), if_neg (by omega), if_pos (by omega), Nat.add_sub_cancel_left]
/-- two views of what is its own that agree at i -/
theorem xOwn_cg {na : nA} {C C2 : nMem} {I I2 : Nat → Nat} {i : Nat} (hi : i < 100) (h30 : i = 30 → xfs na C I = xfs na C2 I2) (h0 : i = 0 → ∀ p, p < 15 → (C 33 p ≠ 0 ↔ C2 33 p ≠ 0)) (h13 : i = 13 → ∀ f, f < 10 → I (100 + f) = I2 (100 + f)) (ha : i < 30 → xIA i = true ∨ i = 15 → C i = C2 i)
    (hp : ∀ p, p < 15 → i = 31 + p → C 30 p = C2 30 p ∧ C 31 p = C2 31 p ∧ C 32 p = C2 32 p) (ht : ∀ t, t < 6 → i = 46 + t → I (120 + t) = I2 (120 + t)) : xOwn na C I i = xOwn na C2 I2 i := by
  unfold xOwn
  by_cases a : i = 30
  · rw [if_pos a, if_pos a, h30 a]
  rw [if_neg a, if_neg a]
  by_cases b : i = 0
  · rw [if_pos b, if_pos b]
    congr 8
    funext p
    by_cases q : p < 15
    · have := h0 b p q
      by_cases z : C 33 p ≠ 0
      · rw [if_pos ⟨q, z⟩, if_pos ⟨q, this.mp z⟩]
      · rw [if_neg (fun w => z w.2), if_neg (fun w => z (this.mpr w.2))]
    · rw [if_neg (fun w => q w.1), if_neg (fun w => q w.1)]
  rw [if_neg b, if_neg b]
  by_cases c : i = 13
  · rw [if_pos c, if_pos c]
    congr 8
    funext f
    by_cases q : f < 10
    · rw [if_pos q, if_pos q, h13 c f q]
    · rw [if_neg q, if_neg q]
  rw [if_neg c, if_neg c]
  by_cases d : i = 18
  · rw [if_pos d, if_pos d]
  rw [if_neg d, if_neg d]
  by_cases e : i = 15
  · rw [if_pos e, if_pos e, show C 15 = C2 15 from e ▸ ha (by omega) (Or.inr e)]
  rw [if_neg e, if_neg e]
  by_cases f : xIA i = true
  · rw [if_pos f, if_pos f, ha (xIA_lt f) (Or.inl f)]
  rw [if_neg f, if_neg f]
  by_cases g : 31 ≤ i ∧ i < 46
  · obtain ⟨q1, q2, q3⟩ := hp (i - 31) (by omega) (by omega)
    rw [if_pos g, if_pos g, q1, q2, q3]
  rw [if_neg g, if_neg g]
  by_cases j : 46 ≤ i ∧ i < 52
  · rw [if_pos j, if_pos j, ht (i - 46) (by omega) (by omega)]
  rw [if_neg j, if_neg j]
section XSET
variable {na : nA} {h : nH} {C : nMem} {B : Nat → nMem} {P : Nat → Nat × Nat} {I : Nat → Nat}
theorem xFv_c {C2 : nMem} {j : Nat} (hc : xK j = 0 → C j = C2 j) : xFv na C I j = xFv na C2 I j := by
  unfold xFv
  by_cases q : xK j = 0
  · rw [if_pos q, if_pos q, hc q]
  · rw [if_neg q, if_neg q]
/-- an array of its own, or the text, or what stands beside it, changed -/
theorem xPut_setC {C2 : nMem} {j : Nat} {e : nV} (hj : j < 100) (he : xOwn na C2 I j = some e) (h30 : j = 30 ∨ ∀ i, i < 30 → xK i = 0 → C i = C2 i) (h0 : j = 0 ∨ ∀ p, p < 15 → (C 33 p ≠ 0 ↔ C2 33 p ≠ 0)) (ha : ∀ i, i < 30 → i ≠ j → xIA i = true ∨ i = 15 → C i = C2 i) (hp : ∀ p, p < 15 → j ≠ 31 + p → C 30 p = C2 30 p ∧ C 31 p = C2 31 p ∧ C 32 p = C2 32 p) :
    nup (xPut na h (C, B, P, I)) (100 + j) e = xPut na h (C2, B, P, I) := by
  refine xPut_nup (by rw [xPut_own hj]; exact he) (fun k hk => xPut_at k (fun i hi e2 => ?_) (fun _ _ _ _ => rfl))
  have hij : i ≠ j := fun z => hk (by rw [e2, z])
  refine xOwn_cg hi (fun z => ?_) (fun z => ?_) (fun _ _ _ => rfl) (fun a b => ha i a hij b) (fun p a b => hp p a (by omega)) (fun _ _ _ => rfl)
  · rcases h30 with w | w
    · omega
    · exact xfs_cong fun i hi => xFv_c fun q => w i hi q
  · rcases h0 with w | w
    · omega
    · exact w
theorem xPut_setA {j : Nat} {f : Nat → Int32} (hj : xIA j = true) : nup (xPut na h (C, B, P, I)) (100 + j) (.inl (0, xLen j, .inl f)) = xPut na h (mset C j f, B, P, I) := by
  have hl := xIA_lt hj
  obtain ⟨k1, a, b, c, d⟩ := xIA_K j hl hj
  refine xPut_setC (by omega) (by rw [xOwn_a hj, mset_s]) (Or.inr fun i _ q => ?_) (Or.inr fun p _ => ?_) (fun i _ q _ => ?_) (fun p _ _ => ⟨?_, ?_, ?_⟩)
  · rw [mset_n (fun z => by rw [z, k1] at q; cases q)]
  all_goals rw [mset_n (by omega)]
theorem xPut_setT {f : Nat → Int32} : nup (xPut na h (C, B, P, I)) 115 (.inl (1, 80, .inl f)) = xPut na h (mset C 15 f, B, P, I) := by
  refine xPut_setC (j := 15) (by decide) rfl (Or.inr fun i _ q => ?_) (Or.inr fun p _ => ?_) (fun i _ q _ => ?_) (fun p _ _ => ⟨?_, ?_, ?_⟩)
  · rw [mset_n (fun z => by rw [z] at q; cases q)]
  all_goals rw [mset_n (by omega)]
theorem xPut_setI {j : Nat} {x : Int32} (hj : xK j = 0) (hl : j < 30) : nup (xPut na h (C, B, P, I)) 130 (.inr (0, (xfs na C I).set j (.int x))) = xPut na h (mset C j (fun _ => x), B, P, I) := by
  have hx : xIA j = true ∨ j = 15 → False := by
    rintro (q | q)
    · have := (xIA_K j hl q).1; omega
    · rw [q] at hj; cases hj
  refine xPut_setC (j := 30) (by decide) ?_ (Or.inl rfl) (Or.inr fun p _ => ?_) (fun i _ q z => ?_) (fun p _ _ => ⟨?_, ?_, ?_⟩)
  · rw [xOwn_o]
    congr 3
    refine (xfs_set hl (by unfold xFv; rw [if_pos hj, mset_s]) fun i _ q => xFv_c fun _ => by rw [mset_n q]).symm
  · rw [mset_n (by omega)]
  · rw [mset_n (fun w => hx (by rw [← w]; exact z))]
  all_goals rw [mset_n (by omega)]
/-- an index changed: a field that holds a block -/
theorem xPut_setR {j i : Nat} (hj : xK j = 2) (hl : j < 30) : nup (xPut na h (C, B, P, I)) 130 (.inr (0, (xfs na C I).set j (va_rf (xRf na i)))) = xPut na h (C, B, P, iset I j i) := by
  refine xPut_nup ?_ (fun k hk => xPut_at k (fun n hn e2 => ?_) (fun _ _ _ _ => rfl))
  · rw [show (130 : Nat) = 100 + 30 from rfl, xPut_own (by decide), xOwn_o]
    congr 3
    refine (xfs_set hl (by unfold xFv; dsimp only; rw [if_neg (by omega), if_neg (by omega), if_pos hj, iset_s]) fun n _ q => ?_).symm
    unfold xFv
    dsimp only
    rw [iset_n q]
  · refine xOwn_cg hn (fun z => absurd (by rw [e2, z]) hk) (fun _ _ _ => Iff.rfl) (fun _ f _ => ?_) (fun _ _ => rfl) (fun _ _ _ => ⟨rfl, rfl, rfl⟩) (fun t _ _ => ?_)
    all_goals dsimp only; rw [iset_n (by omega)]
/-- figure f stands in the row of figures -/
theorem xPut_setF {f i : Nat} {g : Nat → Option Nat} (hf : f < 10) (hg : g = fun x => if x = f then xRf na i else if x < 10 then xRf na (I (100 + x)) else none) : nup (xPut na h (C, B, P, I)) 113 (.inl (7, 10, .inr (.inr (.inr (.inr g))))) = xPut na h (C, B, P, iset I (100 + f) i) := by
  subst hg
  refine xPut_nup ?_ (fun k hk => xPut_at k (fun n hn e2 => ?_) (fun _ _ _ _ => rfl))
  · rw [show (113 : Nat) = 100 + 13 from rfl, xPut_own (by decide)]
    dsimp only
    rw [xOwn_fi]
    congr 8
    funext x
    by_cases q : x = f
    · rw [if_pos q, if_pos (by omega), q, iset_s]
    · rw [if_neg q, iset_n (by omega)]
  · refine xOwn_cg hn (fun z => xfs_cong fun j hj => ?_) (fun _ _ _ => Iff.rfl) (fun z f _ => absurd (by rw [e2, z]) hk) (fun _ _ => rfl) (fun _ _ _ => ⟨rfl, rfl, rfl⟩) (fun t _ _ => ?_)
    · unfold xFv
      dsimp only
      rw [iset_n (by omega)]
    · dsimp only
      rw [iset_n (by omega)]
/-- tape t's row -/
theorem xPut_setP {t i : Nat} (ht : t < 6) : nup (xPut na h (C, B, P, I)) (146 + t) (.inr (2, [va_rf (xRf na i)])) = xPut na h (C, B, P, iset I (120 + t) i) := by
  refine xPut_nup ?_ (fun k hk => xPut_at k (fun n hn e2 => ?_) (fun _ _ _ _ => rfl))
  · rw [show 146 + t = 100 + (46 + t) by omega, xPut_own (by omega), xOwn_tp ht]
    dsimp only
    rw [iset_s]
  · refine xOwn_cg hn (fun z => xfs_cong fun j hj => ?_) (fun _ _ _ => Iff.rfl) (fun _ f _ => ?_) (fun _ _ => rfl) (fun _ _ _ => ⟨rfl, rfl, rfl⟩) (fun t2 h2 e3 => ?_)
    · unfold xFv
      dsimp only
      rw [iset_n (by omega)]
    · dsimp only
      rw [iset_n (by omega)]
    · dsimp only
      rw [iset_n (fun z => hk (by omega))]
/-- what the names stand for, where nothing lies, does not matter -/
theorem gCell_na {sh : gS} {b : Nat} {na na2 : nA} {R : nMem} {i : Nat} (hn : sh.2.1 ≤ 9) (h : ∀ j, j < 220 → na (b + j) = na2 (b + j)) : gCell sh b na R i = gCell sh b na2 R i := by
  have e1 : gfs sh b na R = gfs sh b na2 R := List.map_congr_left fun j hj => by rw [h j (by have := List.mem_range.mp hj; omega)]
  have e2 : ∀ o, o ≤ 120 → (fun r => if r < 100 then some (na (b + (o + r))) else none) = fun r => if r < 100 then some (na2 (b + (o + r))) else none := fun o ho => by
    funext r
    by_cases q : r < 100
    · rw [if_pos q, if_pos q, h (o + r) (by omega)]
    · rw [if_neg q, if_neg q]
  unfold gCell
  rw [e1, e2 20 (by decide), e2 120 (by decide)]
theorem shOf_n (c : Nat × Nat) : (shOf c).2.1 ≤ 9 := by
  unfold shOf
  split
  · decide
  · split
    · decide
    · split
      · decide
      · split
        · decide
        · exact (by decide : (4 : Nat) ≤ 9)
theorem bCell_na {c : Nat × Nat} {b : Nat} {na na2 : nA} {R : nMem} {i : Nat} (h : c.1 ≠ 0 → ∀ j, j < 220 → na (b + j) = na2 (b + j)) : bCell c b na R i = bCell c b na2 R i := by
  unfold bCell
  by_cases a : c.1 = 0
  · rw [if_pos a, if_pos a]
  · rw [if_neg a, if_neg a, gCell_na (shOf_n c) (h a)]
theorem xPut_na {na2 : nA} {X : xX} (h1 : ∀ k, 100 ≤ k → k < 131 → na k = na2 k) (h2 : ∀ p, p < 15 → X.1 33 p ≠ 0 → na (131 + p) = na2 (131 + p)) (h3 : ∀ t, t < 6 → na (146 + t) = na2 (146 + t)) (h4 : na (bB 0 + 9) = na2 (bB 0 + 9)) (h5 : ∀ j, j < 200 → X.2.2.2 j ≠ 0 → na (bB (X.2.2.2 j) + 9) = na2 (bB (X.2.2.2 j) + 9)) (h6 : ∀ i, (X.2.2.1 i).1 ≠ 0 → ∀ j, j < 220 → na (bB i + j) = na2 (bB i + j)) : xPut na h X = xPut na2 h X := by
  have er : ∀ j, j < 200 → xRf na (X.2.2.2 j) = xRf na2 (X.2.2.2 j) := fun j hj => by
    unfold xRf
    by_cases q : X.2.2.2 j = 0
    · rw [if_pos q, if_pos q]
    · rw [if_neg q, if_neg q, h5 j hj q]
  have ef : xfs na X.1 X.2.2.2 = xfs na2 X.1 X.2.2.2 := xfs_cong fun j hj => by
    unfold xFv
    rw [h1 (100 + j) (by omega) (by omega), er j (by omega), h4]
  funext k
  refine xPut_at k (fun i hi e => ?_) (fun i j hj e => bCell_na (h6 i))
  have e0 : (fun p => if p < 15 ∧ X.1 33 p ≠ 0 then some (na (131 + p)) else none) = fun p => if p < 15 ∧ X.1 33 p ≠ 0 then some (na2 (131 + p)) else none := by
    funext p
    by_cases q : p < 15 ∧ X.1 33 p ≠ 0
    · rw [if_pos q, if_pos q, h2 p q.1 q.2]
    · rw [if_neg q, if_neg q]
  have e13 : (fun f => if f < 10 then xRf na (X.2.2.2 (100 + f)) else none) = fun f => if f < 10 then xRf na2 (X.2.2.2 (100 + f)) else none := by
    funext f
    by_cases q : f < 10
    · rw [if_pos q, if_pos q, er (100 + f) (by omega)]
    · rw [if_neg q, if_neg q]
  have e18 : (fun t => if t < 6 then some (na (146 + t)) else none) = fun t => if t < 6 then some (na2 (146 + t)) else none := by
    funext t
    by_cases q : t < 6
    · rw [if_pos q, if_pos q, h3 t q]
    · rw [if_neg q, if_neg q]
  unfold xOwn
  rw [ef, e0, e13, e18, h4]
  by_cases g : 46 ≤ i ∧ i < 52
  · rw [er (120 + (i - 46)) (by omega)]
  · rw [if_neg g, if_neg g]
end XSET
/-- the first block that is free, in I 200 -/
def xWf (X : xX) : Prop := 0 < X.2.2.2 200 ∧ (∀ i, X.2.2.2 200 ≤ i → X.2.2.1 i = (0, 0)) ∧ ∀ j, j < 200 → X.2.2.2 j < X.2.2.2 200
theorem x_fresh {na na2 : nA} {h : nH} {X : xX} (hw : xWf X) (hn : ∀ k, 100 ≤ k → k < bB (X.2.2.2 200) → na k = na2 k) : xPut na h X = xPut na2 h X := by
  obtain ⟨w0, wP, wI⟩ := hw
  have hb : ∀ i j, i < X.2.2.2 200 → j < 220 → 100 ≤ bB i + j ∧ bB i + j < bB (X.2.2.2 200) := fun i j hi hj => by unfold bB; omega
  have h200 : 200 ≤ bB (X.2.2.2 200) := by unfold bB; omega
  refine xPut_na (fun k a b => hn k a (by omega)) (fun p a _ => hn _ (by omega) (by omega)) (fun t a => hn _ (by omega) (by omega)) ?_ (fun j hj _ => ?_) (fun i hi j hj => ?_)
  · have := hb 0 9 w0 (by decide); exact hn _ this.1 this.2
  · have := hb _ 9 (wI j hj) (by decide); exact hn _ this.1 this.2
  · have hlt : i < X.2.2.2 200 := Nat.lt_of_not_le fun z => hi (by rw [wP i z])
    have := hb i j hlt hj; exact hn _ this.1 this.2
theorem x_none {na : nA} {h : nH} {X : xX} (hw : xWf X) {j : Nat} (hj : j < 220) : xPut na h X (bB (X.2.2.2 200) + j) = none := by
  rw [xPut_b hj, hw.2.1 _ (Nat.le_refl _)]
  rfl
def xNew (X : xX) (c : Nat × Nat) (R : nMem) : xX := (X.1, bset X.2.1 (X.2.2.2 200) R, pset X.2.2.1 (X.2.2.2 200) c, iset X.2.2.2 200 (X.2.2.2 200 + 1))
theorem xNew_wf {X : xX} {c : Nat × Nat} {R : nMem} (hw : xWf X) : xWf (xNew X c R) := by
  obtain ⟨w0, wP, wI⟩ := hw
  have e : (xNew X c R).2.2.2 200 = X.2.2.2 200 + 1 := by unfold xNew; dsimp only; rw [iset_s]
  refine ⟨by rw [e]; omega, fun i hi => ?_, fun j hj => ?_⟩
  · rw [e] at hi
    show pset _ _ _ i = _
    rw [pset_n (by omega)]
    exact wP i (by omega)
  · rw [e]
    show iset _ _ _ j < _
    rw [iset_n (by omega)]
    have := wI j hj
    omega
theorem x_new {na : nA} {h : nH} {X : xX} {c : Nat × Nat} {R : nMem} (hc : c.1 ≠ 0 ∧ c.1 < 6) : gPut (shOf c) (bB (X.2.2.2 200)) na (xPut na h X) R = xPut na h (xNew X c R) := by
  funext k
  unfold gPut
  by_cases a : bB (X.2.2.2 200) ≤ k ∧ k < bB (X.2.2.2 200) + 220
  · rw [if_pos a]
    have e : k = bB (X.2.2.2 200) + (k - bB (X.2.2.2 200)) := by omega
    conv => rhs; rw [e]
    rw [xPut_b (by omega)]
    unfold xNew
    dsimp only
    rw [pset_s, bCell_g hc, bset_s]
  · rw [if_neg a]
    refine xPut_at k (fun i hi _ => ?_) (fun i2 j hj e => ?_)
    · refine xOwn_cg hi (fun _ => xfs_cong fun j hj => ?_) (fun _ _ _ => Iff.rfl) (fun _ f _ => ?_) (fun _ _ => rfl) (fun _ _ _ => ⟨rfl, rfl, rfl⟩) (fun t _ _ => ?_)
      · unfold xFv xNew
        dsimp only
        rw [iset_n (by omega)]
      · unfold xNew
        dsimp only
        rw [iset_n (by omega)]
      · unfold xNew
        dsimp only
        rw [iset_n (by omega)]
    · have hne : i2 ≠ X.2.2.2 200 := fun z => a (by rw [e, z]; omega)
      unfold xNew
      dsimp only
      rw [pset_n hne, bset_n hne]
/-- a tape's row, new -/
theorem x_newT {na : nA} {h : nH} {X : xX} {s q : Nat} {f : Nat → Int32} (hs : s ≤ 4) : nup (xPut na h X) (bB (X.2.2.2 200) + 9) (.inl (tkd s, q, .inl f)) = xPut na h (xNew X (6 + s, q) (fun _ => f)) ∨ ¬ xWf X := by
  by_cases hw : xWf X
  · left
    have hcell : ∀ j, bCell (6 + s, q) (bB (X.2.2.2 200)) na (fun _ => f) j = if j = 9 then some (.inl (tkd s, q, .inl f)) else none := fun j => by
      unfold bCell
      dsimp only
      rw [if_neg (by omega), if_neg (by omega), Nat.add_sub_cancel_left]
    refine xPut_nup ?_ (fun k hk => ?_)
    · rw [xPut_b (by decide)]
      unfold xNew
      dsimp only
      rw [pset_s, bset_s, hcell, if_pos rfl]
    · refine xPut_at k (fun i hi _ => ?_) (fun i2 j hj e => ?_)
      · refine xOwn_cg hi (fun _ => xfs_cong fun j hj => ?_) (fun _ _ _ => Iff.rfl) (fun _ f _ => ?_) (fun _ _ => rfl) (fun _ _ _ => ⟨rfl, rfl, rfl⟩) (fun t _ _ => ?_)
        · unfold xFv xNew
          dsimp only
          rw [iset_n (by omega)]
        · unfold xNew
          dsimp only
          rw [iset_n (by omega)]
        · unfold xNew
          dsimp only
          rw [iset_n (by omega)]
      · unfold xNew
        dsimp only
        by_cases hne : i2 = X.2.2.2 200
        · subst hne
          rw [pset_s, bset_s, hcell, hw.2.1 _ (Nat.le_refl _), if_neg (fun z => hk (by rw [e, z]))]
          rfl
        · rw [pset_n hne, bset_n hne]
  · exact Or.inr hw
/-! rows -/
theorem xTX : ∀ j, j < 30 → (TX0 j).1 = RX0 := by decide +kernel
theorem xPut_o {na : nA} {h : nH} {X : xX} : xPut na h X 130 = some (.inr (0, xfs na X.1 X.2.2.2)) := by rw [show (130 : Nat) = 100 + 30 from rfl, xPut_own (by decide), xOwn_o]
theorem xPut_a {na : nA} {h : nH} {X : xX} {j : Nat} (hj : xIA j = true) : xPut na h X (100 + j) = some (.inl (0, xLen j, .inl (X.1 j))) := by
  have := xIA_lt hj
  rw [xPut_own (by omega), xOwn_a hj]
theorem xLen_le (j : Nat) : xLen j ≤ 300 := by
  by_cases q : j < 30
  · revert j; decide
  · unfold xLen
    rw [List.getD_eq_getElem?_getD, List.getElem?_eq_none (by show 30 ≤ j; omega)]
    decide
theorem xRf_some {na : nA} {i : Nat} (h : i ≠ 0) : xRf na i = some (na (bB i + 9)) := by unfold xRf; rw [if_neg h]
section NXW
variable {K : nK} {na : nA} {h : nH} {C : nMem} {B : Nat → nMem} {P : Nat → Nat × Nat} {I : Nat → Nat} {cells slots : Nat} {Q : State → Prop} {cc : ByteArray} {nL pc idx a : Nat} {own : String} {ret : Option FieldType} {rm : Room} {L : List (Option Value)} {st : List Value}
theorem x_get (hC : nC K cc nL own ret rm) (j : Nat) {v : Value} (hq : Cond.fieldLink own idx RX0 (TX0 j).2.1 (TX0 j).2.2.1 ∈ lw_all) (hdg : decode cc pc = .ok (.getfield idx, 3)) (hk : na 130 = a) (hl : j < 30) (hv : xFv na C I j = v) (k : WN K na (xPut na h (C, B, P, I)) cells slots Q (pc + 3) L (v :: st)) : WN K na (xPut na h (C, B, P, I)) cells slots Q pc L (.ref a :: st) :=
  n_get hC in_X0 j hq hdg hk xPut_o rfl hl (xTX j hl) (by rw [xfs_at hl, hv]) k
theorem x_getI (hC : nC K cc nL own ret rm) (j : Nat) {v : Int32} (hq : Cond.fieldLink own idx RX0 (TX0 j).2.1 (TX0 j).2.2.1 ∈ lw_all) (hdg : decode cc pc = .ok (.getfield idx, 3)) (hk : na 130 = a) (hl : j < 30) (hj : xK j = 0) (hv : C j 0 = v) (k : WN K na (xPut na h (C, B, P, I)) cells slots Q (pc + 3) L (.int v :: st)) : WN K na (xPut na h (C, B, P, I)) cells slots Q pc L (.ref a :: st) :=
  x_get hC j hq hdg hk hl (by unfold xFv; rw [if_pos hj, hv]) k
theorem x_getA (hC : nC K cc nL own ret rm) (j : Nat) (hq : Cond.fieldLink own idx RX0 (TX0 j).2.1 (TX0 j).2.2.1 ∈ lw_all) (hdg : decode cc pc = .ok (.getfield idx, 3)) (hk : na 130 = a) (hl : j < 30) (hj : xK j = 1) (k : WN K na (xPut na h (C, B, P, I)) cells slots Q (pc + 3) L (.ref (na (100 + j)) :: st)) : WN K na (xPut na h (C, B, P, I)) cells slots Q pc L (.ref a :: st) :=
  x_get hC j hq hdg hk hl (by unfold xFv; rw [if_neg (by omega), if_pos hj]) k
theorem x_getR (hC : nC K cc nL own ret rm) (j : Nat) (hq : Cond.fieldLink own idx RX0 (TX0 j).2.1 (TX0 j).2.2.1 ∈ lw_all) (hdg : decode cc pc = .ok (.getfield idx, 3)) (hk : na 130 = a) (hl : j < 30) (hj : xK j = 2) (hi : I j ≠ 0) (k : WN K na (xPut na h (C, B, P, I)) cells slots Q (pc + 3) L (.ref (na (bB (I j) + 9)) :: st)) : WN K na (xPut na h (C, B, P, I)) cells slots Q pc L (.ref a :: st) :=
  x_get hC j hq hdg hk hl (by unfold xFv; rw [if_neg (by omega), if_neg (by omega), if_pos hj, xRf_some hi]; rfl) k
theorem x_getZ (hC : nC K cc nL own ret rm) (j : Nat) (hq : Cond.fieldLink own idx RX0 (TX0 j).2.1 (TX0 j).2.2.1 ∈ lw_all) (hdg : decode cc pc = .ok (.getfield idx, 3)) (hk : na 130 = a) (hl : j < 30) (hj : xK j = 2) (hi : I j = 0) (k : WN K na (xPut na h (C, B, P, I)) cells slots Q (pc + 3) L (.null :: st)) : WN K na (xPut na h (C, B, P, I)) cells slots Q pc L (.ref a :: st) :=
  x_get hC j hq hdg hk hl (by unfold xFv xRf; rw [if_neg (by omega), if_neg (by omega), if_pos hj, if_pos hi]; rfl) k
theorem x_getT (hC : nC K cc nL own ret rm) (hq : Cond.fieldLink own idx RX0 (TX0 17).2.1 (TX0 17).2.2.1 ∈ lw_all) (hdg : decode cc pc = .ok (.getfield idx, 3)) (hk : na 130 = a) (k : WN K na (xPut na h (C, B, P, I)) cells slots Q (pc + 3) L (.ref (na (bB 0 + 9)) :: st)) : WN K na (xPut na h (C, B, P, I)) cells slots Q pc L (.ref a :: st) :=
  x_get hC 17 hq hdg hk (by decide) rfl k
theorem x_putI (hC : nC K cc nL own ret rm) (j : Nat) {x : Int32} {C2 : nMem} (hq : Cond.fieldLink own idx RX0 (TX0 j).2.1 (TX0 j).2.2.1 ∈ lw_all) (hdg : decode cc pc = .ok (.putfield idx, 3)) (hk : na 130 = a) (hl : j < 30) (hj : xK j = 0) (hfin : (TX0 j).2.2.2 = false) {ty : FieldType} (hty : parseFieldDescriptor (TX0 j).2.2.1 = some ty) (hn : narrow ty (.int x) = .int x) (hfit : fits ty (.int x) = true) (hM : mset C j (fun _ => x) = C2)
    (k : WN K na (xPut na h (C2, B, P, I)) cells slots Q (pc + 3) L st) : WN K na (xPut na h (C, B, P, I)) cells slots Q pc L (.int x :: .ref a :: st) := by
  subst hM
  refine n_put hC in_X0 tyX0 tyX0_ok nmX0 j hq hdg hk xPut_o rfl hl (xTX j hl) hfin hty hn hfit (by rw [xfs_len]; exact hl) ?_
  rw [xPut_setI hj hl]
  exact k
theorem x_putR (hC : nC K cc nL own ret rm) (j : Nat) {i x : Nat} {I2 : Nat → Nat} (hq : Cond.fieldLink own idx RX0 (TX0 j).2.1 (TX0 j).2.2.1 ∈ lw_all) (hdg : decode cc pc = .ok (.putfield idx, 3)) (hk : na 130 = a) (hl : j < 30) (hj : xK j = 2) (hfin : (TX0 j).2.2.2 = false) {ty : FieldType} (hty : parseFieldDescriptor (TX0 j).2.2.1 = some ty) (hn : narrow ty (.ref x) = .ref x) (hfit : fits ty (.ref x) = true) (hi : i ≠ 0) (hx : na (bB i + 9) = x) (hI : iset I j i = I2)
    (k : WN K na (xPut na h (C, B, P, I2)) cells slots Q (pc + 3) L st) : WN K na (xPut na h (C, B, P, I)) cells slots Q pc L (.ref x :: .ref a :: st) := by
  subst hI
  subst hx
  refine n_put hC in_X0 tyX0 tyX0_ok nmX0 j hq hdg hk xPut_o rfl hl (xTX j hl) hfin hty hn hfit (by rw [xfs_len]; exact hl) ?_
  rw [show Value.ref (na (bB i + 9)) = va_rf (xRf na i) by rw [xRf_some hi]; rfl, xPut_setR hj hl]
  exact k
theorem x_ald (hC : nC K cc nL own ret rm) (j : Nat) {i v : Int32} (hdg : decode cc pc = .ok (.iaload, 1)) (hk : na (100 + j) = a) (hj : xIA j = true) (hin : vp_in i (xLen j)) (hv : C j i.toNatClampNeg = v) (k : WN K na (xPut na h (C, B, P, I)) cells slots Q (pc + 1) L (.int v :: st)) : WN K na (xPut na h (C, B, P, I)) cells slots Q pc L (.int i :: .ref a :: st) := by
  subst hv
  exact n_iald hC hdg hk (xPut_a hj) hin k
theorem x_aldN (hC : nC K cc nL own ret rm) (j : Nat) {i : Nat} {v : Int32} (hdg : decode cc pc = .ok (.iaload, 1)) (hk : na (100 + j) = a) (hj : xIA j = true) (hi : i < xLen j) (hv : C j i = v) (k : WN K na (xPut na h (C, B, P, I)) cells slots Q (pc + 1) L (.int v :: st)) : WN K na (xPut na h (C, B, P, I)) cells slots Q pc L (.int (nI i) :: .ref a :: st) := by
  subst hv
  exact n_ialdN hC hdg hk (xPut_a hj) hi (Nat.lt_of_le_of_lt (xLen_le j) (by decide)) k
theorem x_astN (hC : nC K cc nL own ret rm) (j : Nat) {i : Nat} {v : Int32} {C2 : nMem} (hdg : decode cc pc = .ok (.iastore, 1)) (hk : na (100 + j) = a) (hj : xIA j = true) (hi : i < xLen j) (hM : mset C j (upd (C j) i v) = C2) (k : WN K na (xPut na h (C2, B, P, I)) cells slots Q (pc + 1) L st) : WN K na (xPut na h (C, B, P, I)) cells slots Q pc L (.int v :: .int (nI i) :: .ref a :: st) := by
  subst hM
  refine n_iastN hC hdg hk (xPut_a hj) hi (Nat.lt_of_le_of_lt (xLen_le j) (by decide)) ?_
  rw [xPut_setA hj]
  exact k
theorem x_balN (hC : nC K cc nL own ret rm) {i : Nat} {v : Int32} (hdg : decode cc pc = .ok (.baload, 1)) (hk : na 115 = a) (hi : i < 80) (hv : C 15 i = v) (k : WN K na (xPut na h (C, B, P, I)) cells slots Q (pc + 1) L (.int v :: st)) : WN K na (xPut na h (C, B, P, I)) cells slots Q pc L (.int (nI i) :: .ref a :: st) := by
  subst hv
  have e := n_bald (h := xPut na h (C, B, P, I)) (cells := cells) (slots := slots) (Q := Q) (L := L) (st := st) (f := C 15) (i := nI i) (n := 80) (kk := 115) hC hdg hk (by rw [show (115 : Nat) = 100 + 15 from rfl, xPut_own (by decide)]; rfl) (vp_in_nI hi (by decide))
  rw [nI_clamp (by omega)] at e
  exact e k
theorem x_bastN (hC : nC K cc nL own ret rm) {i : Nat} {v : Int32} {C2 : nMem} (hdg : decode cc pc = .ok (.bastore, 1)) (hk : na 115 = a) (hi : i < 80) (hM : mset C 15 (upd (C 15) i (vp_nar .byte v)) = C2) (k : WN K na (xPut na h (C2, B, P, I)) cells slots Q (pc + 1) L st) : WN K na (xPut na h (C, B, P, I)) cells slots Q pc L (.int v :: .int (nI i) :: .ref a :: st) := by
  subst hM
  refine n_bast hC hdg hk (n := 80) (f := C 15) (kk := 115) (by rw [show (115 : Nat) = 100 + 15 from rfl, xPut_own (by decide)]; rfl) (vp_in_nI hi (by decide)) ?_
  rw [xPut_setT, nI_clamp (by omega)]
  exact k
theorem x_fig (hC : nC K cc nL own ret rm) {f : Nat} (hdg : decode cc pc = .ok (.aaload, 1)) (hk : na 113 = a) (hf : f < 10) (hi : I (100 + f) ≠ 0) (k : WN K na (xPut na h (C, B, P, I)) cells slots Q (pc + 1) L (.ref (na (bB (I (100 + f)) + 9)) :: st)) : WN K na (xPut na h (C, B, P, I)) cells slots Q pc L (.int (nI f) :: .ref a :: st) :=
  n_aaldN hC 7 (fun _ => rfl) hdg hk (kk := 113) (f := fun f => if f < 10 then xRf na (I (100 + f)) else none) (n := 10) (by rw [show (113 : Nat) = 100 + 13 from rfl, xPut_own (by decide)]; rfl) hf (by decide) (by rw [if_pos hf, xRf_some hi]; rfl) k
theorem x_per (hC : nC K cc nL own ret rm) {p : Nat} (hdg : decode cc pc = .ok (.aaload, 1)) (hk : na 100 = a) (hp : p < 15) (hc : C 33 p ≠ 0) (k : WN K na (xPut na h (C, B, P, I)) cells slots Q (pc + 1) L (.ref (na (131 + p)) :: st)) : WN K na (xPut na h (C, B, P, I)) cells slots Q pc L (.int (nI p) :: .ref a :: st) :=
  n_aaldN hC 6 (fun _ => rfl) hdg hk (kk := 100) (f := fun p => if p < 15 ∧ C 33 p ≠ 0 then some (na (131 + p)) else none) (n := 15) (by rw [show (100 : Nat) = 100 + 0 from rfl, xPut_own (by decide)]; rfl) hp (by decide) (by rw [if_pos ⟨hp, hc⟩]; rfl) k
theorem x_tap (hC : nC K cc nL own ret rm) {t : Nat} (hdg : decode cc pc = .ok (.aaload, 1)) (hk : na 118 = a) (ht : t < 6) (k : WN K na (xPut na h (C, B, P, I)) cells slots Q (pc + 1) L (.ref (na (146 + t)) :: st)) : WN K na (xPut na h (C, B, P, I)) cells slots Q pc L (.int (nI t) :: .ref a :: st) :=
  n_aaldN hC 8 (fun _ => rfl) hdg hk (kk := 118) (f := fun t => if t < 6 then some (na (146 + t)) else none) (n := 6) (by rw [show (118 : Nat) = 100 + 18 from rfl, xPut_own (by decide)]; rfl) ht (by decide) (by rw [if_pos ht]; rfl) k
/-- a figure put into the row of figures -/
theorem x_astF (hC : nC K cc nL own ret rm) {f i v : Nat} {c : Nat × Nat} {I2 : Nat → Nat} (hdg : decode cc pc = .ok (.aastore, 1)) (hk : na 113 = a) (hf : f < 10) (hP : P i = (3, 0)) (hi : i ≠ 0) (hv : na (bB i + 9) = v) (hI : iset I (100 + f) i = I2) (k : WN K na (xPut na h (C, B, P, I2)) cells slots Q (pc + 1) L st) : WN K na (xPut na h (C, B, P, I)) cells slots Q pc L (.ref v :: .int (nI f) :: .ref a :: st) := by
  subst hI
  refine n_aast hC 7 (fun _ => rfl) hdg hk (kk := 113) (f := fun f => if f < 10 then xRf na (I (100 + f)) else none) (n := 10) (by rw [show (113 : Nat) = 100 + 13 from rfl, xPut_own (by decide)]; rfl) hv ((xBlk_o (X := (C, B, P, I)) hP ⟨by decide, by decide⟩ 9 (by decide)).trans (if_pos rfl)) (rC := (RX12, TX12, 3)) rfl (Or.inl rfl) (vp_in_nI hf (by decide)) ?_
  rw [nI_clamp (by omega)]
  rw [xPut_setF hf (i := i) (by
    funext x
    unfold va_up
    by_cases q : x = f
    · rw [if_pos q, if_pos q, ← hv, xRf_some hi]
    · rw [if_neg q, if_neg q])]
  exact k
end NXW
section NOTHN
variable {K : nK} {na : nA} {h : nH} {S : nMem} {sh : gS} {b2 cells slots : Nat} {Q : State → Prop} {cc : ByteArray} {nL pc idx a : Nat} {own C : String} {T : u_T} {ty0 : Nat → FieldType} {ret : Option FieldType} {rm : Room} {L : List (Option Value)} {st : List Value}
theorem o_getAN (hC : nC K cc nL own ret rm) (gw : gW sh C T ty0) (hO : ∀ i, i < 220 → h (b2 + i) = gCell sh b2 na S i) {host : String} (j : Nat) (hq : (own, idx, C, (T j).2.1, (T j).2.2.1, host) ∈ nWF) (hdg : decode cc pc = .ok (.getfield idx, 3)) (hk : na (b2 + 9) = a) (hl : j < sh.2.1) (hj : ¬ sh.2.2.1 j = 0) (k : WN K na h cells slots Q (pc + 3) L (.ref (na (b2 + j)) :: st)) : WN K na h cells slots Q pc L (.ref a :: st) :=
  n_getN hC gw.2.1 j hq hdg hk ((hO 9 (by decide)).trans (if_pos rfl)) gw.1 hl (gw.2.2.1 j hl) (by rw [gfs_at hl, if_neg hj]) k
theorem o_getIN (hC : nC K cc nL own ret rm) (gw : gW sh C T ty0) (hO : ∀ i, i < 220 → h (b2 + i) = gCell sh b2 na S i) {host : String} (j : Nat) {v : Int32} (hq : (own, idx, C, (T j).2.1, (T j).2.2.1, host) ∈ nWF) (hdg : decode cc pc = .ok (.getfield idx, 3)) (hk : na (b2 + 9) = a) (hl : j < sh.2.1) (hj : sh.2.2.1 j = 0) (hv : S j 0 = v) (k : WN K na h cells slots Q (pc + 3) L (.int v :: st)) : WN K na h cells slots Q pc L (.ref a :: st) :=
  n_getN hC gw.2.1 j hq hdg hk ((hO 9 (by decide)).trans (if_pos rfl)) gw.1 hl (gw.2.2.1 j hl) (by rw [gfs_at hl, if_pos hj, hv]) k
end NOTHN
