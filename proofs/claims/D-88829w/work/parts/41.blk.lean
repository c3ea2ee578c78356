/-! ===== BLOCKS: an object and its int arrays at names from b on ===== -/
abbrev gS : Type := Nat × Nat × (Nat → Nat) × (Nat → Nat) × Bool
/-- the object's fields: of kind 0 a value, else an array of its own -/
def gfs (sh : gS) (b : Nat) (na : nA) (R : nMem) : List Value := (List.range sh.2.1).map fun j => if sh.2.2.1 j = 0 then .int (R j 0) else .ref (na (b + j))
/-- kinds: 1 ints, 2 and 3 rows from 20 and 120 on -/
def gCell (sh : gS) (b : Nat) (na : nA) (R : nMem) (i : Nat) : Option nV :=
  if i = 9 then some (.inr (sh.1, gfs sh b na R)) else if sh.2.2.1 i = 1 then some (.inl (0, sh.2.2.2.1 i, .inl (R i)))
  else if sh.2.2.1 i = 2 then some (.inl (5, 100, .inr (.inr (.inr (.inr (fun r => if r < 100 then some (na (b + (20 + r))) else none))))))
  else if sh.2.2.1 i = 3 then some (.inl (5, 100, .inr (.inr (.inr (.inr (fun r => if r < 100 then some (na (b + (120 + r))) else none))))))
  else if sh.2.2.2.2 = true ∧ 20 ≤ i then some (.inl (0, 9, .inl (R i))) else none
def gPut (sh : gS) (b : Nat) (na : nA) (h : nH) (R : nMem) : nH := fun k => if b ≤ k ∧ k < b + 220 then gCell sh b na R (k - b) else h k
/-- whether i names ints -/
def gI (sh : gS) (i : Nat) : Prop := i ≠ 9 ∧ i < 220 ∧ (sh.2.2.1 i = 1 ∨ (sh.2.2.1 i = 0 ∧ sh.2.2.2.2 = true ∧ 20 ≤ i))
def gL (sh : gS) (i : Nat) : Nat := if sh.2.2.1 i = 1 then sh.2.2.2.1 i else 9
theorem gPut_in {sh : gS} {b : Nat} {na : nA} {h : nH} {R : nMem} {i : Nat} (hi : i < 220) : gPut sh b na h R (b + i) = gCell sh b na R i := by
  unfold gPut
  rw [if_pos (by omega), Nat.add_sub_cancel_left]
theorem gPut_o {sh : gS} {b : Nat} {na : nA} {h : nH} {R : nMem} : gPut sh b na h R (b + 9) = some (.inr (sh.1, gfs sh b na R)) := by rw [gPut_in (by decide)]; exact if_pos rfl
theorem gPut_out {sh : gS} {b k : Nat} {na : nA} {h : nH} {R : nMem} (hk : ¬ (b ≤ k ∧ k < b + 220)) : gPut sh b na h R k = h k := if_neg hk
theorem gCell_i {sh : gS} {b : Nat} {na : nA} {R : nMem} {i : Nat} (hi : gI sh i) : gCell sh b na R i = some (.inl (0, gL sh i, .inl (R i))) := by
  obtain ⟨h9, hl, h | ⟨h0, hr⟩⟩ := hi
  · unfold gCell gL
    rw [if_neg h9, if_pos h, if_pos h]
  · unfold gCell gL
    rw [if_neg h9, h0, if_neg (by decide), if_neg (by decide), if_neg (by decide), if_pos hr, if_neg (by decide)]
theorem gPut_i {sh : gS} {b : Nat} {na : nA} {h : nH} {R : nMem} {i : Nat} (hi : gI sh i) : gPut sh b na h R (b + i) = some (.inl (0, gL sh i, .inl (R i))) := by rw [gPut_in hi.2.1]; exact gCell_i hi
theorem gfs_len (sh : gS) (b : Nat) (na : nA) (R : nMem) : (gfs sh b na R).length = sh.2.1 := by unfold gfs; rw [List.length_map, List.length_range]
theorem gfs_at {sh : gS} {b : Nat} {na : nA} {R : nMem} {j : Nat} (hj : j < sh.2.1) : (gfs sh b na R)[j]? = some (if sh.2.2.1 j = 0 then .int (R j 0) else .ref (na (b + j))) := by
  unfold gfs
  rw [List.getElem?_map, List.getElem?_range hj]
  rfl
theorem gfs_cong {sh : gS} {b : Nat} {na : nA} {R R2 : nMem} (h : ∀ j, j < sh.2.1 → sh.2.2.1 j = 0 → R j 0 = R2 j 0) : gfs sh b na R = gfs sh b na R2 := by
  apply List.ext_getElem?
  intro j
  by_cases hj : j < sh.2.1
  · rw [gfs_at hj, gfs_at hj]
    by_cases c : sh.2.2.1 j = 0
    · rw [if_pos c, if_pos c, h j hj c]
    · rw [if_neg c, if_neg c]
  · rw [List.getElem?_eq_none (by rw [gfs_len]; omega), List.getElem?_eq_none (by rw [gfs_len]; omega)]
theorem gPut_setA {sh : gS} {b : Nat} {na : nA} {h : nH} {R : nMem} {i : Nat} {f : Nat → Int32} (hi : gI sh i) (hN : sh.2.1 ≤ 9) : nup (gPut sh b na h R) (b + i) (.inl (0, gL sh i, .inl f)) = gPut sh b na h (mset R i f) := by
  funext k
  by_cases e : k = b + i
  · rw [e, nup_s, gPut_i hi, mset_s]
  · rw [nup_n e]
    unfold gPut
    by_cases c : b ≤ k ∧ k < b + 220
    · rw [if_pos c, if_pos c]
      have en : k - b ≠ i := by omega
      have eg : gfs sh b na R = gfs sh b na (mset R i f) := gfs_cong (fun j hj h0 => by
        rw [mset_n (fun z : j = i => by
          subst z
          rcases hi.2.2 with q | q
          · rw [h0] at q; cases q
          · omega)])
      unfold gCell
      rw [eg, mset_n en]
    · rw [if_neg c, if_neg c]
theorem gPut_setI {sh : gS} {b : Nat} {na : nA} {h : nH} {R : nMem} {j : Nat} {x : Int32} (hj : j < sh.2.1) (h0 : sh.2.2.1 j = 0) (hN : sh.2.1 ≤ 9) : nup (gPut sh b na h R) (b + 9) (.inr (sh.1, (gfs sh b na R).set j (.int x))) = gPut sh b na h (mset R j (fun _ => x)) := by
  funext k
  by_cases e : k = b + 9
  · rw [e, nup_s, gPut_o]
    congr 3
    apply List.ext_getElem?
    intro n
    by_cases q : n = j
    · rw [q, List.getElem?_set_self (by rw [gfs_len]; exact hj), gfs_at hj, if_pos h0, mset_s]
    · rw [List.getElem?_set_ne (Ne.symm q)]
      by_cases hn : n < sh.2.1
      · rw [gfs_at hn, gfs_at hn, mset_n q]
      · rw [List.getElem?_eq_none (by rw [gfs_len]; omega), List.getElem?_eq_none (by rw [gfs_len]; omega)]
  · rw [nup_n e]
    unfold gPut
    by_cases c : b ≤ k ∧ k < b + 220
    · rw [if_pos c, if_pos c]
      unfold gCell
      rw [if_neg (show ¬ k - b = 9 by omega), if_neg (show ¬ k - b = 9 by omega)]
      by_cases q : k - b = j
      · rw [q, h0]
        rw [if_neg (by decide), if_neg (by decide), if_neg (by decide), if_neg (by omega)]
        rw [if_neg (by decide), if_neg (by decide), if_neg (by decide), if_neg (by omega)]
      · rw [mset_n q]
    · rw [if_neg c, if_neg c]
theorem gPut_gPut (sh : gS) (b : Nat) (na : nA) (h : nH) (R R2 : nMem) : gPut sh b na (gPut sh b na h R) R2 = gPut sh b na h R2 := by
  funext k
  unfold gPut
  by_cases c : b ≤ k ∧ k < b + 220
  · rw [if_pos c, if_pos c]
  · rw [if_neg c, if_neg c, if_neg c]
/-- a heap that holds the block is its own put -/
theorem gPut_self {sh : gS} {b : Nat} {na : nA} {h : nH} {R : nMem} (hh : ∀ i, i < 220 → h (b + i) = gCell sh b na R i) : h = gPut sh b na h R := by
  funext k
  unfold gPut
  by_cases c : b ≤ k ∧ k < b + 220
  · rw [if_pos c, ← hh (k - b) (by omega), show b + (k - b) = k by omega]
  · rw [if_neg c]
/-- what a class's words bring for its block -/
def gW (sh : gS) (C : String) (T : u_T) (ty0 : Nat → FieldType) : Prop := nCl[sh.1]? = some (C, T, sh.2.1) ∧ (∀ w ∈ u_ws C T sh.2.1, w ∈ lw_all) ∧ (∀ j, j < sh.2.1 → (T j).1 = C) ∧ (∀ k, k < sh.2.1 → parseFieldDescriptor (T k).2.2.1 = some (ty0 k)) ∧ (∀ a, a < sh.2.1 → ∀ c, c < sh.2.1 → a ≠ c → (T a).2.1 ≠ (T c).2.1) ∧ sh.2.1 ≤ 9 ∧ ∀ i, gL sh i ≤ 5040
section NBLK
variable {K : nK} {na : nA} {h : nH} {R : nMem} {sh : gS} {b cells slots : Nat} {Q : State → Prop} {cc : ByteArray} {nL pc idx a : Nat} {own C : String} {T : u_T} {ty0 : Nat → FieldType} {ret : Option FieldType} {rm : Room} {L : List (Option Value)} {st : List Value}
theorem g_getA (hC : nC K cc nL own ret rm) (gw : gW sh C T ty0) (j : Nat) (hq : Cond.fieldLink own idx C (T j).2.1 (T j).2.2.1 ∈ lw_all) (hdg : decode cc pc = .ok (.getfield idx, 3)) (hk : na (b + 9) = a) (hl : j < sh.2.1) (hj : ¬ sh.2.2.1 j = 0) (k : WN K na (gPut sh b na h R) cells slots Q (pc + 3) L (.ref (na (b + j)) :: st)) : WN K na (gPut sh b na h R) cells slots Q pc L (.ref a :: st) :=
  n_get hC gw.2.1 j hq hdg hk gPut_o gw.1 hl (gw.2.2.1 j hl) (by rw [gfs_at hl, if_neg hj]) k
theorem g_getI (hC : nC K cc nL own ret rm) (gw : gW sh C T ty0) (j : Nat) {v : Int32} (hq : Cond.fieldLink own idx C (T j).2.1 (T j).2.2.1 ∈ lw_all) (hdg : decode cc pc = .ok (.getfield idx, 3)) (hk : na (b + 9) = a) (hl : j < sh.2.1) (hj : sh.2.2.1 j = 0) (hv : R j 0 = v) (k : WN K na (gPut sh b na h R) cells slots Q (pc + 3) L (.int v :: st)) : WN K na (gPut sh b na h R) cells slots Q pc L (.ref a :: st) :=
  n_get hC gw.2.1 j hq hdg hk gPut_o gw.1 hl (gw.2.2.1 j hl) (by rw [gfs_at hl, if_pos hj, hv]) k
theorem g_getAN (hC : nC K cc nL own ret rm) (gw : gW sh C T ty0) {host : String} (j : Nat) (hq : (own, idx, C, (T j).2.1, (T j).2.2.1, host) ∈ nWF) (hdg : decode cc pc = .ok (.getfield idx, 3)) (hk : na (b + 9) = a) (hl : j < sh.2.1) (hj : ¬ sh.2.2.1 j = 0) (k : WN K na (gPut sh b na h R) cells slots Q (pc + 3) L (.ref (na (b + j)) :: st)) : WN K na (gPut sh b na h R) cells slots Q pc L (.ref a :: st) :=
  n_getN hC gw.2.1 j hq hdg hk gPut_o gw.1 hl (gw.2.2.1 j hl) (by rw [gfs_at hl, if_neg hj]) k
theorem g_getIN (hC : nC K cc nL own ret rm) (gw : gW sh C T ty0) {host : String} (j : Nat) {v : Int32} (hq : (own, idx, C, (T j).2.1, (T j).2.2.1, host) ∈ nWF) (hdg : decode cc pc = .ok (.getfield idx, 3)) (hk : na (b + 9) = a) (hl : j < sh.2.1) (hj : sh.2.2.1 j = 0) (hv : R j 0 = v) (k : WN K na (gPut sh b na h R) cells slots Q (pc + 3) L (.int v :: st)) : WN K na (gPut sh b na h R) cells slots Q pc L (.ref a :: st) :=
  n_getN hC gw.2.1 j hq hdg hk gPut_o gw.1 hl (gw.2.2.1 j hl) (by rw [gfs_at hl, if_pos hj, hv]) k
theorem g_putI (hC : nC K cc nL own ret rm) (gw : gW sh C T ty0) (j : Nat) {x : Int32} {R2 : nMem} (hq : Cond.fieldLink own idx C (T j).2.1 (T j).2.2.1 ∈ lw_all) (hdg : decode cc pc = .ok (.putfield idx, 3)) (hk : na (b + 9) = a) (hl : j < sh.2.1) (hj : sh.2.2.1 j = 0) (hfin : (T j).2.2.2 = false) {ty : FieldType} (hty : parseFieldDescriptor (T j).2.2.1 = some ty) (hn : narrow ty (.int x) = .int x) (hfit : fits ty (.int x) = true) (hM : mset R j (fun _ => x) = R2)
    (k : WN K na (gPut sh b na h R2) cells slots Q (pc + 3) L st) : WN K na (gPut sh b na h R) cells slots Q pc L (.int x :: .ref a :: st) := by
  subst hM
  refine n_put hC gw.2.1 ty0 gw.2.2.2.1 gw.2.2.2.2.1 j hq hdg hk gPut_o gw.1 hl (gw.2.2.1 j hl) hfin hty hn hfit (by rw [gfs_len]; exact hl) ?_
  rw [gPut_setI hl hj gw.2.2.2.2.2.1]
  exact k
theorem g_ald (hC : nC K cc nL own ret rm) (gw : gW sh C T ty0) (i : Nat) {x v : Int32} (hdg : decode cc pc = .ok (.iaload, 1)) (hk : na (b + i) = a) (hi : gI sh i) (hin : vp_in x (gL sh i)) (hv : R i x.toNatClampNeg = v) (k : WN K na (gPut sh b na h R) cells slots Q (pc + 1) L (.int v :: st)) : WN K na (gPut sh b na h R) cells slots Q pc L (.int x :: .ref a :: st) := by
  subst hv
  exact n_iald hC hdg hk (gPut_i hi) hin k
theorem g_aldN (hC : nC K cc nL own ret rm) (gw : gW sh C T ty0) (i : Nat) {x : Nat} {v : Int32} (hdg : decode cc pc = .ok (.iaload, 1)) (hk : na (b + i) = a) (hi : gI sh i) (hx : x < gL sh i) (hv : R i x = v) (k : WN K na (gPut sh b na h R) cells slots Q (pc + 1) L (.int v :: st)) : WN K na (gPut sh b na h R) cells slots Q pc L (.int (nI x) :: .ref a :: st) := by
  subst hv
  exact n_ialdN hC hdg hk (gPut_i hi) hx (Nat.lt_of_le_of_lt (gw.2.2.2.2.2.2 i) (by decide)) k
theorem g_astN (hC : nC K cc nL own ret rm) (gw : gW sh C T ty0) (i : Nat) {x : Nat} {v : Int32} {R2 : nMem} (hdg : decode cc pc = .ok (.iastore, 1)) (hk : na (b + i) = a) (hi : gI sh i) (hx : x < gL sh i) (hM : mset R i (upd (R i) x v) = R2) (k : WN K na (gPut sh b na h R2) cells slots Q (pc + 1) L st) : WN K na (gPut sh b na h R) cells slots Q pc L (.int v :: .int (nI x) :: .ref a :: st) := by
  subst hM
  refine n_iastN hC hdg hk (gPut_i hi) hx (Nat.lt_of_le_of_lt (gw.2.2.2.2.2.2 i) (by decide)) ?_
  rw [gPut_setA hi gw.2.2.2.2.2.1]
  exact k
theorem g_rowN (hC : nC K cc nL own ret rm) (i o : Nat) {x : Nat} (hdg : decode cc pc = .ok (.aaload, 1)) (hk : na (b + i) = a) (hi : i < 9) (ho : (sh.2.2.1 i = 2 ∧ o = 20) ∨ (sh.2.2.1 i = 3 ∧ o = 120)) (hx : x < 100) (k : WN K na (gPut sh b na h R) cells slots Q (pc + 1) L (.ref (na (b + (o + x))) :: st)) : WN K na (gPut sh b na h R) cells slots Q pc L (.int (nI x) :: .ref a :: st) := by
  rcases ho with ⟨e, rfl⟩ | ⟨e, rfl⟩
  · refine n_aaldG hC (f := fun r => if r < 100 then some (na (b + (20 + r))) else none) hdg hk ?_ hx (by decide) (by rw [if_pos hx]; rfl) k
    rw [gPut_in (by omega)]
    unfold gCell
    rw [if_neg (by omega), e, if_neg (by decide), if_pos rfl]
  · refine n_aaldG hC (f := fun r => if r < 100 then some (na (b + (120 + r))) else none) hdg hk ?_ hx (by decide) (by rw [if_pos hx]; rfl) k
    rw [gPut_in (by omega)]
    unfold gCell
    rw [if_neg (by omega), e, if_neg (by decide), if_neg (by decide), if_pos rfl]
end NBLK
theorem nbo_fit (b : Bool) : fits .boolean (.int (nbo b)) = true := by cases b <;> rfl
