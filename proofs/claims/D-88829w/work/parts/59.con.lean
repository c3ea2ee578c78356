/-! ===== BLOCKS UNDER CONSTRUCTION: array fields below k are made ===== -/
set_option maxRecDepth 100000
def gKfs (sh : gS) (b : Nat) (na : nA) (R : nMem) (k : Nat) : List Value := (List.range sh.2.1).map fun j => if sh.2.2.1 j = 0 then .int (R j 0) else if j < k then .ref (na (b + j)) else .null
def gKr (k i : Nat) : Prop := (20 ≤ i ∧ i < 120 ∧ 4 < k) ∨ (120 ≤ i ∧ 5 < k)
noncomputable def gKc (sh : gS) (b : Nat) (na : nA) (R : nMem) (k i : Nat) : Option nV :=
  if i = 9 then some (.inr (sh.1, gKfs sh b na R k)) else if i < 9 then (if i < k then gCell sh b na R i else none) else @ite _ (gKr k i) (Classical.propDecidable _) (gCell sh b na R i) none
noncomputable def gK (sh : gS) (b : Nat) (na : nA) (h : nH) (R : nMem) (k : Nat) : nH := fun x => if b ≤ x ∧ x < b + 220 then gKc sh b na R k (x - b) else h x
theorem gK_in {sh : gS} {b : Nat} {na : nA} {h : nH} {R : nMem} {k i : Nat} (hi : i < 220) : gK sh b na h R k (b + i) = gKc sh b na R k i := by
  unfold gK
  rw [if_pos (by omega), Nat.add_sub_cancel_left]
theorem gK_o {sh : gS} {b : Nat} {na : nA} {h : nH} {R : nMem} {k : Nat} : gK sh b na h R k (b + 9) = some (.inr (sh.1, gKfs sh b na R k)) := by rw [gK_in (by decide)]; exact if_pos rfl
theorem gKfs_len (sh : gS) (b : Nat) (na : nA) (R : nMem) (k : Nat) : (gKfs sh b na R k).length = sh.2.1 := by unfold gKfs; rw [List.length_map, List.length_range]
theorem gKfs_at {sh : gS} {b : Nat} {na : nA} {R : nMem} {k j : Nat} (hj : j < sh.2.1) : (gKfs sh b na R k)[j]? = some (if sh.2.2.1 j = 0 then .int (R j 0) else if j < k then .ref (na (b + j)) else .null) := by
  unfold gKfs
  rw [List.getElem?_map, List.getElem?_range hj]
  rfl
/-- as new made it -/
theorem gK_0 {sh : gS} {b : Nat} {na : nA} {h : nH} {k : Nat} (hk : ∀ j, j < k → sh.2.2.1 j = 0) (hk4 : k ≤ 4) (hr : ∀ j, j < k → ¬ (sh.2.2.2.2 = true ∧ 20 ≤ j)) (hh : ∀ i, i < 220 → i ≠ 9 → h (b + i) = none) : nup h (b + 9) (.inr (sh.1, gKfs sh b na (fun _ _ => 0) k)) = gK sh b na h (fun _ _ => 0) k := by
  funext x
  by_cases e : x = b + 9
  · rw [e, nup_s, gK_o]
  · rw [nup_n e]
    unfold gK
    by_cases c : b ≤ x ∧ x < b + 220
    · rw [if_pos c]
      have e2 : x = b + (x - b) := by omega
      rw [e2, hh (x - b) (by omega) (by omega), show b + (x - b) - b = x - b by omega]
      unfold gKc
      rw [if_neg (show ¬ x - b = 9 by omega)]
      split
      · by_cases f : x - b < k
        · rw [if_pos f]
          unfold gCell
          rw [if_neg (show ¬ x - b = 9 by omega), hk _ f, if_neg (show ¬ (0 : Nat) = 1 by decide), if_neg (show ¬ (0 : Nat) = 2 by decide), if_neg (show ¬ (0 : Nat) = 3 by decide), if_neg (hr _ f)]
        · rw [if_neg f]
      · rw [if_neg (by unfold gKr; omega)]
    · rw [if_neg c]
theorem getD_k {l : List Nat} {k : Nat} (h : ∀ j, j < l.length → l.getD j 0 ≠ 0 → j < k) : ∀ j, l.getD j 0 ≠ 0 → j < k := fun j hj => by
  by_cases q : j < l.length
  · exact h j q hj
  · rw [List.getD_eq_getElem?_getD, List.getElem?_eq_none (by omega)] at hj
    exact absurd rfl hj
/-- all made -/
theorem gK_e {sh : gS} {b : Nat} {na : nA} {h : nH} {R : nMem} {k : Nat} (hk : ∀ j, sh.2.2.1 j ≠ 0 → j < k) (hk2 : 6 ≤ k ∨ sh.2.2.2.2 = false) (hk9 : k ≤ 9) : gK sh b na h R k = gPut sh b na h R := by
  funext x
  unfold gK gPut
  by_cases c : b ≤ x ∧ x < b + 220
  · rw [if_pos c, if_pos c]
    unfold gKc
    by_cases e : x - b = 9
    · have ef : gKfs sh b na R k = gfs sh b na R := by
        refine List.map_congr_left fun j hj => ?_
        by_cases z : sh.2.2.1 j = 0
        · rw [if_pos z, if_pos z]
        · rw [if_neg z, if_neg z, if_pos (hk j z)]
      rw [if_pos e]
      unfold gCell
      rw [if_pos e, ef]
    · rw [if_neg e]
      have hnone : ¬ x - b < k → (sh.2.2.2.2 = false ∨ x - b < 20) → gCell sh b na R (x - b) = none := fun q w => by
        have hz : sh.2.2.1 (x - b) = 0 := by
          apply Classical.byContradiction
          intro z
          exact q (hk _ z)
        have e20 : ¬ (sh.2.2.2.2 = true ∧ 20 ≤ x - b) := by
          rintro ⟨y1, y2⟩
          rcases w with w | w
          · rw [w] at y1; cases y1
          · omega
        unfold gCell
        rw [if_neg e, hz, if_neg (show ¬ (0 : Nat) = 1 by decide), if_neg (show ¬ (0 : Nat) = 2 by decide), if_neg (show ¬ (0 : Nat) = 3 by decide), if_neg e20]
      by_cases d : x - b < 9
      · rw [if_pos d]
        by_cases f : x - b < k
        · rw [if_pos f]
        · rw [if_neg f, hnone f (Or.inr (by omega))]
      · rw [if_neg d]
        by_cases f : gKr k (x - b)
        · rw [if_pos f]
        · rw [if_neg f, hnone (by omega) (by
            rcases hk2 with w | w
            · right; unfold gKr at f; omega
            · exact Or.inl w)]
  · rw [if_neg c, if_neg c]
/-- the names that a cell of a block uses -/
theorem gCell_nk {sh : gS} {b : Nat} {na na2 : nA} {R : nMem} {i : Nat} (hi : i ≠ 9) (h2 : sh.2.2.1 i = 2 → ∀ r, r < 100 → na (b + (20 + r)) = na2 (b + (20 + r))) (h3 : sh.2.2.1 i = 3 → ∀ r, r < 100 → na (b + (120 + r)) = na2 (b + (120 + r))) : gCell sh b na R i = gCell sh b na2 R i := by
  unfold gCell
  rw [if_neg hi, if_neg hi]
  by_cases c1 : sh.2.2.1 i = 1
  · rw [if_pos c1, if_pos c1]
  · rw [if_neg c1, if_neg c1]
    by_cases c2 : sh.2.2.1 i = 2
    · rw [if_pos c2, if_pos c2]
      congr 8
      funext r
      by_cases q : r < 100
      · rw [if_pos q, if_pos q, h2 c2 r q]
      · rw [if_neg q, if_neg q]
    · rw [if_neg c2, if_neg c2]
      by_cases c3 : sh.2.2.1 i = 3
      · rw [if_pos c3, if_pos c3]
        congr 8
        funext r
        by_cases q : r < 100
        · rw [if_pos q, if_pos q, h3 c3 r q]
        · rw [if_neg q, if_neg q]
      · rw [if_neg c3, if_neg c3]
theorem gKfs_step {sh : gS} {b : Nat} {na na2 : nA} {R : nMem} {k q : Nat} (hkl : k < sh.2.1) (hk1 : ¬ sh.2.2.1 k = 0) (hq : na2 (b + k) = q) (hn : ∀ j, j < k → na2 (b + j) = na (b + j)) : (gKfs sh b na R k).set k (.ref q) = gKfs sh b na2 R (k + 1) := by
  apply List.ext_getElem?
  intro j
  by_cases e : j = k
  · rw [e, List.getElem?_set_self (by rw [gKfs_len]; exact hkl), gKfs_at hkl, if_neg hk1, if_pos (by omega), hq]
  · rw [List.getElem?_set_ne (Ne.symm e)]
    by_cases hj : j < sh.2.1
    · rw [gKfs_at hj, gKfs_at hj]
      by_cases c : sh.2.2.1 j = 0
      · rw [if_pos c, if_pos c]
      · rw [if_neg c, if_neg c]
        by_cases d : j < k
        · rw [if_pos d, if_pos (by omega), hn j d]
        · rw [if_neg d, if_neg (by omega)]
    · rw [List.getElem?_eq_none (by rw [gKfs_len]; omega), List.getElem?_eq_none (by rw [gKfs_len]; omega)]
section NCON
variable {K : nK} {na : nA} {h : nH} {R : nMem} {sh : gS} {b cells slots : Nat} {Q : State → Prop} {cc : ByteArray} {nL pc idx a : Nat} {own C : String} {T : u_T} {ty0 : Nat → FieldType} {ret : Option FieldType} {rm : Room} {L : List (Option Value)} {st : List Value}
/-- an int array made, and put into its field -/
theorem k_arr (hC : nC K cc nL own ret rm) (gw : gW sh C T ty0) (k : Nat) (hkl : k < sh.2.1) (hk1 : sh.2.2.1 k = 1) (hnn : ∀ j, j < k → ¬ sh.2.2.1 j = 2 ∧ ¬ sh.2.2.1 j = 3) (hk4 : k ≤ 3) {n : Int32} (hdg1 : decode cc pc = .ok (.newarray .int, 2)) (hn : ¬ n < 0) (hN : n.toNatClampNeg = sh.2.2.2.1 k) (hR : R k = fun _ => 0)
    (hq : Cond.fieldLink own idx C (T k).2.1 (T k).2.2.1 ∈ lw_all) (hdg2 : decode cc (pc + 2) = .ok (.putfield idx, 3)) (hka : na (b + 9) = a) (hfin : (T k).2.2.2 = true) (hin2 : K.2.2.2.2.2.2.2.2.1.name = "<init>") (hown : C = own) (hd : parseFieldDescriptor (T k).2.2.1 = some (.array .int)) (hce : cells + 1 ≤ rm.cells) (hsl : slots + sh.2.2.2.1 k ≤ rm.slots)
    (kt : ∀ na2 : nA, (∀ x, x ≠ b + k → na2 x = na x) → WN K na2 (gK sh b na2 h R (k + 1)) (cells + 1) (slots + sh.2.2.2.1 k) Q (pc + 2 + 3) L st) : WN K na (gK sh b na h R k) cells slots Q pc L (.int n :: .ref a :: st) := by
  have hN9 := gw.2.2.2.2.2.1
  have hlen : sh.2.2.2.1 k ≤ 5040 := by
    have := gw.2.2.2.2.2.2 k
    unfold gL at this
    rw [if_pos hk1] at this
    exact this
  refine n_newarr hC (atype := .int) (t := 0) (a0 := (sh.2.2.2.1 k, .inl (fun _ => 0))) q134 (fun d => rfl) hdg1 (b + k) (by rw [gK_in (by omega)]; unfold gKc; rw [if_neg (by omega), if_pos (by omega), if_neg (by omega)]) (fun cA => rfl) hn hN (by show sh.2.2.2.1 k * 4 ≤ _; omega) hce hsl (fun q => ?_)
  have hoth : ∀ x, x ≠ b + k → nua na (b + k) q x = na x := fun x hx => nua_n hx
  refine n_putF hC gw.2.1 ty0 gw.2.2.2.1 gw.2.2.2.2.1 k hq hdg2 (kk := b + 9) ((hoth _ (by omega)).trans hka) ((nup_n (by omega)).trans gK_o) gw.1 hkl (gw.2.2.1 k hkl) hfin hin2 ((gw.2.2.1 k hkl).trans hown) hd rfl rfl (by rw [gKfs_len]; exact hkl) ?_
  have e : nup (nup (gK sh b na h R k) (b + k) (.inl (0, sh.2.2.2.1 k, .inl (fun _ => 0)))) (b + 9) (.inr (sh.1, (gKfs sh b na R k).set k (.ref q))) = gK sh b (nua na (b + k) q) h R (k + 1) := by
    rw [gKfs_step (na2 := nua na (b + k) q) hkl (by rw [hk1]; decide) (nua_s _ _ _) (fun j hj => hoth _ (by omega))]
    funext x
    by_cases e9 : x = b + 9
    · rw [e9, nup_s, gK_o]
    · rw [nup_n e9]
      by_cases ek : x = b + k
      · rw [ek, nup_s, gK_in (by omega)]
        unfold gKc
        rw [if_neg (by omega), if_pos (by omega), if_pos (by omega)]
        unfold gCell
        rw [if_neg (by omega), if_pos hk1, hR]
      · rw [nup_n ek]
        unfold gK
        by_cases c : b ≤ x ∧ x < b + 220
        · rw [if_pos c, if_pos c]
          unfold gKc
          rw [if_neg (show ¬ x - b = 9 by omega), if_neg (show ¬ x - b = 9 by omega)]
          by_cases d : x - b < 9
          · rw [if_pos d, if_pos d]
            by_cases f : x - b < k
            · rw [if_pos f, if_pos (by omega)]
              exact gCell_nk (by omega) (fun w => absurd w (hnn _ f).1) (fun w => absurd w (hnn _ f).2)
            · rw [if_neg f, if_neg (by omega)]
          · rw [if_neg d, if_neg d, if_neg (by unfold gKr; omega), if_neg (by unfold gKr; omega)]
        · rw [if_neg c, if_neg c]
  rw [e]
  exact kt _ hoth
/-- a final int field -/
theorem k_putI (hC : nC K cc nL own ret rm) (gw : gW sh C T ty0) {k : Nat} (j : Nat) {x : Int32} {R2 : nMem} (hq : Cond.fieldLink own idx C (T j).2.1 (T j).2.2.1 ∈ lw_all) (hdg : decode cc pc = .ok (.putfield idx, 3)) (hka : na (b + 9) = a) (hl : j < sh.2.1) (hj : sh.2.2.1 j = 0) (hfin : (T j).2.2.2 = true) (hin2 : K.2.2.2.2.2.2.2.2.1.name = "<init>") (hown : C = own) (hd : parseFieldDescriptor (T j).2.2.1 = some .int) (hM : mset R j (fun _ => x) = R2)
    (kt : WN K na (gK sh b na h R2 k) cells slots Q (pc + 3) L st) : WN K na (gK sh b na h R k) cells slots Q pc L (.int x :: .ref a :: st) := by
  subst hM
  have hN9 := gw.2.2.2.2.2.1
  refine n_putF hC gw.2.1 ty0 gw.2.2.2.1 gw.2.2.2.2.1 j hq hdg hka gK_o gw.1 hl (gw.2.2.1 j hl) hfin hin2 ((gw.2.2.1 j hl).trans hown) hd rfl rfl (by rw [gKfs_len]; exact hl) ?_
  have e : nup (gK sh b na h R k) (b + 9) (.inr (sh.1, (gKfs sh b na R k).set j (.int x))) = gK sh b na h (mset R j (fun _ => x)) k := by
    funext y
    by_cases e9 : y = b + 9
    · rw [e9, nup_s, gK_o]
      congr 3
      apply List.ext_getElem?
      intro i
      by_cases q : i = j
      · rw [q, List.getElem?_set_self (by rw [gKfs_len]; exact hl), gKfs_at hl, if_pos hj, mset_s]
      · rw [List.getElem?_set_ne (Ne.symm q)]
        by_cases hi : i < sh.2.1
        · rw [gKfs_at hi, gKfs_at hi, mset_n q]
        · rw [List.getElem?_eq_none (by rw [gKfs_len]; omega), List.getElem?_eq_none (by rw [gKfs_len]; omega)]
    · rw [nup_n e9]
      unfold gK
      by_cases c : b ≤ y ∧ y < b + 220
      · rw [if_pos c, if_pos c]
        have en : y - b = j → gCell sh b na R (y - b) = gCell sh b na (mset R j (fun _ => x)) (y - b) := fun z => by
          have e20 : ¬ (sh.2.2.2.2 = true ∧ 20 ≤ j) := fun w => by have := w.2; omega
          have g0 : ∀ S : nMem, gCell sh b na S j = none := fun S => by
            unfold gCell
            rw [if_neg (show ¬ j = 9 by omega), hj, if_neg (show ¬ (0 : Nat) = 1 by decide), if_neg (show ¬ (0 : Nat) = 2 by decide), if_neg (show ¬ (0 : Nat) = 3 by decide), if_neg e20]
          rw [z, g0, g0]
        have eo : y - b ≠ j → gCell sh b na R (y - b) = gCell sh b na (mset R j (fun _ => x)) (y - b) := fun z => by
          unfold gCell
          rw [if_neg (show ¬ y - b = 9 by omega), if_neg (show ¬ y - b = 9 by omega), mset_n z]
        have ec : gCell sh b na R (y - b) = gCell sh b na (mset R j (fun _ => x)) (y - b) := by
          by_cases z : y - b = j
          · exact en z
          · exact eo z
        unfold gKc
        rw [if_neg (show ¬ y - b = 9 by omega), if_neg (show ¬ y - b = 9 by omega), ec]
      · rw [if_neg c, if_neg c]
  rw [e]
  exact kt
/-- an array of int arrays made, and put into its field -/
theorem k_grid (hC : nC K cc nL own ret rm) (gw : gW sh C T ty0) (k o : Nat) (ho : (k = 4 ∧ o = 20 ∧ sh.2.2.1 k = 2) ∨ (k = 5 ∧ o = 120 ∧ sh.2.2.1 k = 3)) (hsh : sh.2.2.2.2 = true) (hz : ∀ i, 20 ≤ i → sh.2.2.1 i = 0) (hkl : k < sh.2.1) (hk23 : ∀ j, j < k → j ≠ 4 → ¬ sh.2.2.1 j = 2 ∧ ¬ sh.2.2.1 j = 3) (hk4 : 4 < k → sh.2.2.1 4 = 2) {n m : Int32} {idx1 : Nat} (hcl : Cond.classLink own idx1 "[[I" ∈ lw_all) (hdg1 : decode cc pc = .ok (.multianewarray idx1 2, 4)) (hn : ¬ n < 0) (hm : ¬ m < 0) (hN : n.toNatClampNeg = 100) (hM : m.toNatClampNeg = 9) (hR : ∀ i, 20 ≤ i → R i = fun _ => 0)
    (hq : Cond.fieldLink own idx C (T k).2.1 (T k).2.2.1 ∈ lw_all) (hdg2 : decode cc (pc + 4) = .ok (.putfield idx, 3)) (hka : na (b + 9) = a) (hfin : (T k).2.2.2 = true) (hin2 : K.2.2.2.2.2.2.2.2.1.name = "<init>") (hown : C = own) (hd : parseFieldDescriptor (T k).2.2.1 = some (.array (.array .int))) (hce : cells + 101 ≤ rm.cells) (hsl : slots + 1000 ≤ rm.slots)
    (kt : ∀ na2 : nA, (∀ x, ¬ (b ≤ x ∧ x < b + 220 ∧ x ≠ b + 9) → na2 x = na x) → WN K na2 (gK sh b na2 h R (k + 1)) (cells + 101) (slots + 1000) Q (pc + 4 + 3) L st) : WN K na (gK sh b na h R k) cells slots Q pc L (.int m :: .int n :: .ref a :: st) := by
  have hk9 : k < 9 ∧ 20 ≤ o ∧ o ≤ 120 := by rcases ho with ⟨rfl, rfl, -⟩ | ⟨rfl, rfl, -⟩ <;> decide
  refine n_grid hC hcl q134 hdg1 (b + k) (b + o) hn hm hN hM (by decide) (by decide) (by omega) (fun j hj => ?_) hce hsl (fun na2 hna => ?_)
  · unfold grS at hj
    rw [Bool.or_eq_true, decide_eq_true_iff, Bool.and_eq_true, decide_eq_true_iff, decide_eq_true_iff] at hj
    rcases hj with hj | hj
    · rw [hj, gK_in (by omega)]
      unfold gKc
      rw [if_neg (by omega), if_pos (by omega), if_neg (by omega)]
    · rw [show j = b + (j - b) by omega, gK_in (by omega)]
      unfold gKc
      rw [if_neg (by omega), if_neg (by omega), if_neg (by unfold gKr; rcases ho with ⟨rfl, rfl, -⟩ | ⟨rfl, rfl, -⟩ <;> omega)]
  · have hoth : ∀ x, x ≠ b + k → ¬ (b + o ≤ x ∧ x < b + o + 100) → na2 x = na x := fun x h1 h2 => hna x (by
      unfold grS
      rw [decide_eq_false h1, Bool.false_or]
      cases e : decide (b + o ≤ x) && decide (x < b + o + 100) with
      | false => rfl
      | true =>
        rw [Bool.and_eq_true, decide_eq_true_iff, decide_eq_true_iff] at e
        exact absurd e h2)
    refine n_putF hC gw.2.1 ty0 gw.2.2.2.1 gw.2.2.2.2.1 k hq hdg2 (kk := b + 9) ((hoth _ (by omega) (by omega)).trans hka) (by
      rw [if_neg (by omega), if_neg (by
        unfold grS
        rw [decide_eq_false (show ¬ b + 9 = b + k by omega), decide_eq_false (show ¬ b + o ≤ b + 9 by omega)]
        simp)]
      exact gK_o) gw.1 hkl (gw.2.2.1 k hkl) hfin hin2 ((gw.2.2.1 k hkl).trans hown) hd rfl rfl (by rw [gKfs_len]; exact hkl) ?_
    have hnz : ¬ sh.2.2.1 k = 0 := by rcases ho with ⟨-, -, w⟩ | ⟨-, -, w⟩ <;> rw [w] <;> decide
    have e : nup (fun j => if j = b + k then some (.inl (5, 100, .inr (.inr (.inr (.inr (fun r => if r < 100 then some (na2 (b + o + r)) else none)))))) else if grS (b + k) (b + o) 100 j = true then some (.inl (0, 9, .inl (fun _ => 0))) else gK sh b na h R k j) (b + 9) (.inr (sh.1, (gKfs sh b na R k).set k (.ref (na2 (b + k))))) = gK sh b na2 h R (k + 1) := by
      rw [gKfs_step (na2 := na2) hkl hnz rfl (fun j hj => hoth _ (by omega) (by omega))]
      funext x
      by_cases e9 : x = b + 9
      · rw [e9, nup_s, gK_o]
      · rw [nup_n e9]
        by_cases ek : x = b + k
        · rw [if_pos ek, ek, gK_in (by omega)]
          unfold gKc
          rw [if_neg (by omega), if_pos (by omega), if_pos (by omega)]
          unfold gCell
          rw [if_neg (by omega)]
          rcases ho with ⟨-, ro, w⟩ | ⟨-, ro, w⟩
          · rw [w, if_neg (by decide), if_pos rfl, ro]
            simp only [Nat.add_assoc]
          · rw [w, if_neg (by decide), if_neg (by decide), if_pos rfl, ro]
            simp only [Nat.add_assoc]
        · rw [if_neg ek]
          by_cases er : b + o ≤ x ∧ x < b + o + 100
          · rw [if_pos (by unfold grS; rw [decide_eq_true er.1, decide_eq_true er.2]; simp)]
            have hx : x = b + (x - b) := by omega
            rw [hx, gK_in (by omega)]
            unfold gKc
            rw [if_neg (by omega), if_neg (by omega), if_pos (by unfold gKr; rcases ho with ⟨rfl, rfl, -⟩ | ⟨rfl, rfl, -⟩ <;> omega)]
            unfold gCell
            rw [if_neg (by omega), hz _ (by omega), if_neg (by decide), if_neg (by decide), if_neg (by decide), if_pos ⟨hsh, by omega⟩, hR _ (by omega)]
          · rw [if_neg (by
              unfold grS
              rw [decide_eq_false ek, Bool.false_or, Bool.and_eq_true, decide_eq_true_iff, decide_eq_true_iff]
              exact er)]
            unfold gK
            by_cases c : b ≤ x ∧ x < b + 220
            · rw [if_pos c, if_pos c]
              unfold gKc
              rw [if_neg (show ¬ x - b = 9 by omega), if_neg (show ¬ x - b = 9 by omega)]
              by_cases d : x - b < 9
              · rw [if_pos d, if_pos d]
                by_cases f : x - b < k
                · rw [if_pos f, if_pos (by omega)]
                  refine gCell_nk (by omega) (fun w r hr => (hoth _ (by omega) ?_).symm) (fun w r hr => (hoth _ (by omega) ?_).symm)
                  · rcases ho with ⟨rfl, rfl, -⟩ | ⟨rfl, rfl, -⟩
                    · exact absurd w (hk23 _ f (by omega)).1
                    · omega
                  · exact absurd w (by
                      by_cases z : x - b = 4
                      · rw [z, hk4 (by omega)]; decide
                      · exact (hk23 _ f z).2)
                · rw [if_neg f, if_neg (by omega)]
              · rw [if_neg d, if_neg d]
                by_cases f : gKr k (x - b)
                · rw [if_pos f, if_pos (by unfold gKr at *; omega)]
                  exact gCell_nk (by omega) (fun w => by rw [hz _ (by unfold gKr at f; omega)] at w; cases w) (fun w => by rw [hz _ (by unfold gKr at f; omega)] at w; cases w)
                · rw [if_neg f, if_neg (by unfold gKr at *; rcases ho with ⟨rfl, rfl, -⟩ | ⟨rfl, rfl, -⟩ <;> omega)]
            · rw [if_neg c, if_neg c]
    rw [e]
    refine kt na2 (fun x hx => hoth x ?_ ?_)
    · intro z; exact hx (by omega)
    · intro z; exact hx (by omega)
end NCON
/-- a block, new -/
def gNew (sh : gS) (b : Nat) (na : nA) (h : nH) (P : nMem → Prop) : nA → nH → Prop := fun na' h' => (∀ x, ¬ (b ≤ x ∧ x < b + 220 ∧ x ≠ b + 9) → na' x = na x) ∧ ∃ R2, gPut sh b na' h R2 = h' ∧ P R2
