/-! ===== NUMBERS ON THE STACK, and THE REFERENCE's MEMORY ===== -/
set_option maxRecDepth 100000
def nbo (b : Bool) : Int32 := if b = true then 1 else 0
theorem nbo_t {b : Bool} : ¬ nbo b = 0 ↔ b = true := by cases b <;> decide
theorem nbo_f {b : Bool} : nbo b = 0 ↔ b = false := by cases b <;> decide
theorem nbo_nar (b : Bool) : narrow .boolean (.int (nbo b)) = .int (nbo b) := by cases b <;> rfl
section NNUM
variable {K : nK} {na : nA} {h : nH} {cells slots : Nat} {Q : State → Prop} {cc : ByteArray} {nL pc : Nat} {own : String} {ret : Option FieldType} {rm : Room} {L : List (Option Value)} {st : List Value}
theorem n_iaddN (hC : nC K cc nL own ret rm) {a b c : Nat} (hdg : decode cc pc = .ok (.iadd, 1)) (hc : a + b = c) (k : WN K na h cells slots Q (pc + 1) L (.int (nI c) :: st)) : WN K na h cells slots Q (pc) L (.int (nI b) :: .int (nI a) :: st) := by
  refine n_iadd hC hdg ?_
  rw [nI_add, hc]
  exact k
theorem n_isubN (hC : nC K cc nL own ret rm) {a b c : Nat} (hdg : decode cc pc = .ok (.isub, 1)) (hba : b ≤ a) (hc : a - b = c) (k : WN K na h cells slots Q (pc + 1) L (.int (nI c) :: st)) : WN K na h cells slots Q (pc) L (.int (nI b) :: .int (nI a) :: st) := by
  refine n_isub hC hdg ?_
  rw [pk_sub hba, hc]
  exact k
theorem n_imulN (hC : nC K cc nL own ret rm) {a b c : Nat} (hdg : decode cc pc = .ok (.imul, 1)) (hc : a * b = c) (k : WN K na h cells slots Q (pc + 1) L (.int (nI c) :: st)) : WN K na h cells slots Q (pc) L (.int (nI b) :: .int (nI a) :: st) := by
  refine n_imul hC hdg ?_
  rw [pk_mul, hc]
  exact k
theorem n_idivN (hC : nC K cc nL own ret rm) {a b c : Nat} (hdg : decode cc pc = .ok (.idiv, 1)) (h0 : 0 < b) (ha : a < 2 ^ 31) (hb : b < 2 ^ 31) (hc : a / b = c) (k : WN K na h cells slots Q (pc + 1) L (.int (nI c) :: st)) : WN K na h cells slots Q (pc) L (.int (nI b) :: .int (nI a) :: st) := by
  refine n_idiv hC hdg (nI_ne0 h0 hb) ?_
  rw [pk_div ha h0 hb, hc]
  exact k
theorem n_iremN (hC : nC K cc nL own ret rm) {a b c : Nat} (hdg : decode cc pc = .ok (.irem, 1)) (h0 : 0 < b) (ha : a < 2 ^ 31) (hb : b < 2 ^ 31) (hc : a % b = c) (k : WN K na h cells slots Q (pc + 1) L (.int (nI c) :: st)) : WN K na h cells slots Q (pc) L (.int (nI b) :: .int (nI a) :: st) := by
  refine n_irem hC hdg (nI_ne0 h0 hb) ?_
  rw [pk_rem ha h0 hb, hc]
  exact k
theorem n_iincN (hC : nC K cc nL own ret rm) {i a c j : Nat} {n : Int} (hdg : decode cc pc = .ok (.iinc i n, 3)) (hv : L[i]? = some (some (.int (nI a)))) (hj : Int32.ofInt n = nI j) (hc : a + j = c) (k : WN K na h cells slots Q (pc + 3) (L.set i (some (.int (nI c)))) (st)) : WN K na h cells slots Q (pc) L (st) := by
  refine n_iinc hC hdg hv ?_ k
  rw [hj, nI_add, hc]
theorem n_idecN (hC : nC K cc nL own ret rm) {i a c : Nat} (hdg : decode cc pc = .ok (.iinc i (-1), 3)) (hv : L[i]? = some (some (.int (nI a)))) (h1 : 1 ≤ a) (hc : a - 1 = c) (k : WN K na h cells slots Q (pc + 3) (L.set i (some (.int (nI c)))) (st)) : WN K na h cells slots Q (pc) L (st) := by
  refine n_iinc hC hdg hv ?_ k
  obtain ⟨z, rfl⟩ : ∃ z, a = z + 1 := ⟨a - 1, by omega⟩
  subst hc
  exact pk_m1 z
theorem n_icmp_eqN (hC : nC K cc nL own ret rm) {a b : Nat} {off : Int} {tgt : Nat} (hdg : decode cc pc = .ok (.if_icmp .eq off, 3)) (ht : (pc : Int) + off = (tgt : Int)) (ha : a < 2 ^ 31) (hb : b < 2 ^ 31)
    (kt : a = b → WN K na h cells slots Q (tgt) L (st)) (kf : a ≠ b → WN K na h cells slots Q (pc + 3) L (st)) : WN K na h cells slots Q (pc) L (.int (nI b) :: .int (nI a) :: st) := by
  exact n_icmp_eq hC hdg ht (fun q => kt ((nI_eq ha hb).mp q)) (fun q => kf (fun z => q ((nI_eq ha hb).mpr z)))
theorem n_icmp_neN (hC : nC K cc nL own ret rm) {a b : Nat} {off : Int} {tgt : Nat} (hdg : decode cc pc = .ok (.if_icmp .ne off, 3)) (ht : (pc : Int) + off = (tgt : Int)) (ha : a < 2 ^ 31) (hb : b < 2 ^ 31)
    (kt : a ≠ b → WN K na h cells slots Q (tgt) L (st)) (kf : a = b → WN K na h cells slots Q (pc + 3) L (st)) : WN K na h cells slots Q (pc) L (.int (nI b) :: .int (nI a) :: st) := by
  exact n_icmp_ne hC hdg ht (fun q => kt (fun z => q ((nI_eq ha hb).mpr z))) (fun q => kf ((nI_eq ha hb).mp q))
theorem n_icmp_ltN (hC : nC K cc nL own ret rm) {a b : Nat} {off : Int} {tgt : Nat} (hdg : decode cc pc = .ok (.if_icmp .lt off, 3)) (ht : (pc : Int) + off = (tgt : Int)) (ha : a < 2 ^ 31) (hb : b < 2 ^ 31)
    (kt : a < b → WN K na h cells slots Q (tgt) L (st)) (kf : b ≤ a → WN K na h cells slots Q (pc + 3) L (st)) : WN K na h cells slots Q (pc) L (.int (nI b) :: .int (nI a) :: st) := by
  exact n_icmp_lt hC hdg ht (fun q => kt ((nI_ltI ha hb).mp q)) (fun q => kf (Nat.not_lt.mp fun z => q ((nI_ltI ha hb).mpr z)))
theorem n_icmp_geN (hC : nC K cc nL own ret rm) {a b : Nat} {off : Int} {tgt : Nat} (hdg : decode cc pc = .ok (.if_icmp .ge off, 3)) (ht : (pc : Int) + off = (tgt : Int)) (ha : a < 2 ^ 31) (hb : b < 2 ^ 31)
    (kt : b ≤ a → WN K na h cells slots Q (tgt) L (st)) (kf : a < b → WN K na h cells slots Q (pc + 3) L (st)) : WN K na h cells slots Q (pc) L (.int (nI b) :: .int (nI a) :: st) := by
  exact n_icmp_ge hC hdg ht (fun q => kt ((nI_leI hb ha).mp q)) (fun q => kf (Nat.not_le.mp fun z => q ((nI_leI hb ha).mpr z)))
theorem n_icmp_gtN (hC : nC K cc nL own ret rm) {a b : Nat} {off : Int} {tgt : Nat} (hdg : decode cc pc = .ok (.if_icmp .gt off, 3)) (ht : (pc : Int) + off = (tgt : Int)) (ha : a < 2 ^ 31) (hb : b < 2 ^ 31)
    (kt : b < a → WN K na h cells slots Q (tgt) L (st)) (kf : a ≤ b → WN K na h cells slots Q (pc + 3) L (st)) : WN K na h cells slots Q (pc) L (.int (nI b) :: .int (nI a) :: st) := by
  exact n_icmp_gt hC hdg ht (fun q => kt ((nI_ltI hb ha).mp q)) (fun q => kf (Nat.not_lt.mp fun z => q ((nI_ltI hb ha).mpr z)))
theorem n_icmp_leN (hC : nC K cc nL own ret rm) {a b : Nat} {off : Int} {tgt : Nat} (hdg : decode cc pc = .ok (.if_icmp .le off, 3)) (ht : (pc : Int) + off = (tgt : Int)) (ha : a < 2 ^ 31) (hb : b < 2 ^ 31)
    (kt : a ≤ b → WN K na h cells slots Q (tgt) L (st)) (kf : b < a → WN K na h cells slots Q (pc + 3) L (st)) : WN K na h cells slots Q (pc) L (.int (nI b) :: .int (nI a) :: st) := by
  exact n_icmp_le hC hdg ht (fun q => kt ((nI_leI ha hb).mp q)) (fun q => kf (Nat.not_le.mp fun z => q ((nI_leI ha hb).mpr z)))
theorem n_if_eqN (hC : nC K cc nL own ret rm) {a : Nat} {off : Int} {tgt : Nat} (hdg : decode cc pc = .ok (.ifCond .eq off, 3)) (ht : (pc : Int) + off = (tgt : Int)) (ha : a < 2 ^ 31)
    (kt : a = 0 → WN K na h cells slots Q (tgt) L (st)) (kf : a ≠ 0 → WN K na h cells slots Q (pc + 3) L (st)) : WN K na h cells slots Q (pc) L (.int (nI a) :: st) := by
  exact n_if_eq hC hdg ht (fun q => kt ((nI_eq ha (by decide)).mp q)) (fun q => kf (fun z => q (by rw [z]; rfl)))
theorem n_if_neN (hC : nC K cc nL own ret rm) {a : Nat} {off : Int} {tgt : Nat} (hdg : decode cc pc = .ok (.ifCond .ne off, 3)) (ht : (pc : Int) + off = (tgt : Int)) (ha : a < 2 ^ 31)
    (kt : a ≠ 0 → WN K na h cells slots Q (tgt) L (st)) (kf : a = 0 → WN K na h cells slots Q (pc + 3) L (st)) : WN K na h cells slots Q (pc) L (.int (nI a) :: st) := by
  exact n_if_ne hC hdg ht (fun q => kt (fun z => q (by rw [z]; rfl))) (fun q => kf ((nI_eq ha (by decide)).mp q))
theorem n_if_gtN (hC : nC K cc nL own ret rm) {a : Nat} {off : Int} {tgt : Nat} (hdg : decode cc pc = .ok (.ifCond .gt off, 3)) (ht : (pc : Int) + off = (tgt : Int)) (ha : a < 2 ^ 31)
    (kt : 0 < a → WN K na h cells slots Q (tgt) L (st)) (kf : a = 0 → WN K na h cells slots Q (pc + 3) L (st)) : WN K na h cells slots Q (pc) L (.int (nI a) :: st) := by
  exact n_if_gt hC hdg ht (fun q => kt (Nat.pos_of_ne_zero fun z => (by subst z; exact absurd q (by decide)))) (fun q => kf (Nat.eq_zero_of_not_pos fun z => q ((nI_ltI (by decide) ha).mpr z)))
theorem n_if_leN (hC : nC K cc nL own ret rm) {a : Nat} {off : Int} {tgt : Nat} (hdg : decode cc pc = .ok (.ifCond .le off, 3)) (ht : (pc : Int) + off = (tgt : Int)) (ha : a < 2 ^ 31)
    (kt : a = 0 → WN K na h cells slots Q (tgt) L (st)) (kf : 0 < a → WN K na h cells slots Q (pc + 3) L (st)) : WN K na h cells slots Q (pc) L (.int (nI a) :: st) := by
  exact n_if_le hC hdg ht (fun q => kt (Nat.eq_zero_of_le_zero ((nI_leI ha (by decide)).mp q))) (fun q => kf (Nat.pos_of_ne_zero fun z => q (by subst z; decide)))
theorem n_if_ltN (hC : nC K cc nL own ret rm) {a : Nat} {off : Int} {tgt : Nat} (hdg : decode cc pc = .ok (.ifCond .lt off, 3)) (ht : (pc : Int) + off = (tgt : Int)) (ha : a < 2 ^ 31) (k : WN K na h cells slots Q (pc + 3) L (st)) : WN K na h cells slots Q (pc) L (.int (nI a) :: st) := by
  exact n_if_lt hC hdg ht (fun q => absurd q (nI_pos ha)) (fun _ => k)
theorem n_if_geN (hC : nC K cc nL own ret rm) {a : Nat} {off : Int} {tgt : Nat} (hdg : decode cc pc = .ok (.ifCond .ge off, 3)) (ht : (pc : Int) + off = (tgt : Int)) (ha : a < 2 ^ 31) (k : WN K na h cells slots Q (tgt) L (st)) : WN K na h cells slots Q (pc) L (.int (nI a) :: st) := by
  exact n_if_ge hC hdg ht (fun _ => k) (fun q => absurd (nI_pos' ha) q)
theorem n_if_eqB (hC : nC K cc nL own ret rm) {b : Bool} {off : Int} {tgt : Nat} (hdg : decode cc pc = .ok (.ifCond .eq off, 3)) (ht : (pc : Int) + off = (tgt : Int))
    (kt : b = false → WN K na h cells slots Q (tgt) L (st)) (kf : b = true → WN K na h cells slots Q (pc + 3) L (st)) : WN K na h cells slots Q (pc) L (.int (nbo b) :: st) := by
  exact n_if_eq hC hdg ht (fun q => kt (nbo_f.mp q)) (fun q => kf (nbo_t.mp q))
theorem n_if_eqD (hC : nC K cc nL own ret rm) {P : Prop} [dP : Decidable P] {off : Int} {tgt : Nat} (hdg : decode cc pc = .ok (.ifCond .eq off, 3)) (ht : (pc : Int) + off = (tgt : Int))
    (kt : ¬ P → WN K na h cells slots Q (tgt) L (st)) (kf : P → WN K na h cells slots Q (pc + 3) L (st)) : WN K na h cells slots Q (pc) L (.int (nbo (decide P)) :: st) := by
  exact n_if_eq hC hdg ht (fun q => kt (of_decide_eq_false (nbo_f.mp q))) (fun q => kf (of_decide_eq_true (nbo_t.mp q)))
theorem n_if_neB (hC : nC K cc nL own ret rm) {b : Bool} {off : Int} {tgt : Nat} (hdg : decode cc pc = .ok (.ifCond .ne off, 3)) (ht : (pc : Int) + off = (tgt : Int))
    (kt : b = true → WN K na h cells slots Q (tgt) L (st)) (kf : b = false → WN K na h cells slots Q (pc + 3) L (st)) : WN K na h cells slots Q (pc) L (.int (nbo b) :: st) := by
  exact n_if_ne hC hdg ht (fun q => kt (nbo_t.mp q)) (fun q => kf (nbo_f.mp q))
theorem n_if_neD (hC : nC K cc nL own ret rm) {P : Prop} [dP : Decidable P] {off : Int} {tgt : Nat} (hdg : decode cc pc = .ok (.ifCond .ne off, 3)) (ht : (pc : Int) + off = (tgt : Int))
    (kt : P → WN K na h cells slots Q (tgt) L (st)) (kf : ¬ P → WN K na h cells slots Q (pc + 3) L (st)) : WN K na h cells slots Q (pc) L (.int (nbo (decide P)) :: st) := by
  exact n_if_ne hC hdg ht (fun q => kt (of_decide_eq_true (nbo_t.mp q))) (fun q => kf (of_decide_eq_false (nbo_f.mp q)))
end NNUM
def nsub : List (Option Value) → List (Option Value) → Prop
  | [], [] => True
  | a :: l, b :: m => (a = none ∨ a = b) ∧ nsub l m
  | _, _ => False
theorem nsub_ok : ∀ {L' L : List (Option Value)}, nsub L' L → L'.length = L.length ∧ ∀ (i : Nat) (v : Value), L'[i]? = some (some v) → L[i]? = some (some v)
  | [], [], _ => ⟨rfl, fun i v h => h⟩
  | a :: l, b :: m, h => by
    obtain ⟨h1, h2⟩ := nsub_ok h.2
    refine ⟨by rw [List.length_cons, List.length_cons, h1], fun i v hi => ?_⟩
    cases i with
    | zero =>
      rw [List.getElem?_cons_zero] at hi ⊢
      rcases h.1 with q | q
      · rw [q] at hi; cases hi
      · rw [← q]; exact hi
    | succ i =>
      rw [List.getElem?_cons_succ] at hi ⊢
      exact h2 i v hi
  | [], _ :: _, h => h.elim
  | _ :: _, [], h => h.elim
theorem WN.forget {K : nK} {na : nA} {h : nH} {cells slots : Nat} {Q : State → Prop} {pc : Nat} {L L' : List (Option Value)} {st : List Value} (hs : nsub L' L) (k : WN K na h cells slots Q pc L' st) : WN K na h cells slots Q pc L st := WN.locals (nsub_ok hs).1 (nsub_ok hs).2 k
def mIsA : Nat → Bool := fun k => [false, false, true, true, true, true, true, true, true, true, true, false, true, true, false, false, true, true, true, true, false, true, true, true, true, true, false, false, true, true, true, false, false, true, true, true, true, false, false, true, true, true, false, false, true, true, true, true, true, false, true, true, true, true, false, false, true, true, true, true, true].getD k false
def mLen : Nat → Nat := fun k => [0, 0, 15, 15, 15, 9, 9, 9, 9, 9, 9, 0, 9, 9, 0, 0, 300, 9, 900, 900, 0, 40, 40, 40, 9, 9, 0, 0, 11, 3300, 80, 0, 0, 5, 5, 300, 300, 0, 0, 9, 9, 9, 0, 0, 7, 7, 5040, 5040, 64, 0, 7, 7, 7, 7, 0, 0, 20, 6, 6, 360, 60].getD k 0
def mIx : Nat → Nat := fun k => [7, 13, 16, 20, 23, 26, 29, 32, 35, 38, 41, 44, 48, 51, 54, 57, 60, 63, 66, 69, 72, 75, 78, 81, 84, 87, 90, 93, 96, 99, 102, 105, 108, 111, 114, 117, 120, 123, 126, 129, 132, 135, 138, 141, 144, 147, 150, 153, 156, 159, 162, 165, 168, 171, 174, 177, 180, 183, 186, 189, 192].getD k 0
abbrev nMem : Type := Nat → Nat → Int32
def mset (M : nMem) (k : Nat) (f : Nat → Int32) : nMem := fun j => if j = k then f else M j
theorem mset_s (M : nMem) (k : Nat) (f : Nat → Int32) : mset M k f k = f := by unfold mset; rw [if_pos rfl]
theorem mset_n {M : nMem} {k j : Nat} {f : Nat → Int32} (q : j ≠ k) : mset M k f j = M j := by unfold mset; rw [if_neg q]
theorem mset_ss (M : nMem) (k : Nat) (f g : Nat → Int32) : mset (mset M k f) k g = mset M k g := by
  funext j
  unfold mset
  by_cases q : j = k
  · rw [if_pos q, if_pos q]
  · rw [if_neg q, if_neg q, if_neg q]
theorem mset_comm {M : nMem} {k j : Nat} {f g : Nat → Int32} (q : j ≠ k) : mset (mset M k f) j g = mset (mset M j g) k f := by
  funext i
  unfold mset
  by_cases a : i = j
  · by_cases b : i = k
    · exact absurd (a.symm.trans b) q
    · rw [if_pos a, if_neg b, if_pos a]
  · by_cases b : i = k
    · rw [if_neg a, if_pos b, if_pos b]
    · rw [if_neg a, if_neg b, if_neg b, if_neg a]
theorem mset_id {M : nMem} {k : Nat} : mset M k (M k) = M := by
  funext j
  unfold mset
  by_cases q : j = k
  · rw [if_pos q, q]
  · rw [if_neg q]
def mfs (na : nA) (M : nMem) : List Value := (List.range 61).map fun j => if mIsA j = true then .ref (na j) else .int (M j 0)
def mCell (na : nA) (M : nMem) (k : Nat) : Option nV := if k = 61 then some (.inr (3, mfs na M)) else if mIsA k = true then some (.inl (0, mLen k, .inl (M k))) else none
/-- the heap h with the reference's object (name 61) and arrays (names of its fields) as M says -/
def mPut (na : nA) (h : nH) (M : nMem) : nH := fun k => if k < 62 then mCell na M k else h k
theorem mIsA_lt {k : Nat} (h : mIsA k = true) : k < 61 := by
  unfold mIsA at h
  by_cases q : k < 61
  · exact q
  · rw [List.getD_eq_getElem?_getD, List.getElem?_eq_none (by show 61 ≤ k; omega)] at h
    cases h
theorem mPut_o (na : nA) (h : nH) (M : nMem) : mPut na h M 61 = some (.inr (3, mfs na M)) := by
  unfold mPut mCell
  rw [if_pos (by decide), if_pos rfl]
theorem mPut_a {na : nA} {h : nH} {M : nMem} {k : Nat} (hk : mIsA k = true) : mPut na h M k = some (.inl (0, mLen k, .inl (M k))) := by
  have := mIsA_lt hk
  unfold mPut mCell
  rw [if_pos (by omega), if_neg (by omega), if_pos hk]
theorem mPut_h {na : nA} {h : nH} {M : nMem} {k : Nat} (hk : 62 ≤ k) : mPut na h M k = h k := by
  unfold mPut
  rw [if_neg (by omega)]
theorem mfs_len (na : nA) (M : nMem) : (mfs na M).length = 61 := by unfold mfs; rw [List.length_map, List.length_range]
theorem mfs_at {na : nA} {M : nMem} {j : Nat} (hj : j < 61) : (mfs na M)[j]? = some (if mIsA j = true then .ref (na j) else .int (M j 0)) := by
  unfold mfs
  rw [List.getElem?_map, List.getElem?_range hj]
  rfl
theorem mPut_setA {na : nA} {h : nH} {M : nMem} {k : Nat} {f : Nat → Int32} (hk : mIsA k = true) : nup (mPut na h M) k (.inl (0, mLen k, .inl f)) = mPut na h (mset M k f) := by
  have hl := mIsA_lt hk
  funext i
  by_cases q : i = k
  · rw [q, nup_s, mPut_a hk, mset_s]
  · rw [nup_n q]
    unfold mPut mCell
    by_cases a : i < 62
    · rw [if_pos a, if_pos a]
      by_cases b : i = 61
      · rw [if_pos b, if_pos b]
        have e : mfs na M = mfs na (mset M k f) := by
          apply List.ext_getElem?
          intro j
          by_cases hj : j < 61
          · rw [mfs_at hj, mfs_at hj]
            by_cases c : mIsA j = true
            · rw [if_pos c, if_pos c]
            · rw [if_neg c, if_neg c, mset_n (fun z : j = k => c (by rw [z]; exact hk))]
          · rw [List.getElem?_eq_none (by rw [mfs_len]; omega), List.getElem?_eq_none (by rw [mfs_len]; omega)]
        rw [e]
      · rw [if_neg b, if_neg b]
        by_cases c : mIsA i = true
        · rw [if_pos c, if_pos c, mset_n q]
        · rw [if_neg c, if_neg c]
    · rw [if_neg a, if_neg a]
theorem mPut_setI {na : nA} {h : nH} {M : nMem} {j : Nat} {x : Int32} (hj : mIsA j = false) (hl : j < 61) : nup (mPut na h M) 61 (.inr (3, (mfs na M).set j (.int x))) = mPut na h (mset M j (fun _ => x)) := by
  funext i
  by_cases q : i = 61
  · rw [q, nup_s, mPut_o]
    congr 3
    apply List.ext_getElem?
    intro n
    by_cases e : n = j
    · rw [e, List.getElem?_set_self (by rw [mfs_len]; exact hl), mfs_at hl, if_neg (by rw [hj]; decide), mset_s]
    · rw [List.getElem?_set_ne (Ne.symm e)]
      by_cases hn : n < 61
      · rw [mfs_at hn, mfs_at hn]
        by_cases c : mIsA n = true
        · rw [if_pos c, if_pos c]
        · rw [if_neg c, if_neg c, mset_n e]
      · rw [List.getElem?_eq_none (by rw [mfs_len]; omega), List.getElem?_eq_none (by rw [mfs_len]; omega)]
  · rw [nup_n q]
    unfold mPut mCell
    by_cases a : i < 62
    · rw [if_pos a, if_pos a, if_neg q, if_neg q]
      by_cases c : mIsA i = true
      · rw [if_pos c, if_pos c, mset_n (fun z => by rw [z, hj] at c; cases c)]
      · rw [if_neg c, if_neg c]
    · rw [if_neg a, if_neg a]
theorem mPut_mPut (na : nA) (h : nH) (M M' : nMem) : mPut na (mPut na h M) M' = mPut na h M' := by
  funext i
  unfold mPut
  by_cases a : i < 62
  · rw [if_pos a, if_pos a]
  · rw [if_neg a, if_neg a, if_neg a]
theorem mlk : ∀ j, j < 61 → Cond.fieldLink RX3 (mIx j) RX3 (TX3 j).2.1 (TX3 j).2.2.1 ∈ lw_all := fun j hj => match j, hj with
  | 0, _ => q1105
  | 1, _ => q1106
  | 2, _ => q1107
  | 3, _ => q1108
  | 4, _ => q1109
  | 5, _ => q1110
  | 6, _ => q1111
  | 7, _ => q1112
  | 8, _ => q1113
  | 9, _ => q1114
  | 10, _ => q1115
  | 11, _ => q1116
  | 12, _ => q1117
  | 13, _ => q1118
  | 14, _ => q1119
  | 15, _ => q1120
  | 16, _ => q1121
  | 17, _ => q1122
  | 18, _ => q1123
  | 19, _ => q1124
  | 20, _ => q1125
  | 21, _ => q1126
  | 22, _ => q1127
  | 23, _ => q1128
  | 24, _ => q1129
  | 25, _ => q1130
  | 26, _ => q1131
  | 27, _ => q1132
  | 28, _ => q1133
  | 29, _ => q1134
  | 30, _ => q1135
  | 31, _ => q1136
  | 32, _ => q1137
  | 33, _ => q1138
  | 34, _ => q1139
  | 35, _ => q1140
  | 36, _ => q1141
  | 37, _ => q1142
  | 38, _ => q1143
  | 39, _ => q1144
  | 40, _ => q1145
  | 41, _ => q1146
  | 42, _ => q1147
  | 43, _ => q1148
  | 44, _ => q1149
  | 45, _ => q1150
  | 46, _ => q1151
  | 47, _ => q1152
  | 48, _ => q1153
  | 49, _ => q1154
  | 50, _ => q1155
  | 51, _ => q1156
  | 52, _ => q1157
  | 53, _ => q1158
  | 54, _ => q1159
  | 55, _ => q1160
  | 56, _ => q1161
  | 57, _ => q1162
  | 58, _ => q1163
  | 59, _ => q1164
  | 60, _ => q1165
  | n + 61, h => absurd h (by omega)
theorem mTX : ∀ j, j < 61 → (TX3 j).1 = RX3 := by decide +kernel
theorem mLen_le (k : Nat) : mLen k ≤ 5040 := by
  by_cases q : k < 61
  · revert k; decide +kernel
  · unfold mLen
    rw [List.getD_eq_getElem?_getD, List.getElem?_eq_none (by show 61 ≤ k; omega)]
    decide
section NMEM
variable {K : nK} {na : nA} {h : nH} {M : nMem} {cells slots : Nat} {Q : State → Prop} {cc : ByteArray} {nL pc idx a : Nat} {ret : Option FieldType} {rm : Room} {L : List (Option Value)} {st : List Value}
theorem m_getA (hC : nC K cc nL RX3 ret rm) (j : Nat) (hdg : decode cc pc = .ok (.getfield (mIx j), 3)) (hk : na 61 = a) (hj : mIsA j = true) (k : WN K na (mPut na h M) cells slots Q (pc + 3) L (.ref (na j) :: st)) : WN K na (mPut na h M) cells slots Q pc L (.ref a :: st) :=
  n_get hC in_X3 j (mlk j (mIsA_lt hj)) hdg hk (mPut_o na h M) rfl (mIsA_lt hj) (by have h1 := mIsA_lt hj; exact mTX j h1) (by rw [mfs_at (mIsA_lt hj), if_pos hj]) k
theorem m_getI (hC : nC K cc nL RX3 ret rm) (j : Nat) {v : Int32} (hdg : decode cc pc = .ok (.getfield (mIx j), 3)) (hk : na 61 = a) (hj : mIsA j = false) (hl : j < 61) (hv : M j 0 = v) (k : WN K na (mPut na h M) cells slots Q (pc + 3) L (.int v :: st)) : WN K na (mPut na h M) cells slots Q pc L (.ref a :: st) :=
  n_get hC in_X3 j (mlk j hl) hdg hk (mPut_o na h M) rfl hl (mTX j hl) (by rw [mfs_at hl, if_neg (by rw [hj]; decide), hv]) k
theorem m_putI (hC : nC K cc nL RX3 ret rm) (j : Nat) {x : Int32} {M2 : nMem} (hdg : decode cc pc = .ok (.putfield (mIx j), 3)) (hk : na 61 = a) (hj : mIsA j = false) (hl : j < 61) (hfin : (TX3 j).2.2.2 = false) {ty : FieldType} (hty : parseFieldDescriptor (TX3 j).2.2.1 = some ty) (hn : narrow ty (.int x) = .int x) (hfit : fits ty (.int x) = true) (hM : mset M j (fun _ => x) = M2) (k : WN K na (mPut na h M2) cells slots Q (pc + 3) L st) : WN K na (mPut na h M) cells slots Q pc L (.int x :: .ref a :: st) := by
  subst hM
  refine n_put hC in_X3 tyX3 tyX3_ok nmX3 j (mlk j hl) hdg hk (mPut_o na h M) rfl hl (mTX j hl) hfin hty hn hfit (by rw [mfs_len]; exact hl) ?_
  rw [mPut_setI hj hl]
  exact k
theorem m_ald (hC : nC K cc nL RX3 ret rm) (kk : Nat) {i v : Int32} (hdg : decode cc pc = .ok (.iaload, 1)) (hk : na kk = a) (ha : mIsA kk = true) (hin : vp_in i (mLen kk)) (hv : M kk i.toNatClampNeg = v) (k : WN K na (mPut na h M) cells slots Q (pc + 1) L (.int v :: st)) : WN K na (mPut na h M) cells slots Q pc L (.int i :: .ref a :: st) := by
  subst hv
  exact n_iald hC hdg hk (mPut_a ha) hin k
theorem m_aldN (hC : nC K cc nL RX3 ret rm) (kk : Nat) {i : Nat} {v : Int32} (hdg : decode cc pc = .ok (.iaload, 1)) (hk : na kk = a) (ha : mIsA kk = true) (hi : i < mLen kk) (hv : M kk i = v) (k : WN K na (mPut na h M) cells slots Q (pc + 1) L (.int v :: st)) : WN K na (mPut na h M) cells slots Q pc L (.int (nI i) :: .ref a :: st) := by
  subst hv
  exact n_ialdN hC hdg hk (mPut_a ha) hi (Nat.lt_of_le_of_lt (mLen_le kk) (by decide)) k
theorem m_ast (hC : nC K cc nL RX3 ret rm) (kk : Nat) {i x : Int32} {M2 : nMem} (hdg : decode cc pc = .ok (.iastore, 1)) (hk : na kk = a) (ha : mIsA kk = true) (hin : vp_in i (mLen kk)) (hM : mset M kk (upd (M kk) i.toNatClampNeg x) = M2) (k : WN K na (mPut na h M2) cells slots Q (pc + 1) L st) : WN K na (mPut na h M) cells slots Q pc L (.int x :: .int i :: .ref a :: st) := by
  subst hM
  refine n_iast hC hdg hk (mPut_a ha) hin ?_
  rw [mPut_setA ha]
  exact k
theorem m_astN (hC : nC K cc nL RX3 ret rm) (kk : Nat) {i : Nat} {x : Int32} {M2 : nMem} (hdg : decode cc pc = .ok (.iastore, 1)) (hk : na kk = a) (ha : mIsA kk = true) (hi : i < mLen kk) (hM : mset M kk (upd (M kk) i x) = M2) (k : WN K na (mPut na h M2) cells slots Q (pc + 1) L st) : WN K na (mPut na h M) cells slots Q pc L (.int x :: .int (nI i) :: .ref a :: st) := by
  subst hM
  refine n_iastN hC hdg hk (mPut_a ha) hi (Nat.lt_of_le_of_lt (mLen_le kk) (by decide)) ?_
  rw [mPut_setA ha]
  exact k
end NMEM
