/-! ===== PLAIN: a figure danced, a dance tried ===== -/
def dstep (s : Nat) (M : nMem) : Int32 × nMem := if 100 ≤ s then o_walk (nI (s - 100)) M else o_pass (nI (s / 10)) (nI (s % 10)) M
def dnc : List Nat → nMem → Nat × nMem
  | [], M => (0, M)
  | s :: l, M => if 0 < (dstep s M).1 then ((dnc l (dstep s M).2).1 + 1, (dnc l (dstep s M).2).2) else (0, (dstep s M).2)
def o_dance (f : Int32) (M : nMem) : Int32 × nMem :=
  if nin f (mN M 26) = false then (-1, M) else if mB M 11 = false then (-3, M) else (nI (dnc (mFs M f.toNatClampNeg) M).1, (dnc (mFs M f.toNatClampNeg) M).2)
theorem passN_fr (p how : Nat) (M : nMem) : mFr [5, 6, 8, 14, 15, 16, 17, 18, 19] M (o_passN p how M).2 := by
  unfold o_passN
  dsimp only
  generalize (if how = 0 then mA M 6 p else mA M 6 ((p + 1) % mN M 1)) = inn
  generalize (if how = 0 then mA M 6 ((p + 1) % mN M 1) else mA M 6 p) = out
  split; exact mFr.rf
  split; exact mFr.rf
  exact mFr.set (by decide) (mFr.set (by decide) (mFr.set (by decide) (mFr.set (by decide) (mFr.set (by decide) (mFr.set (by decide) mFr.rf)))))
theorem walkN_fr (how : Nat) (M : nMem) : mFr [5, 6, 8, 14, 15, 16, 17, 18, 19] M (o_walkN how M).2 := by
  unfold o_walkN
  dsimp only
  split; exact mFr.rf
  split; exact mFr.rf
  split; exact mFr.rf
  exact mFr.set (by decide) (mFr.set (by decide) (mFr.set (by decide) (mFr.set (by decide) (mFr.set (by decide) (mFr.set (by decide) (mFr.set (by decide) (mFr.set (by decide) (mFr.set (by decide) mFr.rf))))))))
theorem pass_fr (p how : Int32) (M : nMem) : mFr [5, 6, 8, 14, 15, 16, 17, 18, 19] M (o_pass p how M).2 := by
  unfold o_pass
  split; exact mFr.rf
  split; exact mFr.rf
  split; exact mFr.rf
  exact passN_fr _ _ _
theorem walk_fr (how : Int32) (M : nMem) : mFr [5, 6, 8, 14, 15, 16, 17, 18, 19] M (o_walk how M).2 := by
  unfold o_walk
  split; exact mFr.rf
  split; exact mFr.rf
  exact walkN_fr _ _
theorem inv_dstep {M : nMem} (hI : mInv M) (s : Nat) : mInv (dstep s M).2 := by
  unfold dstep
  split
  · exact inv_walk hI _
  · exact inv_pass hI _ _
theorem inv_dnc : ∀ (l : List Nat) {M : nMem}, mInv M → mInv (dnc l M).2
  | [], _, h => h
  | s :: l, M, h => by
    unfold dnc
    split
    · exact inv_dnc l (inv_dstep h s)
    · exact inv_dstep h s
theorem inv_dance {M : nMem} (hI : mInv M) (f : Int32) : mInv (o_dance f M).2 := by
  unfold o_dance
  split; exact hI
  split; exact hI
  exact inv_dnc _ hI
theorem dnc_y {s : Nat} {l : List Nat} {M M2 : nMem} {r : Int32} (e : dstep s M = (r, M2)) (h : 0 < r) : dnc (s :: l) M = ((dnc l M2).1 + 1, (dnc l M2).2) := by
  conv => lhs; unfold dnc
  rw [e, if_pos h]
theorem dnc_n {s : Nat} {l : List Nat} {M M2 : nMem} {r : Int32} (e : dstep s M = (r, M2)) (h : ¬ 0 < r) : dnc (s :: l) M = (0, M2) := by
  unfold dnc
  rw [e, if_neg h]
theorem drop_cons {l : List Nat} {k : Nat} (hk : k < l.length) : l.drop k = l.getD k 0 :: l.drop (k + 1) := by
  rw [List.drop_eq_getElem_cons hk, List.getD_eq_getElem?_getD, List.getElem?_eq_getElem hk]
  rfl
/-! a dance tried: ribbons, lengths, marks by places; rows, steps -/
abbrev TT : Type := (Nat → Nat) × (Nat → Int32) × (Nat → Nat) × Nat × Nat
def tpass (n p how : Nat) (T : TT) : Option TT :=
  if n ≤ p then none else
  let a := if how = 0 then T.1 p else T.1 ((p + 1) % n)
  let b := if how = 0 then T.1 ((p + 1) % n) else T.1 p
  if T.2.1 a < nI 1 ∨ T.2.1 b < nI 2 then none else
  some (fun x => T.1 (tsp p ((p + 1) % n) x), upd (upd T.2.1 a (T.2.1 a - nI 1)) b (upd T.2.1 a (T.2.1 a - nI 1) b - nI 2), updN T.2.2.1 p (how + 1), T.2.2.2.1, T.2.2.2.2)
def tcl (M : nMem) (n : Nat) (h m : Nat → Nat) (r : Nat) : Bool := allb n (fun p => decide (nI (h p) = M 18 (9 * r + p)) && decide (nI (m p) = M 19 (9 * r + p)))
def twalk (M : nMem) (n how : Nat) (T : TT) : Option TT :=
  if (decide (T.2.2.2.1 < mN M 15) && allb n (fun p => decide (¬ T.2.1 p < nI (10 + T.2.2.2.1 / 3)))) = false then none else
  if tcl M n (fun x => T.1 (trn how n x)) T.2.2.1 T.2.2.2.1 = true then some (fun x => T.1 (trn how n x), fun p => T.2.1 p - nI (10 + T.2.2.2.1 / 3), fun _ => 0, T.2.2.2.1 + 1, T.2.2.2.2) else none
def tstep (M : nMem) (n s : Nat) (T : TT) : Option TT :=
  if T.2.2.2.2 = 300 then none else if 100 ≤ s then twalk M n (s - 100) (T.1, T.2.1, T.2.2.1, T.2.2.2.1, T.2.2.2.2 + 1) else tpass n (s / 10) (s % 10) (T.1, T.2.1, T.2.2.1, T.2.2.2.1, T.2.2.2.2 + 1)
def trun (M : nMem) (n : Nat) : List Nat → TT → Option TT
  | [], T => some T
  | s :: l, T => (tstep M n s T).bind (trun M n l)
theorem trun_app (M : nMem) (n : Nat) (a b : List Nat) : ∀ T, trun M n (a ++ b) T = (trun M n a T).bind (trun M n b) := by
  induction a with
  | nil => intro T; rfl
  | cons s a ih =>
    intro T
    show (tstep M n s T).bind _ = ((tstep M n s T).bind _).bind _
    cases tstep M n s T with
    | none => rfl
    | some T2 => exact ih T2
def T0 (M : nMem) : TT := (id, M 9, fun _ => 0, 0, 0)
def mkEl (L : List Nat) (av sv : Int32) (k : Nat) : List Nat :=
  if nI k = av ∧ sv = nI 0 then [] else if nI k = av ∧ sv = nI 1 then [und (L.getD k 0)] else if nI k = av ∧ sv = nI 2 then [L.getD k 0, L.getD k 0] else [L.getD k 0]
def mkSq (L : List Nat) (av sv : Int32) : Nat → List Nat
  | 0 => []
  | k + 1 => mkSq L av sv k ++ mkEl L av sv k
def mMakes (M : nMem) (L : List Nat) (av sv : Int32) : Bool := match trun M (mN M 1) (mkSq L av sv L.length) (T0 M) with
  | none => false
  | some T => decide (T.2.2.2.1 = mN M 15)
theorem mkSq_none {M : nMem} {n : Nat} {L : List Nat} {av sv : Int32} {k : Nat} {T : TT} (h : trun M n (mkSq L av sv k) T = none) : ∀ j, k ≤ j → trun M n (mkSq L av sv j) T = none := by
  intro j hj
  induction j with
  | zero => rw [show k = 0 by omega] at h; exact h
  | succ j ih =>
    by_cases e : k = j + 1
    · subst e; exact h
    · show trun M n (mkSq L av sv j ++ _) T = none
      rw [trun_app, ih (by omega)]
      rfl
theorem mMakes_n {M : nMem} {L : List Nat} {av sv : Int32} {k : Nat} (hk : k ≤ L.length) (h : trun M (mN M 1) (mkSq L av sv k) (T0 M) = none) : mMakes M L av sv = false := by
  unfold mMakes
  rw [mkSq_none h _ hk]
theorem mMakes_s {M : nMem} {L : List Nat} {av sv : Int32} {T : TT} (h : trun M (mN M 1) (mkSq L av sv L.length) (T0 M) = some T) : mMakes M L av sv = decide (T.2.2.2.1 = mN M 15) := by
  unfold mMakes
  rw [h]
def tryR (n : Nat) (X : nMem) (T : TT) : Prop := (∀ p, p < n → X 39 p = nI (T.1 p) ∧ T.1 p < n) ∧ (∀ p, p < n → X 40 p = T.2.1 p) ∧ (∀ p, p < n → X 41 p = nI (T.2.2.1 p)) ∧ (X 42 0 = nI T.2.2.2.1 ∧ T.2.2.2.1 ≤ 100) ∧ (X 43 0 = nI T.2.2.2.2 ∧ T.2.2.2.2 ≤ 300)
def tOk (n : Nat) (M : nMem) (o : Option TT) (r : Int32) (M2 : nMem) : Prop := mFr [39, 40, 41, 42, 43] M M2 ∧ match o with
  | none => r = nI 0
  | some T => r = nI 1 ∧ tryR n M2 T
theorem tOk_n {n : Nat} {M M2 : nMem} {o : Option TT} (hF : mFr [39, 40, 41, 42, 43] M M2) (e : o = none) : tOk n M o (nI 0) M2 := by subst e; exact ⟨hF, rfl⟩
theorem tOk_s {n : Nat} {M M2 : nMem} {o : Option TT} {T : TT} (hF : mFr [39, 40, 41, 42, 43] M M2) (e : o = some T) (hT : tryR n M2 T) : tOk n M o (nI 1) M2 := by subst e; exact ⟨hF, rfl, hT⟩
theorem upd_cg {n k : Nat} {f g : Nat → Int32} {v w : Int32} (h : ∀ x, x < n → f x = g x) (e : v = w) : ∀ x, x < n → upd f k v x = upd g k w x := fun x hx => by
  unfold upd
  split
  · exact e
  · exact h x hx
def slw (P : Nat → Bool) (i : Int32) : Nat → Nat → Nat → Int32
  | 0, _, f => if i = -1 then nI f else -1
  | u + 1, k, f => if P k = true then (if nI f = i then nI (10 * (k / 3) + k % 3) else slw P i u (k + 1) (f + 1)) else slw P i u (k + 1) f
def o_right (f : Int32) (M : nMem) : Int32 × nMem :=
  (if nin f (mN M 26) = false then -1 else if mB M 11 = false then -3 else nbo (mMakes M (mFs M f.toNatClampNeg) (-1) (-1)), M)
def o_slips (f i : Int32) (M : nMem) : Int32 × nMem :=
  (if nin f (mN M 26) = false ∨ i < -1 then -1 else if mB M 11 = false then -3 else slw (fun k => mMakes M (mFs M f.toNatClampNeg) (nI (k / 3)) (nI (k % 3))) i (3 * mA M 28 f.toNatClampNeg) 0 0, M)
theorem allb_f {n k : Nat} {P : Nat → Bool} (hk : k < n) (h : P k = false) : allb n P = false := by
  induction n with
  | zero => omega
  | succ n ih =>
    show (allb n P && P n) = false
    by_cases e : k = n
    · subst e; rw [h, Bool.and_false]
    · rw [ih (by omega), Bool.false_and]
