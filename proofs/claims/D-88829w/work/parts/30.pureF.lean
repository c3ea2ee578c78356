/-! ===== PLAIN: figures read, by a machine with a stack ===== -/
def und (s : Nat) : Nat := if 100 ≤ s then 201 - s else flp s
theorem und_lt {s : Nat} (h : s < 102) : und s < 102 := by
  unfold und
  split
  · omega
  · have := flp_lt (x := s) (by omega)
    omega
theorem und_stp {s : Nat} (h : stp s) : stp (und s) := by
  unfold stp at h ⊢
  unfold und flp
  split
  · omega
  · split <;> omega
def ladd (x : List Nat × Bool) (s : Nat) : List Nat × Bool := if x.1.length = 300 then (x.1, true) else (x.1 ++ [s], x.2)
def ladds (x : List Nat × Bool) (l : List Nat) : List Nat × Bool := l.foldl ladd x
def lrep (S : List Nat) : Nat → List Nat × Bool → List Nat × Bool
  | 0, x => x
  | k + 1, x => if x.2 = true then x else lrep S k (ladds x S)
theorem lrep_b {S : List Nat} {k : Nat} {x : List Nat × Bool} (h : x.2 = true) : lrep S k x = x := by
  cases k with
  | zero => rfl
  | succ q => unfold lrep; rw [if_pos h]
theorem lrep_s {S : List Nat} {k : Nat} {x : List Nat × Bool} (h : x.2 = false) : lrep S (k + 1) x = lrep S k (ladds x S) := by
  conv => lhs; unfold lrep
  rw [if_neg (by rw [h]; decide)]
def lund (L : List Nat) (p : Nat) : List Nat := L.take p ++ (L.drop p).reverse.map und
theorem lund_len (L : List Nat) (p : Nat) : (lund L p).length = L.length := by unfold lund; simp; omega
theorem lund_get {L : List Nat} {p k : Nat} (hp : p ≤ L.length) (hk : k < L.length) : (lund L p).getD k 0 = if k < p then L.getD k 0 else und (L.getD (L.length - 1 + p - k) 0) := by
  unfold lund
  by_cases h : k < p
  · rw [if_pos h, List.getD_eq_getElem?_getD, List.getElem?_append_left (by simp; omega), List.getElem?_take, if_pos h, List.getD_eq_getElem?_getD]
  · rw [if_neg h, List.getD_eq_getElem?_getD, List.getElem?_append_right (by simp; omega), List.getElem?_map, List.length_take, Nat.min_eq_left hp, List.getElem?_reverse (by simp; omega), List.getElem?_drop, List.getD_eq_getElem?_getD, List.length_drop,
      show p + (L.length - p - 1 - (k - p)) = L.length - 1 + p - k by omega, List.getElem?_eq_getElem (show L.length - 1 + p - k < L.length by omega)]
    rfl
/-- the buffer: steps, and whether there were too many -/
def bufR (M : nMem) (L : List Nat) (b : Bool) : Prop := M 28 10 = nI L.length ∧ L.length ≤ 300 ∧ M 32 0 = nbo b ∧ ∀ k, k < L.length → M 29 (3000 + k) = nI (L.getD k 0)
def bufF (S : List Nat) (M M2 : nMem) : Prop := mFr S M M2 ∧ (∀ i, i < 10 → M2 28 i = M 28 i) ∧ ∀ i, i < 3000 → M2 29 i = M 29 i
theorem bufF.rf {S : List Nat} {M : nMem} : bufF S M M := ⟨mFr.rf, fun _ _ => rfl, fun _ _ => rfl⟩
theorem bufF.wk {S T : List Nat} {M M2 : nMem} (hS : ∀ k ∈ S, k ∈ T) (h : bufF S M M2) : bufF T M M2 := ⟨mFr.wk hS h.1, h.2⟩
theorem bufF.trans {S : List Nat} {M M2 M3 : nMem} (h : bufF S M M2) (g : bufF S M2 M3) : bufF S M M3 :=
  ⟨mFr.cmp (fun _ z => z) (fun _ z => z) h.1 g.1, fun i hi => (g.2.1 i hi).trans (h.2.1 i hi), fun i hi => (g.2.2 i hi).trans (h.2.2 i hi)⟩
theorem bufF.set {S : List Nat} {M M2 : nMem} {k : Nat} {f : Nat → Int32} (hk : k ∈ S ∧ k ≠ 28 ∧ k ≠ 29) (h : bufF S M M2) : bufF S M (mset M2 k f) := by
  refine ⟨mFr.set hk.1 h.1, fun i hi => ?_, fun i hi => ?_⟩
  · rw [mset_n (Ne.symm hk.2.1)]; exact h.2.1 i hi
  · rw [mset_n (Ne.symm hk.2.2)]; exact h.2.2 i hi
theorem bufF.a28 {S : List Nat} {M M2 : nMem} {v : Int32} (hk : 28 ∈ S) (h : bufF S M M2) : bufF S M (mset M2 28 (upd (M2 28) 10 v)) := by
  refine ⟨mFr.set hk h.1, fun i hi => ?_, fun i hi => ?_⟩
  · rw [mset_s]; unfold upd; rw [if_neg (by omega)]; exact h.2.1 i hi
  · rw [mset_n (by decide)]; exact h.2.2 i hi
theorem bufF.a29 {S : List Nat} {M M2 : nMem} {k : Nat} {v : Int32} (hk : 29 ∈ S) (h : bufF S M M2) : bufF S M (mset M2 29 (upd (M2 29) (3000 + k) v)) := by
  refine ⟨mFr.set hk h.1, fun i hi => ?_, fun i hi => ?_⟩
  · rw [mset_n (by decide)]; exact h.2.1 i hi
  · rw [mset_s]; unfold upd; rw [if_neg (by omega)]; exact h.2.2 i hi
theorem bufF.b29 {S : List Nat} {M M2 : nMem} {k j : Nat} {v w : Int32} (hk : 29 ∈ S) (h : bufF S M M2) : bufF S M (mset M2 29 (upd (upd (M2 29) (3000 + k) v) (3000 + j) w)) := by
  have := bufF.a29 (k := j) (v := w) hk (bufF.a29 (k := k) (v := v) hk h)
  rw [mset_s, mset_ss] at this
  exact this
theorem bufR.fr {M M2 : nMem} {L : List Nat} {b : Bool} (h : bufR M L b) (h28 : M2 28 = M 28) (h29 : M2 29 = M 29) (h32 : M2 32 = M 32) : bufR M2 L b := by
  unfold bufR
  rw [h28, h29, h32]
  exact h
theorem bufR.set {M : nMem} {L : List Nat} {b : Bool} {k : Nat} {f : Nat → Int32} (hk : k ∈ [31, 33, 34]) (h : bufR M L b) : bufR (mset M k f) L b :=
  h.fr (mset_n (fun e => by subst e; revert hk; decide)) (mset_n (fun e => by subst e; revert hk; decide)) (mset_n (fun e => by subst e; revert hk; decide))
theorem bufR.add_t {M : nMem} {L : List Nat} {b : Bool} {s : Nat} (h : bufR M L b) (hl : L.length = 300) : bufR (mset M 32 (fun _ => nI 1)) (ladd (L, b) s).1 (ladd (L, b) s).2 := by
  unfold ladd
  rw [if_pos hl]
  refine ⟨?_, h.2.1, rfl, fun k hk => ?_⟩
  · rw [mset_n (by decide)]; exact h.1
  · rw [mset_n (by decide)]; exact h.2.2.2 k hk
theorem bufR.add_f {M : nMem} {L : List Nat} {b : Bool} {s : Nat} (h : bufR M L b) (hl : ¬ L.length = 300) :
    bufR (mset (mset M 29 (upd (M 29) (3000 + L.length) (nI s))) 28 (upd (M 28) 10 (nI (L.length + 1)))) (ladd (L, b) s).1 (ladd (L, b) s).2 := by
  unfold ladd
  rw [if_neg hl]
  have h3 := h.2.1
  refine ⟨?_, by simp; omega, ?_, fun k hk => ?_⟩
  · rw [mset_s]; unfold upd; rw [if_pos rfl]; simp
  · rw [mset_n (by decide), mset_n (by decide)]; exact h.2.2.1
  · rw [mset_n (by decide), mset_s]
    unfold upd
    dsimp only at hk ⊢
    rw [List.length_append, List.length_singleton] at hk
    rw [List.getD_eq_getElem?_getD]
    by_cases e : k = L.length
    · rw [if_pos (by omega), e, List.getElem?_append_right (Nat.le_refl _), Nat.sub_self]; rfl
    · rw [if_neg (by omega), List.getElem?_append_left (by omega), ← List.getD_eq_getElem?_getD]; exact h.2.2.2 k (by omega)
theorem ladd_len (x : List Nat × Bool) (s : Nat) : x.1.length ≤ (ladd x s).1.length := by unfold ladd; split <;> simp
theorem ladd_get {x : List Nat × Bool} {s k : Nat} (hk : k < x.1.length) : (ladd x s).1.getD k 0 = x.1.getD k 0 := by
  unfold ladd
  split
  · rfl
  · rw [List.getD_eq_getElem?_getD, List.getElem?_append_left hk, ← List.getD_eq_getElem?_getD]
theorem ladd_stp {x : List Nat × Bool} {s : Nat} (hs : stp s) (hx : ∀ t ∈ x.1, stp t) : ∀ t ∈ (ladd x s).1, stp t := by
  unfold ladd
  split
  · exact hx
  · intro t ht
    rcases List.mem_append.mp ht with h | h
    · exact hx t h
    · rw [List.mem_singleton] at h; rw [h]; exact hs
theorem ladds_stp {l : List Nat} : ∀ {x : List Nat × Bool}, (∀ t ∈ l, stp t) → (∀ t ∈ x.1, stp t) → ∀ t ∈ (ladds x l).1, stp t := by
  induction l with
  | nil => intro x _ h; exact h
  | cons s l ih => intro x hl hx; exact ih (x := ladd x s) (fun t ht => hl t (List.mem_cons_of_mem _ ht)) (ladd_stp (hl s List.mem_cons_self) hx)
theorem lrep_stp {S : List Nat} (hS : ∀ t ∈ S, stp t) : ∀ (k : Nat) {x : List Nat × Bool}, (∀ t ∈ x.1, stp t) → ∀ t ∈ (lrep S k x).1, stp t
  | 0, _, h => h
  | k + 1, x, h => by
    unfold lrep
    split
    · exact h
    · exact lrep_stp hS k (ladds_stp hS h)
theorem ladds_len {l : List Nat} : ∀ (x : List Nat × Bool), x.1.length ≤ (ladds x l).1.length := by
  induction l with
  | nil => intro x; exact Nat.le_refl _
  | cons s l ih => intro x; exact Nat.le_trans (ladd_len x s) (ih (ladd x s))
theorem lrep_len {S : List Nat} : ∀ (k : Nat) (x : List Nat × Bool), x.1.length ≤ (lrep S k x).1.length
  | 0, _ => Nat.le_refl _
  | k + 1, x => by
    unfold lrep
    split
    · exact Nat.le_refl _
    · exact Nat.le_trans (ladds_len x) (lrep_len k _)
theorem lund_stp {L : List Nat} {p : Nat} (h : ∀ t ∈ L, stp t) : ∀ t ∈ lund L p, stp t := by
  unfold lund
  intro t ht
  rcases List.mem_append.mp ht with g | g
  · exact h t (List.mem_of_mem_take g)
  · obtain ⟨s, hs, rfl⟩ := List.mem_map.mp g
    exact und_stp (h s (List.mem_of_mem_drop (List.mem_reverse.mp hs)))
theorem ladds_snoc (x : List Nat × Bool) (l : List Nat) (s : Nat) : ladds x (l ++ [s]) = ladd (ladds x l) s := by unfold ladds; rw [List.foldl_append]; rfl
theorem take_snoc {l : List Nat} {k : Nat} (hk : k < l.length) : l.take (k + 1) = l.take k ++ [l.getD k 0] := by
  rw [List.take_succ, List.getElem?_eq_getElem hk, List.getD_eq_getElem?_getD, List.getElem?_eq_getElem hk]
  rfl
theorem drop_getD (l : List Nat) (p k : Nat) : (l.drop p).getD k 0 = l.getD (p + k) 0 := by
  rw [List.getD_eq_getElem?_getD, List.getElem?_drop, List.getD_eq_getElem?_getD]
theorem getD_stp {L : List Nat} {k : Nat} (h : ∀ t ∈ L, stp t) (hk : k < L.length) : stp (L.getD k 0) := by
  rw [List.getD_eq_getElem?_getD, List.getElem?_eq_getElem hk]
  exact h _ (List.getElem_mem hk)
/-- the stack of open figures: items outside, where its steps begin -/
def stR (M : nMem) : List (Nat × Nat) → Nat → Prop
  | [], c => M 34 0 = nI c
  | (o, p) :: r, c => M 34 (r.length + 1) = nI c ∧ M 33 (r.length + 1) = nI p ∧ stR M r o
theorem stR.top {M : nMem} : ∀ {k : List (Nat × Nat)} {c : Nat}, stR M k c → M 34 k.length = nI c
  | [], _, h => h
  | _ :: _, _, h => h.1
theorem stR.fr {M M2 : nMem} : ∀ {k : List (Nat × Nat)} {c : Nat}, (∀ i, i ≤ k.length → M2 34 i = M 34 i) → (∀ i, i ≤ k.length → M2 33 i = M 33 i) → stR M k c → stR M2 k c
  | [], _, a, _, h => (a 0 (Nat.le_refl _)).trans h
  | (o, p) :: r, c, a, b, h => ⟨(a _ (Nat.le_refl _)).trans h.1, (b _ (Nat.le_refl _)).trans h.2.1, stR.fr (fun i hi => a i (Nat.le_succ_of_le hi)) (fun i hi => b i (Nat.le_succ_of_le hi)) h.2.2⟩
theorem stR.set {M : nMem} {k : List (Nat × Nat)} {c : Nat} {j : Nat} {f : Nat → Int32} (hj : j ≠ 33 ∧ j ≠ 34) (h : stR M k c) : stR (mset M j f) k c :=
  h.fr (fun i _ => by rw [mset_n (Ne.symm hj.2)]) (fun i _ => by rw [mset_n (Ne.symm hj.1)])
theorem stR.new {M : nMem} : ∀ {k : List (Nat × Nat)} {c c2 : Nat}, stR M k c → stR (mset M 34 (upd (M 34) k.length (nI c2))) k c2
  | [], _, _, _ => by unfold stR; rw [mset_s]; exact if_pos rfl
  | (o, p) :: r, c, c2, h => by
    refine ⟨?_, ?_, ?_⟩
    · rw [mset_s]; exact if_pos rfl
    · rw [mset_n (by decide)]; exact h.2.1
    · exact h.2.2.fr (fun i hi => by rw [mset_s]; unfold upd; rw [if_neg (by show i ≠ r.length + 1; omega)]) (fun i _ => by rw [mset_n (by decide)])
theorem stR.push {M : nMem} {k : List (Nat × Nat)} {c c2 p : Nat} (h : stR M k c) : stR (mset (mset M 33 (upd (M 33) (k.length + 1) (nI p))) 34 (upd (M 34) (k.length + 1) (nI c2))) ((c, p) :: k) c2 := by
  refine ⟨?_, ?_, ?_⟩
  · rw [mset_s]; unfold upd; rw [if_pos rfl]
  · rw [mset_n (by decide), mset_s]; unfold upd; rw [if_pos rfl]
  · exact h.fr (fun i hi => by rw [mset_s]; unfold upd; rw [if_neg (by omega)]) (fun i hi => by rw [mset_n (by decide), mset_s]; unfold upd; rw [if_neg (by omega)])
theorem stR.new2 {M : nMem} {k : List (Nat × Nat)} {c : Nat} (h : stR M k c) : ∀ c2, stR (mset M 34 (upd (M 34) k.length (nI c2))) k c2 := fun _ => h.new
theorem stR.push2 {M : nMem} {k : List (Nat × Nat)} {c p : Nat} {v : Int32} (h : stR M k c) : ∀ c2, stR (mset (mset (mset M 33 (upd (M 33) (k.length + 1) (nI p))) 34 (upd (M 34) (k.length + 1) v)) 34 (upd ((mset (mset M 33 (upd (M 33) (k.length + 1) (nI p))) 34 (upd (M 34) (k.length + 1) v)) 34) (k.length + 1) (nI c2))) ((c, p) :: k) c2 := fun c2 => by
  rw [mset_ss, mset_s]
  have e : upd (upd (M 34) (k.length + 1) v) (k.length + 1) (nI c2) = upd (M 34) (k.length + 1) (nI c2) := by funext q; unfold upd; split <;> rfl
  rw [e]
  exact h.push
theorem cons_of {k : List (Nat × Nat)} (h : 0 < k.length) : ∃ o p r, k = (o, p) :: r := by
  cases k with
  | nil => exact absurd h (by decide)
  | cons x r => exact ⟨x.1, x.2, r, rfl⟩
/-- the byte at a spot; -1 behind the last -/
def txt (M : nMem) (i : Nat) : Int32 := if i < mN M 27 then M 30 i else -1
theorem txt_in {M : nMem} {i j : Nat} (h : txt M i = nI j) (hj : j < 2 ^ 31) : i < mN M 27 := by
  unfold txt at h
  by_cases e : i < mN M 27
  · exact e
  · rw [if_neg e] at h
    have := congrArg Int32.toInt h
    rw [nI_toInt hj, show (-1 : Int32).toInt = -1 from by decide] at this
    omega
def mFs (M : nMem) (f : Nat) : List Nat := (List.range (mA M 28 f)).map (fun k => mA M 29 (300 * f + k))
abbrev RS : Type := Nat × Nat × List (Nat × Nat) × List Nat × Bool
/-- one step: the spot where it can't go on, or what follows -/
def rst (tx : Nat → Int32) (fg : Nat) (fs : Nat → List Nat) (sp cur : Nat) (stk : List (Nat × Nat)) (L : List Nat) (b : Bool) : Nat ⊕ RS :=
  if nrg (tx sp) (nI 48) (nI 57) = true then
    if tx (sp + 1) ≠ nI 60 ∧ tx (sp + 1) ≠ nI 62 then .inl (sp + 1)
    else .inr ⟨sp + 2, cur + 1, stk, (ladd (L, b) (10 * ((tx sp).toNatClampNeg - 48) + (if tx (sp + 1) = nI 60 then 0 else 1))).1, (ladd (L, b) (10 * ((tx sp).toNatClampNeg - 48) + (if tx (sp + 1) = nI 60 then 0 else 1))).2⟩
  else if tx sp = nI 119 ∨ tx sp = nI 118 then .inr ⟨sp + 1, cur + 1, stk, (ladd (L, b) (if tx sp = nI 119 then 100 else 101)).1, (ladd (L, b) (if tx sp = nI 119 then 100 else 101)).2⟩
  else if nrg (tx sp) (nI 65) (nI 74) = true ∧ (tx sp).toNatClampNeg - 65 < fg then
    .inr ⟨sp + 1, cur + 1, stk, (ladds (L, b) (fs ((tx sp).toNatClampNeg - 65))).1, (ladds (L, b) (fs ((tx sp).toNatClampNeg - 65))).2⟩
  else if tx sp = nI 40 ∧ stk.length < 4 then .inr ⟨sp + 1, 0, (cur, L.length) :: stk, L, b⟩
  else if tx sp = nI 41 ∧ stk ≠ [] ∧ 0 < cur then
    if nrg (tx (sp + 1)) (nI 50) (nI 57) = true then
      .inr ⟨sp + 2, (stk.headD (0, 0)).1 + 1, stk.tail, (lrep (L.drop (stk.headD (0, 0)).2) ((tx (sp + 1)).toNatClampNeg - 48 - 1) (L, b)).1, (lrep (L.drop (stk.headD (0, 0)).2) ((tx (sp + 1)).toNatClampNeg - 48 - 1) (L, b)).2⟩
    else if tx (sp + 1) = nI 45 then .inr ⟨sp + 2, (stk.headD (0, 0)).1 + 1, stk.tail, lund L (stk.headD (0, 0)).2, b⟩
    else .inl (sp + 1)
  else .inl sp
/-- the reading: where it ended; the steps, where it is a figure -/
def rrun (tx : Nat → Int32) (fd fg : Nat) (fs : Nat → List Nat) : Nat → RS → Nat × Option (List Nat × Bool)
  | 0, s => (s.1, if s.2.2.1 = [] ∧ 0 < s.2.1 then some (s.2.2.2.1, s.2.2.2.2) else none)
  | k + 1, s => if s.1 < fd then (match rst tx fg fs s.1 s.2.1 s.2.2.1 s.2.2.2.1 s.2.2.2.2 with
      | .inl p => (p, none)
      | .inr s2 => rrun tx fd fg fs k s2) else (s.1, if s.2.2.1 = [] ∧ 0 < s.2.1 then some (s.2.2.2.1, s.2.2.2.2) else none)
theorem rrun_end {tx : Nat → Int32} {fd fg : Nat} {fs : Nat → List Nat} {k : Nat} {s : RS} (h : fd ≤ s.1) : rrun tx fd fg fs k s = (s.1, if s.2.2.1 = [] ∧ 0 < s.2.1 then some (s.2.2.2.1, s.2.2.2.2) else none) := by
  cases k with
  | zero => rfl
  | succ k => unfold rrun; rw [if_neg (by omega)]
theorem rrun_l {tx : Nat → Int32} {fd fg : Nat} {fs : Nat → List Nat} {k sp cur : Nat} {stk : List (Nat × Nat)} {L : List Nat} {b : Bool} {p : Nat} (h : sp < fd) (hf : fd - sp ≤ k) (e : rst tx fg fs sp cur stk L b = .inl p) : rrun tx fd fg fs k ⟨sp, cur, stk, L, b⟩ = (p, none) := by
  cases k with
  | zero => omega
  | succ k => unfold rrun; dsimp only; rw [if_pos h, e]
theorem rrun_r {tx : Nat → Int32} {fd fg : Nat} {fs : Nat → List Nat} {k sp cur : Nat} {stk : List (Nat × Nat)} {L : List Nat} {b : Bool} {s2 : RS} (h : sp < fd) (hf : fd - sp ≤ k) (e : rst tx fg fs sp cur stk L b = .inr s2) : rrun tx fd fg fs k ⟨sp, cur, stk, L, b⟩ = rrun tx fd fg fs (k - 1) s2 := by
  cases k with
  | zero => omega
  | succ k =>
    rw [Nat.add_sub_cancel]
    conv => lhs; unfold rrun; dsimp only
    rw [if_pos h, e]
def mRd (M : nMem) : Nat × Option (List Nat × Bool) := rrun (txt M) (mN M 27) (mN M 26) (mFs M) (mN M 27) ⟨0, 0, [], [], false⟩
def rdP (M : nMem) (R : Nat × Option (List Nat × Bool)) (r : Int32) (M2 : nMem) : Prop := bufF [28, 29, 31, 32, 33, 34] M M2 ∧ M2 31 0 = nI R.1 ∧ match R.2 with
  | none => r = nI 0
  | some x => r = nI 1 ∧ bufR M2 x.1 x.2 ∧ ∀ t ∈ x.1, stp t
theorem rdP_n {M : nMem} {R : Nat × Option (List Nat × Bool)} {M2 : nMem} {sp : Nat} (hF : bufF [28, 29, 31, 32, 33, 34] M M2) (h31 : M2 31 0 = nI sp) (e : (sp, none) = R) : rdP M R (nI 0) M2 := by
  subst e
  exact ⟨hF, h31, rfl⟩
theorem rdP_s {M : nMem} {R : Nat × Option (List Nat × Bool)} {M2 : nMem} {sp : Nat} {L : List Nat} {b : Bool} (hF : bufF [28, 29, 31, 32, 33, 34] M M2) (h31 : M2 31 0 = nI sp) (hB : bufR M2 L b) (hs : ∀ t ∈ L, stp t) (e : (sp, some (L, b)) = R) : rdP M R (nI 1) M2 := by
  subst e
  exact ⟨hF, h31, rfl, hB, hs⟩
theorem mFs_len (M : nMem) (f : Nat) : (mFs M f).length = mA M 28 f := by unfold mFs; rw [List.length_map, List.length_range]
theorem mFs_get {M : nMem} {f k : Nat} (hk : k < mA M 28 f) : (mFs M f).getD k 0 = mA M 29 (300 * f + k) := by
  unfold mFs
  rw [List.getD_eq_getElem?_getD, List.getElem?_map, List.getElem?_range hk]
  rfl
theorem rrun_sp {tx : Nat → Int32} {fd fg : Nat} {fs : Nat → List Nat} : ∀ {k : Nat} {s : RS} {B : Nat}, s.1 ≤ B → B + 2 * k < 2 ^ 20 → (rrun tx fd fg fs k s).1 < 2 ^ 20
  | 0, s, B, h, hB => by unfold rrun; dsimp only; omega
  | k + 1, s, B, h, hB => by
    unfold rrun
    split
    · split
      · rename_i p e
        dsimp only
        have : p ≤ s.1 + 1 := by
          unfold rst at e
          repeat' split at e
          all_goals first | (injection e with e; omega) | cases e
        omega
      · rename_i s2 e
        have : s2.1 ≤ s.1 + 2 := by
          unfold rst at e
          repeat' split at e
          all_goals first | (injection e with e; rw [← e]; dsimp only; omega) | cases e
        exact rrun_sp (B := B + 2) (by omega) (by omega)
    · dsimp only; omega
def o_figure (M : nMem) : Int32 × nMem :=
  if mN M 26 = 10 then (-4, M) else match mRd M with
  | (sp, none) => (-10 - nI sp, mset M 27 (fun _ => nI 0))
  | (_, some (_, true)) => (-2, mset M 27 (fun _ => nI 0))
  | (_, some (L, false)) => (nI (mN M 26), mset (mset (mset (mset M 27 (fun _ => nI 0)) 28 (upd (M 28) (mN M 26) (nI L.length))) 29 (blk (M 29) (300 * mN M 26) L.length (fun k => nI (L.getD k 0)))) 26 (fun _ => nI (mN M 26 + 1)))
def o_told (f i : Int32) (M : nMem) : Int32 × nMem :=
  (if nin f (mN M 26) = false then -1 else if i = -1 then M 28 f.toNatClampNeg else if nin i (mA M 28 f.toNatClampNeg) = true then M 29 (300 * f.toNatClampNeg + i.toNatClampNeg) else -1, M)
