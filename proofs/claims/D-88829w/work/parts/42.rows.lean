/-! ===== ROWS: System.arraycopy between two arrays of one sort of ints, over named worlds ===== -/
section NCPY
variable {K : nK} {na : nA} {h : nH} {cells slots : Nat} {Q : State → Prop} {cc : ByteArray} {nL pc index : Nat} {own : String} {ret : Option FieldType} {rm : Room} {L : List (Option Value)} {st : List Value}
theorem nn_int {z : Int32} (hz : ¬ z < 0) : z.toInt = (z.toNatClampNeg : Int) := by
  have hz0 : (0 : Int) ≤ z.toInt := by
    have := Int32.not_lt.mp hz
    rw [Int32.le_iff_toInt_le, Int32.toInt_zero] at this
    exact this
  show z.toInt = ((z.toInt.toNat : Nat) : Int)
  omega
theorem n_copyi (hC : nC K cc nL own ret rm) (hlink : Cond.methodLink own index arraycopyName ∈ lw_all) (hnat : Cond.native arraycopyName ∈ lw_all) (hstat : Cond.static arraycopyName ∈ lw_all) (hini : Cond.initialized "java/lang/System" ∈ lw_all)
    {a0 a kk0 kk t n0 n1 : Nat} {f g : Nat → Int32} {ty : FieldType} (ht : ∀ d : Nat → ClassId, (nT d)[t]? = some (d t, ty)) (hprim : refKind ty = false) (hdg : decode cc pc = .ok (.invokestatic index, 3)) (hk0 : na kk0 = a0) (hk : na kk = a) (g0 : h kk0 = some (.inl (t, n0, .inl f))) (g1 : h kk = some (.inl (t, n1, .inl g)))
    {sp dp n : Int32} (h1 : ¬ sp < 0) (h2 : ¬ dp < 0) (h3 : ¬ n < 0) (h4 : sp.toNatClampNeg + n.toNatClampNeg ≤ n0) (h5 : dp.toNatClampNeg + n.toNatClampNeg ≤ n1) (hfit : ∀ i, i < n.toNatClampNeg → fits ty (.int (f (sp.toNatClampNeg + i))) = true)
    (hLn : L.length = nL) (hfr : 1 ≤ rm.frames) (hlo : (st.map fun v => v.category).sum + (nativeFrameWords "java/lang/System" "arraycopy" 5 + 11) ≤ rm.locals)
    (k : WN K na (nup h kk (.inl (t, n1, .inl (va_cpy f g sp.toNatClampNeg dp.toNatClampNeg n.toNatClampNeg)))) cells slots Q (pc + 3) L st) : WN K na h cells slots Q pc L (.int n :: .int dp :: .ref a :: .int sp :: .ref a0 :: st) := by
  obtain ⟨p, l, e, R, s, m, args, below, meth, c, G, sz⟩ := K
  obtain ⟨hx, hb, hml, hown, hts, hK, hX, hZ, hsz, hlk, hrt, hRm, hl⟩ := hC
  intro H locs ls hR hS hL
  subst hk0
  subst hk
  intro T hT X
  have hc0 : H[na kk0]? = some (vp_cell (G.2 t) (n0, .inl f)) := hR.P1 g0 0 _ rfl
  have hc1 : H[na kk]? = some (vp_cell (G.2 t) (n1, .inl g)) := hR.P1 g1 0 _ rfl
  obtain ⟨-, k0, hk0, cm0, hkk0⟩ := (hK.2 t _ (ht _)).1 n0 (fun j => .int (f j))
  obtain ⟨-, k1, hk1, cm1, hkk1⟩ := (hK.2 t _ (ht _)).1 n1 (fun j => .int (g j))
  obtain ⟨vm', X', step⟩ := X.arraycopy hx hown (hts _ hlink) (hts _ hnat) (hts _ hstat) (hts _ hini) (src := na kk0) (dst := na kk) (cs := vp_cell (G.2 t) (n0, .inl f)) (cd := vp_cell (G.2 t) (n1, .inl g)) (srcPos := sp) (destPos := dp) (n := n) (by rw [hT]; exact hc0) (by rw [hT]; exact hc1)
    (fun _ h => by cases h) (fun _ h => by cases h) (fun h => by cases h) (fun h => by cases h) hk0 hk1 hkk0 hkk1 (by simp [hprim]) h1 h2 h3
    (by rw [nn_int h1, nn_int h3]; show ¬ _ > ((arrV (G.2 t) n0 (fun j => .int (f j))).slots.size : Int); rw [arrV_size]; omega)
    (by rw [nn_int h2, nn_int h3]; show ¬ _ > ((arrV (G.2 t) n1 (fun j => .int (g j))).slots.size : Int); rw [arrV_size]; omega)
    (fun vm₁ _ i hi => by
      have e9 : (vp_cell (G.2 t) (n0, .inl f)).slots.getD (sp.toNatClampNeg + i) .null = .int (f (sp.toNatClampNeg + i)) := by
        show (arrV (G.2 t) n0 (fun j => .int (f j))).slots.getD _ _ = _
        rw [Array.getD_eq_getD_getElem?, arrV_read _ _ (by omega)]
        rfl
      refine ⟨?_, ?_⟩
      · rw [e9]; exact hfit i hi
      · rw [e9]; exact trivial)
    (g := F0 m pc ls (.int n :: .int dp :: .ref (na kk) :: .int sp :: .ref (na kk0) :: st)) rfl (by rw [hml, ← hLn]; exact hL.1) (rest := st) rfl (by rw [hb]; exact hdg) (by rw [hRm]; exact hfr) (by rw [hRm]; show 2 * 0 + _ + _ ≤ _; omega)
  have e1 : copied (vp_cell (G.2 t) (n0, .inl f)) (vp_cell (G.2 t) (n1, .inl g)) sp dp n = vp_cell (G.2 t) (n1, .inl (va_cpy f g sp.toNatClampNeg dp.toNatClampNeg n.toNatClampNeg)) := va_copied (fun z => .int z) _ _ f g h4
  rw [e1] at X' step
  have hlt : na kk < H.size := (Array.getElem?_eq_some_iff.mp hc1).1
  have hsz9 := hR.2.2 kk (by rw [g1]; exact fun q => by cases q)
  have oq : ∀ q : Nat, q ≠ na kk → (H.setIfInBounds (na kk) (vp_cell (G.2 t) (n1, .inl (va_cpy f g sp.toNatClampNeg dp.toNatClampNeg n.toNatClampNeg))))[q]? = H[q]? := fun q hq => by simp [Array.getElem?_setIfInBounds, Ne.symm hq]
  have hheap : ((T.setVm vm').setCell (na kk) (vp_cell (G.2 t) (n1, .inl (va_cpy f g sp.toNatClampNeg dp.toNatClampNeg n.toNatClampNeg)))).heap = H.setIfInBounds (na kk) (vp_cell (G.2 t) (n1, .inl (va_cpy f g sp.toNatClampNeg dp.toNatClampNeg n.toNatClampNeg))) := by rw [← hT]; rfl
  obtain ⟨t9, a1, b1⟩ := k _ _ ls (hR.put g1 (show (H.setIfInBounds (na kk) _)[na kk]? = some _ by simp [Array.getElem?_setIfInBounds, hlt]) oq) ⟨by simp; exact hS.1, fun q q1 q2 => by
      rw [oq q (fun e => q2 (by rw [e]; exact hsz9))]
      exact hS.2.1 q q1 q2, fun q hq => by
      rcases List.mem_append.mp hq with h | h
      · exact hS.2.2 q h
      · obtain ⟨z, -, hz⟩ := List.mem_map.mp h
        rw [← hz]
        exact hsz9⟩ hL _ hheap X'
  exact ⟨t9, step t9 a1, b1⟩
end NCPY
/-! ===== ROWS: an array of int arrays is made, over named worlds ===== -/
/-- many cells made -/
theorem nR.pushG {G : nG} {sz : Nat} {na : nA} {h : nH} {H H1 : Heap} (R : nR G sz na h H) {s : Nat → Bool} {ad : Nat → Nat} {e : Nat → nV} (hk : ∀ j, s j = true → h j = none) (hq : ∀ j, s j = true → H.size ≤ ad j) (hs : sz ≤ H.size) (hi : ∀ i j, s i = true → s j = true → ad i = ad j → i = j)
    (h1 : ∀ j, s j = true → va_at G.1 nCl (ad j, nve G.2 (e j)) H1) (oq : ∀ x : Nat, x < H.size → H1[x]? = H[x]?) : nR G sz (fun j => if s j = true then ad j else na j) (fun j => if s j = true then some (e j) else h j) H1 := by
  have old : ∀ j x, h j = some x → s j = false ∧ na j < H.size := fun j x hj => by
    refine ⟨?_, (R.1 j x hj).lt⟩
    cases q : s j with
    | false => rfl
    | true =>
      rw [hk j q] at hj
      cases hj
  refine ⟨fun j x hj => ?_, fun i j a b hij => ?_, fun j a => ?_⟩
  · have hj : (if s j = true then some (e j) else h j) = some x := hj
    by_cases c : s j = true
    · rw [if_pos c] at hj
      cases hj
      show va_at G.1 nCl (if s j = true then ad j else na j, _) H1
      rw [if_pos c]
      exact h1 j c
    · rw [if_neg c] at hj
      show va_at G.1 nCl (if s j = true then ad j else na j, _) H1
      rw [if_neg c]
      exact (R.1 j x hj).kept (oq _ (old j x hj).2)
  · have a : (if s i = true then some (e i) else h i) ≠ none := a
    have b : (if s j = true then some (e j) else h j) ≠ none := b
    have hij : (if s i = true then ad i else na i) = (if s j = true then ad j else na j) := hij
    by_cases c : s i = true <;> by_cases d : s j = true
    · rw [if_pos c, if_pos d] at hij; exact hi i j c d hij
    · rw [if_pos c, if_neg d] at hij
      rw [if_neg d] at b
      cases e9 : h j with
      | none => exact absurd e9 b
      | some x => have := (old j x e9).2; have := hq i c; omega
    · rw [if_neg c, if_pos d] at hij
      rw [if_neg c] at a
      cases e9 : h i with
      | none => exact absurd e9 a
      | some x => have := (old i x e9).2; have := hq j d; omega
    · rw [if_neg c, if_neg d] at hij
      rw [if_neg c] at a
      rw [if_neg d] at b
      exact R.2.1 i j a b hij
  · have a : (if s j = true then some (e j) else h j) ≠ none := a
    by_cases c : s j = true
    · show sz ≤ if s j = true then ad j else na j
      rw [if_pos c]; exact Nat.le_trans hs (hq j c)
    · show sz ≤ if s j = true then ad j else na j
      rw [if_neg c] at a ⊢
      exact R.2.2 j a
theorem outer_arrV (c : ClassId) (N h0 : Nat) : ∀ i, Jvm.Free.Multi.outerC c N h0 i = arrV c N (fun j => if j < i then .ref (h0 + 1 + j) else .null)
  | 0 => (arrV_new c N .null).trans (congrArg (arrV c N) (by funext j; rw [if_neg (Nat.not_lt_zero j)]))
  | i + 1 => by
    show (Jvm.Free.Multi.outerC c N h0 i).setSlot i (.ref (h0 + 1 + i)) = _
    rw [outer_arrV c N h0 i, arrV_store]
    congr 1
    funext j
    unfold updV
    by_cases e : j = i
    · subst e; rw [if_pos rfl, if_pos (Nat.lt_succ_self j)]
    · rw [if_neg e]
      dsimp only
      by_cases l : j < i
      · rw [if_pos l, if_pos (show j < i + 1 by omega)]
      · rw [if_neg l, if_neg (show ¬ j < i + 1 by omega)]
theorem arrV_ext {c : ClassId} {N : Nat} {f g : Nat → Value} (h : ∀ j, j < N → f j = g j) : arrV c N f = arrV c N g := by
  have e : (Array.ofFn (n := N) fun j => f j.val) = Array.ofFn (n := N) fun j => g j.val := congrArg Array.ofFn (funext fun j => h j.val j.isLt)
  show ({ cls := c, slots := _, vm := .none } : Cell) = { cls := c, slots := _, vm := .none }
  rw [e]
def grS (kk j0 N : Nat) (j : Nat) : Bool := decide (j = kk) || (decide (j0 ≤ j) && decide (j < j0 + N))
section NGRD
variable {K : nK} {na : nA} {h : nH} {cells slots : Nat} {Q : State → Prop} {cc : ByteArray} {nL pc index : Nat} {own : String} {ret : Option FieldType} {rm : Room} {L : List (Option Value)} {st : List Value}
theorem n_grid (hC : nC K cc nL own ret rm) (hcl : Cond.classLink own index "[[I" ∈ lw_all) (har : Cond.arrayClass .int ∈ lw_all) (hdg : decode cc pc = .ok (.multianewarray index 2, 4)) (kk j0 : Nat) {n k : Int32} {N M : Nat} (hn : ¬ n < 0) (hk : ¬ k < 0) (hN : n.toNatClampNeg = N) (hM : k.toNatClampNeg = M) (hN9 : N ≤ 1000) (hM9 : M ≤ 1000)
    (hd : ¬ (j0 ≤ kk ∧ kk < j0 + N)) (hh : ∀ j, grS kk j0 N j = true → h j = none) (hce : cells + (1 + N) ≤ rm.cells) (hsl : slots + (N + N * M) ≤ rm.slots)
    (kt : ∀ na2 : nA, (∀ j, grS kk j0 N j = false → na2 j = na j) → WN K na2 (fun j => if j = kk then some (.inl (5, N, .inr (.inr (.inr (.inr (fun r => if r < N then some (na2 (j0 + r)) else none)))))) else if grS kk j0 N j = true then some (.inl (0, M, .inl (fun _ => 0))) else h j) (cells + 1 + N) (slots + N + N * M) Q (pc + 4) L (.ref (na2 kk) :: st)) :
    WN K na h cells slots Q pc L (.int k :: .int n :: st) := by
  obtain ⟨p, l, e, R, s, m, args, below, meth, c, G, sz⟩ := K
  obtain ⟨hx, hb, hml, hown, hts, hK, hX, hZ, hsz, hlk, hrt, hRm, hl⟩ := hC
  intro H locs ls hR hS hL
  subst hRm
  intro T hT X
  obtain ⟨vm₁, cA, comp, hW, hfA, hfC, hO, hI, X1, step⟩ := X.multianewarray2F hx hown (ty := .int) (hts _ hcl) (nAA.use hX.2.2.2.2.2.2) (hts _ har)
    (g := F0 m pc ls (.int k :: .int n :: st)) rfl (by rw [hb]; exact hdg) (rest := st) rfl hn hk (by omega) (by rw [hM]; show M * 4 ≤ _; omega) (by omega) rfl rfl (by rw [hN]; exact hce) (by rw [hN, hM]; exact hsl)
  rw [hN, hM] at X1 step
  have hcA : cA = G.2 5 := by
    have q : s.vm.findClass ("[" ++ (FieldType.array .int).toString) = some (G.2 5) := (hK.2 5 _ rfl).2
    exact Option.some.inj (hfA.symm.trans q)
  have hcC : comp = G.2 0 := by
    have q : s.vm.findClass ("[" ++ (FieldType.int).toString) = some (G.2 0) := (hK.2 0 _ rfl).2
    exact Option.some.inj (hfC.symm.trans q)
  subst hcA
  subst hcC
  have hTs : (T.setVm vm₁).heap = H := hT
  obtain ⟨f1, f2, f3, f4⟩ := Jvm.Free.Multi.fill_facts (T.setVm vm₁) (G.2 5) (G.2 0) N M (defaultValue .int) N
  have f5 := fun j (hj : j < N) => Jvm.Free.Multi.fill_inner (T.setVm vm₁) (G.2 5) (G.2 0) N M (defaultValue .int) N j hj
  have f6 := fun a (ha : a < (T.setVm vm₁).heap.size) => Jvm.Free.Multi.fill_old (T.setVm vm₁) (G.2 5) (G.2 0) N M (defaultValue .int) ha N
  generalize hU : Jvm.Free.Multi.fill (T.setVm vm₁) (G.2 5) (G.2 0) N M (defaultValue .int) N = U at *
  rw [hTs] at f1 f2 f5 f6
  have hTh : T.heap = H := hT
  rw [hTh] at step
  let na2 : nA := fun j => if grS kk j0 N j = true then (if j = kk then H.size else H.size + 1 + (j - j0)) else na j
  have hkk : grS kk j0 N kk = true := by unfold grS; rw [decide_eq_true rfl]; rfl
  have hrow : ∀ r, r < N → grS kk j0 N (j0 + r) = true := fun r hr => by unfold grS; rw [decide_eq_true (show j0 ≤ j0 + r by omega), decide_eq_true (show j0 + r < j0 + N by omega), Bool.and_true, Bool.or_true]
  have hsp : ∀ j, grS kk j0 N j = true → j ≠ kk → j0 ≤ j ∧ j < j0 + N := fun j hj hne => by
    unfold grS at hj
    rw [decide_eq_false hne, Bool.false_or, Bool.and_eq_true, decide_eq_true_iff, decide_eq_true_iff] at hj
    exact hj
  have nk : na2 kk = H.size := by show (if grS kk j0 N kk = true then (if kk = kk then H.size else _) else na kk) = _; rw [if_pos hkk, if_pos rfl]
  have nr : ∀ r, r < N → na2 (j0 + r) = H.size + 1 + r := fun r hr => by
    show (if grS kk j0 N (j0 + r) = true then (if j0 + r = kk then H.size else H.size + 1 + (j0 + r - j0)) else na (j0 + r)) = _
    rw [if_pos (hrow r hr), if_neg (by omega), Nat.add_sub_cancel_left]
  have hP := hR.pushG (H1 := U.heap) (s := grS kk j0 N) (ad := fun j => if j = kk then H.size else H.size + 1 + (j - j0))
    (e := fun j => if j = kk then .inl (5, N, .inr (.inr (.inr (.inr (fun r => if r < N then some (na2 (j0 + r)) else none))))) else .inl (0, M, .inl (fun _ => 0))) hh (fun j _ => by split <;> omega) (Nat.le_trans hsz hS.1)
    (fun i j hi hj hij => by
      by_cases a : i = kk <;> by_cases b : j = kk
      · omega
      · rw [if_pos a, if_neg b] at hij; omega
      · rw [if_neg a, if_pos b] at hij; omega
      · rw [if_neg a, if_neg b] at hij
        have := hsp i hi a
        have := hsp j hj b
        omega)
    (fun j hj => by
      by_cases a : j = kk
      · rw [if_pos a, if_pos a]
        show U.heap[H.size]? = some (vp_cell (G.2 5) _)
        rw [f2]
        congr 1
        refine (outer_arrV (G.2 5) N H.size N).trans (arrV_ext (g := fun r => va_rf (if r < N then some (na2 (j0 + r)) else none)) fun r hr => ?_)
        rw [if_pos hr, if_pos hr, nr r hr]
        rfl
      · rw [if_neg a, if_neg a]
        have := hsp j hj a
        show U.heap[H.size + 1 + (j - j0)]? = some (vp_cell (G.2 0) _)
        rw [f5 (j - j0) (by omega)]
        congr 1
        exact arrV_new (G.2 0) M (.int 0))
    f6
  have hworld : (fun j => if grS kk j0 N j = true then some ((fun j => if j = kk then (.inl (5, N, .inr (.inr (.inr (.inr (fun r => if r < N then some (na2 (j0 + r)) else none))))) : nV) else .inl (0, M, .inl (fun _ => 0))) j) else h j) =
      fun j => if j = kk then some (.inl (5, N, .inr (.inr (.inr (.inr (fun r => if r < N then some (na2 (j0 + r)) else none)))))) else if grS kk j0 N j = true then some (.inl (0, M, .inl (fun _ => 0))) else h j := by
    funext j
    by_cases a : j = kk
    · subst a
      rw [if_pos hkk, if_pos rfl]
      dsimp only
      rw [if_pos rfl]
    · rw [if_neg a]
      by_cases b : grS kk j0 N j = true
      · rw [if_pos b, if_pos b]
        dsimp only
        rw [if_neg a]
      · rw [if_neg b, if_neg b]
  rw [hworld] at hP
  have hk9 := kt na2 (fun j hj => by show (if grS kk j0 N j = true then _ else na j) = na j; rw [hj, if_neg (by decide)])
  rw [nk] at hk9
  obtain ⟨t9, a1, b1⟩ := hk9 U.heap locs ls hP ⟨Nat.le_trans hS.1 (by rw [f1]; omega), fun x h1 h2 => (f6 x (Nat.lt_of_lt_of_le h1 hS.1)).trans (hS.2.1 x h1 h2), hS.2.2⟩ hL _ rfl X1
  exact ⟨t9, step t9 a1, b1⟩
end NGRD
