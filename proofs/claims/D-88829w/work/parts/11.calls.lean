/-! ===== CONTRACTS over named worlds, their ends, calls by them ===== -/
set_option maxRecDepth 100000
def nQi (post : Int32 → nA → nH → Prop) (G : nG) (sz : Nat) : Array Value → State → Outcome → State → Prop := va_Qi (fun r (u : nA × nH) => post r u.1 u.2) (fun u t => nU G sz u.1 u.2 t) (fun q => sz ≤ q)
def nQv (post : nA → nH → Prop) (G : nG) (sz : Nat) : Array Value → State → Outcome → State → Prop := va_Qv (fun (u : nA × nH) => post u.1 u.2) (fun u t => nU G sz u.1 u.2 t) (fun q => sz ≤ q)
def nQq (post : Option Nat → nA → nH → Prop) (G : nG) (sz : Nat) : Array Value → State → Outcome → State → Prop := va_Qq (fun r (u : nA × nH) => post r u.1 u.2) (fun u t => nU G sz u.1 u.2 t) (fun q => sz ≤ q)
/-- a method's end -/
def nE : nK → (nG → Nat → Array Value → State → Outcome → State → Prop) → Nat → Nat → State → Prop
  | (_, _, _, _, s, _, args, below, _, _, G, sz), Qc, mc, ms => MQ below (Qc G sz) args s mc ms (fun q => sz ≤ q)
/-- method y's contract: from any state that holds the world (na, h) -/
def nM (y : MethodName) (cc : ByteArray) (nL : Nat) (ret : Option FieldType) (rm : Room) (args : List Value) (na : nA) (h : nH) (Qc : nG → Nat → Array Value → State → Outcome → State → Prop) (mc ms : Nat) : Prop :=
  ∀ l : Launch, l.stackTraces = false → ∀ (G : nG) (sz : Nat), Met l y (ws_ y cc nL ret) rm (va_Pc args (nU G sz na h)) (Qc G sz) mc ms (fun q => sz ≤ q)
theorem nent (vs : List Value) (hc : ∀ v ∈ vs, v.category = 1) : (lg_sl vs).length = vs.length ∧ ∀ (k i : Nat) (v : Value), vs[i]? = some v → (k + i, v) ∈ lv_args k vs := by
  induction vs with
  | nil => exact ⟨rfl, fun k i v h => by simp at h⟩
  | cons a t ih =>
    have ha : ¬ a.category = 2 := by rw [hc a List.mem_cons_self]; decide
    obtain ⟨i1, i2⟩ := ih (fun v hv => hc v (List.mem_cons_of_mem _ hv))
    refine ⟨?_, fun k i v h => ?_⟩
    · have e : lg_sl (a :: t) = .val a :: lg_sl t := by simp [lg_sl, ha]
      rw [e, List.length_cons, i1, List.length_cons]
    · have e : lv_args k (a :: t) = (k, a) :: lv_args (k + 1) t := by simp [lv_args, ha]
      rw [e]
      cases i with
      | zero =>
        simp at h
        subst h
        exact List.mem_cons_self
      | succ i =>
        simp at h
        have := i2 (k + 1) i v h
        rw [show k + 1 + i = k + (i + 1) by omega] at this
        exact List.mem_cons_of_mem _ this
theorem nM.ofN {y : MethodName} {cc : ByteArray} {nL : Nat} {ret : Option FieldType} {rm : Room} {args : List Value} {na : nA} {h : nH} {Qc : nG → Nat → Array Value → State → Outcome → State → Prop} {mc ms : Nat} (own : String) (hown : y.cls = own) (hy : plainName y.cls = true) (hcat : ∀ v ∈ args, v.category = 1) (hlen : args.length ≤ nL)
    (body : ∀ K : nK, nC K cc nL own ret rm → K.2.2.2.2.2.2.2.2.1.name = y.name → WN K na h 0 0 (nE K Qc mc ms) 0 (args.map some ++ List.replicate (nL - args.length) none) []) : nM y cc nL ret rm args na h Qc mc ms := by
  intro l hl G sz
  refine Met.ofW (cc := cc) (maxL := nL) (ret := ret) hy rfl ?_
  intro p e s m args' below meth c s₁ B hml hv
  obtain ⟨rfl, hR, hsz, hK, hX, hZ⟩ := hv
  have hts := atoms_spec (ws := ws_ y cc nL ret) B.pre
  have hts : ∀ w ∈ lw_all, w.before args.toArray s = true := fun w h => hts w (List.mem_cons_of_mem _ h)
  have ho : s.vm.findClass own = some m.cls := by rw [← hown]; exact findClass_of_methodNamed B.named
  obtain ⟨e1, e2⟩ := nent args hcat
  have hb := body (p, l, e, rm, s, m, args.toArray, below, meth, c, G, sz) ⟨B.exec, B.bytes, hml, ho, hts, hK, hX, hZ, hsz, B.notSynchronized, B.returns, rfl, hl⟩ (name_of_methodNamed B.named B.method).1
  have hl := lv_entry args (n := nL) (by rw [e1]; exact hlen)
  rw [lg_entry_eq]
  refine hb s.heap [] _ hR va_S.rf ⟨?_, hl.2.1, fun i v hi => ?_⟩
  · rw [hl.1, List.length_append, List.length_map, List.length_replicate]; omega
  · by_cases hlt : i < args.length
    · rw [List.getElem?_append_left (by rw [List.length_map]; exact hlt), List.getElem?_map] at hi
      cases ha : args[i]? with
      | none => rw [ha] at hi; cases hi
      | some x =>
        rw [ha] at hi
        have hi : x = v := by simpa using hi
        subst hi
        have := e2 0 i x ha
        rw [Nat.zero_add] at this
        exact ⟨hl.2.2 (i, x) this, hcat x (List.mem_of_getElem? ha)⟩
    · rw [List.getElem?_append_right (by rw [List.length_map]; omega)] at hi
      have := List.eq_of_mem_replicate (List.mem_of_getElem? hi)
      cases this
/-- the world at a callee's start -/
theorem nU.call {G : nG} {sz : Nat} {na : nA} {h : nH} {s U : State} {H : Heap} {locs : List Loc} (hR : nR G sz na h H) (hS : va_S (fun q => sz ≤ q) s.heap H locs) (hK : va_K G.1 nCl (nT G.2) s) (hX : nX s) (hZ : nZ sz s s.heap) (hsz : sz ≤ s.heap.size) (hU : U.heap = H) (hW : s.WarmedH U.vm) : nU G sz na h U :=
  ⟨by rw [hU]; exact hR, by rw [hU]; exact Nat.le_trans hsz hS.1, va_K.moved hW.alike hK, hX.warm hW, vx_Zq.moved hW.alike (by rw [hU]; exact hZ.1.kept hS.2.1), vx_Zq.moved hW.alike (by rw [hU]; exact hZ.2.kept hS.2.1)⟩
/-- what a method's name brings: its words, how many arguments -/
def npd (y : MethodName) (n : Nat) : Prop := y.cls ≠ "java/lang/invoke/MethodHandle" ∧ y.cls ≠ "java/lang/invoke/VarHandle" ∧ (parseMethodDescriptor y.desc).map (fun d => d.parameters.length) = some n
def nMd (y : MethodName) (b : ByteArray) (nL : Nat) (r : Option FieldType) (n : Nat) : Prop := Cond.instanceMethod y ∈ lw_all ∧ Cond.selects y.cls y y ∈ lw_all ∧ Cond.initialized y.cls ∈ lw_all ∧ Cond.code y b nL r ∈ lw_all ∧ npd y n
def nMs (y : MethodName) (b : ByteArray) (nL : Nat) (r : Option FieldType) (n : Nat) : Prop := Cond.static y ∈ lw_all ∧ Cond.initialized y.cls ∈ lw_all ∧ Cond.code y b nL r ∈ lw_all ∧ npd y n
def nMi (y : MethodName) (b : ByteArray) (nL : Nat) (n : Nat) : Prop := Cond.instanceMethod y ∈ lw_all ∧ Cond.initialized y.cls ∈ lw_all ∧ Cond.code y b nL none ∈ lw_all ∧ y.name = "<init>" ∧ npd y n
/-- the callee's room in the caller's -/
def nFit (rm2 rm : Room) (nL mc ms : Nat) : Prop := rm2.cells = mc ∧ rm2.slots = ms ∧ rm2.frames + 1 ≤ rm.frames ∧ 8 + (nL + 11) + rm2.locals ≤ rm.locals
def nRm (k mc ms : Nat) : Room := { frames := 20 + k, cells := mc, slots := ms, locals := 12000 + 60 * k }
section NRET
variable {K : nK} {na : nA} {h : nH} {cells slots mc ms : Nat} {cc : ByteArray} {nL pc : Nat} {own : String} {ret : Option FieldType} {rm : Room} {L : List (Option Value)}
theorem n_iret {post : Int32 → nA → nH → Prop} {v : Int32} (hC : nC K cc nL own (some .int) rm) (hdg : decode cc pc = .ok (.ireturn, 1)) (hc : cells ≤ mc) (hs : slots ≤ ms) (hp : post v na h) : WN K na h cells slots (nE K (nQi post) mc ms) pc L [.int v] := by
  obtain ⟨p, l, e, R, s, m, args, below, meth, c, G, sz⟩ := K
  obtain ⟨hx, hb, hml, hown, hts, hK, hX, hZ, hsz, hlk, hrt, hRm, hl⟩ := hC
  intro H locs ls hR hS hL
  exact W.widen hc hs (W.iret hx hb hrt (fun t ht hW => ⟨⟨v, (na, h), rfl, hp, nU.call hR hS hK hX hZ hsz ht hW⟩, hS.F ht⟩) hS.2.2 hdg hlk)
theorem n_zret {post : Int32 → nA → nH → Prop} {v : Int32} {ty : FieldType} (hC : nC K cc nL own (some ty) rm) (hdg : decode cc pc = .ok (.ireturn, 1)) (hn : narrow ty (.int v) = .int v) (hc : cells ≤ mc) (hs : slots ≤ ms) (hp : post v na h) : WN K na h cells slots (nE K (nQi post) mc ms) pc L [.int v] := by
  obtain ⟨p, l, e, R, s, m, args, below, meth, c, G, sz⟩ := K
  obtain ⟨hx, hb, hml, hown, hts, hK, hX, hZ, hsz, hlk, hrt, hRm, hl⟩ := hC
  intro H locs ls hR hS hL
  exact W.widen hc hs (W.zret hx hb hrt hn (fun t ht hW => ⟨⟨v, (na, h), rfl, hp, nU.call hR hS hK hX hZ hsz ht hW⟩, hS.F ht⟩) hS.2.2 hdg hlk)
theorem n_vret {post : nA → nH → Prop} (hC : nC K cc nL own none rm) (hdg : decode cc pc = .ok (.return_, 1)) (hc : cells ≤ mc) (hs : slots ≤ ms) (hp : post na h) : WN K na h cells slots (nE K (nQv post) mc ms) pc L [] := by
  obtain ⟨p, l, e, R, s, m, args, below, meth, c, G, sz⟩ := K
  obtain ⟨hx, hb, hml, hown, hts, hK, hX, hZ, hsz, hlk, hrt, hRm, hl⟩ := hC
  intro H locs ls hR hS hL
  exact W.widen hc hs (W.vret hx hb hrt (fun t ht hW => ⟨⟨(na, h), rfl, hp, nU.call hR hS hK hX hZ hsz ht hW⟩, hS.F ht⟩) hS.2.2 hdg hlk)
theorem n_aret {post : Option Nat → nA → nH → Prop} {r : Option Nat} {rt : FieldType} (hC : nC K cc nL own (some rt) rm) (hdg : decode cc pc = .ok (.areturn, 1)) (hrr : (∃ n, rt = .object n) ∨ ∃ t, rt = .array t) (hc : cells ≤ mc) (hs : slots ≤ ms) (hp : post r na h) : WN K na h cells slots (nE K (nQq post) mc ms) pc L [va_rf r] := by
  obtain ⟨p, l, e, R, s, m, args, below, meth, c, G, sz⟩ := K
  obtain ⟨hx, hb, hml, hown, hts, hK, hX, hZ, hsz, hlk, hrt, hRm, hl⟩ := hC
  intro H locs ls hR hS hL
  exact W.widen hc hs (W.aret hx hb hrt hrr (by cases r with | none => exact Or.inl rfl | some a => exact Or.inr ⟨a, rfl⟩) (fun t ht hW => ⟨⟨r, (na, h), rfl, hp, nU.call hR hS hK hX hZ hsz ht hW⟩, hS.F ht⟩) hS.2.2 hdg hlk)
/-- Object's own constructor, called -/
theorem n_objInit {Q : State → Prop} {a kk idx : Nat} {e9 : nV} {st : List Value} (hC : nC K cc nL own ret rm) (hq : Cond.methodLink own idx objectInit ∈ lw_all) (h1 : Cond.instanceMethod objectInit ∈ lw_all) (h2 : Cond.code objectInit ⟨#[0xb1]⟩ 1 none ∈ lw_all) (hdg : decode cc pc = .ok (.invokespecial idx, 3)) (hLn : L.length = nL) (hf : 1 ≤ rm.frames) (hlo : 20 ≤ rm.locals)
    (hst : (st.map fun v => v.category).sum ≤ 7) (k : WN K na h cells slots Q (pc + 3) L st) : WN K na h cells slots Q pc L (.ref a :: st) := by
  obtain ⟨p, l, e, R, s, m, args, below, meth, c, G, sz⟩ := K
  obtain ⟨hx, hb, hml, hown, hts, hK, hX, hZ, hsz, hlk, hrt, hRm, hl⟩ := hC
  intro H locs ls hR hS hL
  exact W.objInit hx hb hown (hts _ hq) (hts _ h1) (hts _ h2) rfl (by show ls.size = c.maxLocals; rw [hL.1, hLn, hml]) rfl hdg (by rw [hRm]; exact hf) (by show 2 * 0 + (st.map fun v => v.category).sum + 12 ≤ R.locals; rw [hRm]; omega) (k H locs ls hR hS hL)
end NRET
section NCALL
variable {K : nK} {na : nA} {h : nH} {cells slots mc ms : Nat} {Q : State → Prop} {cc bytes : ByteArray} {nL maxL pc idx : Nat} {own : String} {ret : Option FieldType} {rm rm2 : Room} {L : List (Option Value)} {st : List Value} {y : MethodName}
theorem n_callV0i (hC : nC K cc nL own ret rm) {b : Nat}  {post : Int32 → nA → nH → Prop} (hM : nM y bytes maxL (some .int) rm2 [.ref b] na h (nQi post) mc ms) (hd : nMd y bytes maxL (some .int) 0) (hq : Cond.methodLink own idx y ∈ lw_all) (hdg : decode cc pc = .ok (.invokevirtual idx, 3)) {kk ci : Nat} {fs : List Value} {rC : vw_C} (hk : na kk = b) (he : h kk = some (.inr (ci, fs))) (hc : nCl[ci]? = some rC) (hcl : rC.1 = y.cls) (hfit : nFit rm2 rm maxL mc ms) (hLn : L.length = nL) (hst : (st.map fun v => v.category).sum ≤ 8) (hce : cells + mc ≤ rm.cells) (hsl : slots + ms ≤ rm.slots)
    (k : ∀ (r : Int32) (na2 : nA) (h2 : nH), post r na2 h2 → WN K na2 h2 (cells + mc) (slots + ms) Q (pc + 3) L (.int r :: st)) : WN K na h cells slots Q pc L (.ref b :: st) := by
  obtain ⟨p, l, e, R, s, m, args, below, meth, c, G, sz⟩ := K
  obtain ⟨hx, hb, hml, hown, hts, hK, hX, hZ, hsz, hlk, hrt, hRm, hl⟩ := hC
  intro H locs ls hR hS hL
  subst hk
  subst hRm
  exact va_calli (va_runV (As := []) (rest := st) ⟨hx, hb, hml, hown, hts⟩ (hM l hl G sz) (cwV 0 hts (lw_V hq hd.1 hd.2.1 hd.2.2.1 hd.2.2.2.1) rfl hfit.1 hfit.2.1 ⟨rfl, hd.2.2.2.2⟩ ⟨hfit.2.2.1, hfit.2.2.2⟩) ⟨fun a U g mk q => ⟨q.1, nU.blind g mk a q.2⟩, by rw [← hcl]; exact va_recv hK (hR.P1 he) hc (q0 := 0) rfl, fun U hU hW => ⟨rfl, nU.call hR hS hK hX hZ hsz hU hW⟩⟩ rfl rfl (hL.1.trans hLn) rfl (lv_room hst) hdg ⟨hce, hsl⟩) hS (fun q _ h => h) (fun q h => h) (fun r u t H1 locs1 ht hvm hp hB hz hk1 hS1 => k r u.1 u.2 hp H1 locs1 ls (by rw [← ht]; exact hB.1) hS1 hL)
theorem n_callV0z (hC : nC K cc nL own ret rm) {b : Nat}  {post : Int32 → nA → nH → Prop} (hM : nM y bytes maxL (some .boolean) rm2 [.ref b] na h (nQi post) mc ms) (hd : nMd y bytes maxL (some .boolean) 0) (hq : Cond.methodLink own idx y ∈ lw_all) (hdg : decode cc pc = .ok (.invokevirtual idx, 3)) {kk ci : Nat} {fs : List Value} {rC : vw_C} (hk : na kk = b) (he : h kk = some (.inr (ci, fs))) (hc : nCl[ci]? = some rC) (hcl : rC.1 = y.cls) (hfit : nFit rm2 rm maxL mc ms) (hLn : L.length = nL) (hst : (st.map fun v => v.category).sum ≤ 8) (hce : cells + mc ≤ rm.cells) (hsl : slots + ms ≤ rm.slots)
    (k : ∀ (r : Int32) (na2 : nA) (h2 : nH), post r na2 h2 → WN K na2 h2 (cells + mc) (slots + ms) Q (pc + 3) L (.int r :: st)) : WN K na h cells slots Q pc L (.ref b :: st) := by
  obtain ⟨p, l, e, R, s, m, args, below, meth, c, G, sz⟩ := K
  obtain ⟨hx, hb, hml, hown, hts, hK, hX, hZ, hsz, hlk, hrt, hRm, hl⟩ := hC
  intro H locs ls hR hS hL
  subst hk
  subst hRm
  exact va_calli (va_runV (As := []) (rest := st) ⟨hx, hb, hml, hown, hts⟩ (hM l hl G sz) (cwV 0 hts (lw_V hq hd.1 hd.2.1 hd.2.2.1 hd.2.2.2.1) rfl hfit.1 hfit.2.1 ⟨rfl, hd.2.2.2.2⟩ ⟨hfit.2.2.1, hfit.2.2.2⟩) ⟨fun a U g mk q => ⟨q.1, nU.blind g mk a q.2⟩, by rw [← hcl]; exact va_recv hK (hR.P1 he) hc (q0 := 0) rfl, fun U hU hW => ⟨rfl, nU.call hR hS hK hX hZ hsz hU hW⟩⟩ rfl rfl (hL.1.trans hLn) rfl (lv_room hst) hdg ⟨hce, hsl⟩) hS (fun q _ h => h) (fun q h => h) (fun r u t H1 locs1 ht hvm hp hB hz hk1 hS1 => k r u.1 u.2 hp H1 locs1 ls (by rw [← ht]; exact hB.1) hS1 hL)
theorem n_callV0v (hC : nC K cc nL own ret rm) {b : Nat}  {post : nA → nH → Prop} (hM : nM y bytes maxL none rm2 [.ref b] na h (nQv post) mc ms) (hd : nMd y bytes maxL none 0) (hq : Cond.methodLink own idx y ∈ lw_all) (hdg : decode cc pc = .ok (.invokevirtual idx, 3)) {kk ci : Nat} {fs : List Value} {rC : vw_C} (hk : na kk = b) (he : h kk = some (.inr (ci, fs))) (hc : nCl[ci]? = some rC) (hcl : rC.1 = y.cls) (hfit : nFit rm2 rm maxL mc ms) (hLn : L.length = nL) (hst : (st.map fun v => v.category).sum ≤ 8) (hce : cells + mc ≤ rm.cells) (hsl : slots + ms ≤ rm.slots)
    (k : ∀ (na2 : nA) (h2 : nH), post na2 h2 → WN K na2 h2 (cells + mc) (slots + ms) Q (pc + 3) L st) : WN K na h cells slots Q pc L (.ref b :: st) := by
  obtain ⟨p, l, e, R, s, m, args, below, meth, c, G, sz⟩ := K
  obtain ⟨hx, hb, hml, hown, hts, hK, hX, hZ, hsz, hlk, hrt, hRm, hl⟩ := hC
  intro H locs ls hR hS hL
  subst hk
  subst hRm
  exact va_callv (va_runV (As := []) (rest := st) ⟨hx, hb, hml, hown, hts⟩ (hM l hl G sz) (cwV 0 hts (lw_V hq hd.1 hd.2.1 hd.2.2.1 hd.2.2.2.1) rfl hfit.1 hfit.2.1 ⟨rfl, hd.2.2.2.2⟩ ⟨hfit.2.2.1, hfit.2.2.2⟩) ⟨fun a U g mk q => ⟨q.1, nU.blind g mk a q.2⟩, by rw [← hcl]; exact va_recv hK (hR.P1 he) hc (q0 := 0) rfl, fun U hU hW => ⟨rfl, nU.call hR hS hK hX hZ hsz hU hW⟩⟩ rfl rfl (hL.1.trans hLn) rfl (lv_room hst) hdg ⟨hce, hsl⟩) hS (fun q _ h => h) (fun q h => h) (fun u t H1 locs1 ht hvm hp hB hz hk1 hS1 => k u.1 u.2 hp H1 locs1 ls (by rw [← ht]; exact hB.1) hS1 hL)
theorem n_callV0q (hC : nC K cc nL own ret rm) {b : Nat}  {rt : FieldType} {post : Option Nat → nA → nH → Prop} (hM : nM y bytes maxL (some rt) rm2 [.ref b] na h (nQq post) mc ms) (hd : nMd y bytes maxL (some rt) 0) (hq : Cond.methodLink own idx y ∈ lw_all) (hdg : decode cc pc = .ok (.invokevirtual idx, 3)) {kk ci : Nat} {fs : List Value} {rC : vw_C} (hk : na kk = b) (he : h kk = some (.inr (ci, fs))) (hc : nCl[ci]? = some rC) (hcl : rC.1 = y.cls) (hfit : nFit rm2 rm maxL mc ms) (hLn : L.length = nL) (hst : (st.map fun v => v.category).sum ≤ 8) (hce : cells + mc ≤ rm.cells) (hsl : slots + ms ≤ rm.slots)
    (k : ∀ (r : Option Nat) (na2 : nA) (h2 : nH), post r na2 h2 → WN K na2 h2 (cells + mc) (slots + ms) Q (pc + 3) L (va_rf r :: st)) : WN K na h cells slots Q pc L (.ref b :: st) := by
  obtain ⟨p, l, e, R, s, m, args, below, meth, c, G, sz⟩ := K
  obtain ⟨hx, hb, hml, hown, hts, hK, hX, hZ, hsz, hlk, hrt, hRm, hl⟩ := hC
  intro H locs ls hR hS hL
  subst hk
  subst hRm
  exact va_callq (va_runV (As := []) (rest := st) ⟨hx, hb, hml, hown, hts⟩ (hM l hl G sz) (cwV 0 hts (lw_V hq hd.1 hd.2.1 hd.2.2.1 hd.2.2.2.1) rfl hfit.1 hfit.2.1 ⟨rfl, hd.2.2.2.2⟩ ⟨hfit.2.2.1, hfit.2.2.2⟩) ⟨fun a U g mk q => ⟨q.1, nU.blind g mk a q.2⟩, by rw [← hcl]; exact va_recv hK (hR.P1 he) hc (q0 := 0) rfl, fun U hU hW => ⟨rfl, nU.call hR hS hK hX hZ hsz hU hW⟩⟩ rfl rfl (hL.1.trans hLn) rfl (lv_room hst) hdg ⟨hce, hsl⟩) hS (fun q _ h => h) (fun q h => h) (fun r u t H1 locs1 ht hvm hp hB hz hk1 hS1 => k r u.1 u.2 hp H1 locs1 ls (by rw [← ht]; exact hB.1) hS1 hL)
theorem n_callV1i (hC : nC K cc nL own ret rm) {b : Nat} {a1 : Value}  {post : Int32 → nA → nH → Prop} (hM : nM y bytes maxL (some .int) rm2 [.ref b, a1] na h (nQi post) mc ms) (hd : nMd y bytes maxL (some .int) 1) (hq : Cond.methodLink own idx y ∈ lw_all) (hdg : decode cc pc = .ok (.invokevirtual idx, 3)) {kk ci : Nat} {fs : List Value} {rC : vw_C} (hk : na kk = b) (he : h kk = some (.inr (ci, fs))) (hc : nCl[ci]? = some rC) (hcl : rC.1 = y.cls) (hfit : nFit rm2 rm maxL mc ms) (hLn : L.length = nL) (hst : (st.map fun v => v.category).sum ≤ 8) (hce : cells + mc ≤ rm.cells) (hsl : slots + ms ≤ rm.slots)
    (k : ∀ (r : Int32) (na2 : nA) (h2 : nH), post r na2 h2 → WN K na2 h2 (cells + mc) (slots + ms) Q (pc + 3) L (.int r :: st)) : WN K na h cells slots Q pc L (a1 :: .ref b :: st) := by
  obtain ⟨p, l, e, R, s, m, args, below, meth, c, G, sz⟩ := K
  obtain ⟨hx, hb, hml, hown, hts, hK, hX, hZ, hsz, hlk, hrt, hRm, hl⟩ := hC
  intro H locs ls hR hS hL
  subst hk
  subst hRm
  exact va_calli (va_runV (As := [a1]) (rest := st) ⟨hx, hb, hml, hown, hts⟩ (hM l hl G sz) (cwV 1 hts (lw_V hq hd.1 hd.2.1 hd.2.2.1 hd.2.2.2.1) rfl hfit.1 hfit.2.1 ⟨rfl, hd.2.2.2.2⟩ ⟨hfit.2.2.1, hfit.2.2.2⟩) ⟨fun a U g mk q => ⟨q.1, nU.blind g mk a q.2⟩, by rw [← hcl]; exact va_recv hK (hR.P1 he) hc (q0 := 0) rfl, fun U hU hW => ⟨rfl, nU.call hR hS hK hX hZ hsz hU hW⟩⟩ rfl rfl (hL.1.trans hLn) rfl (lv_room hst) hdg ⟨hce, hsl⟩) hS (fun q _ h => h) (fun q h => h) (fun r u t H1 locs1 ht hvm hp hB hz hk1 hS1 => k r u.1 u.2 hp H1 locs1 ls (by rw [← ht]; exact hB.1) hS1 hL)
theorem n_callV1z (hC : nC K cc nL own ret rm) {b : Nat} {a1 : Value}  {post : Int32 → nA → nH → Prop} (hM : nM y bytes maxL (some .boolean) rm2 [.ref b, a1] na h (nQi post) mc ms) (hd : nMd y bytes maxL (some .boolean) 1) (hq : Cond.methodLink own idx y ∈ lw_all) (hdg : decode cc pc = .ok (.invokevirtual idx, 3)) {kk ci : Nat} {fs : List Value} {rC : vw_C} (hk : na kk = b) (he : h kk = some (.inr (ci, fs))) (hc : nCl[ci]? = some rC) (hcl : rC.1 = y.cls) (hfit : nFit rm2 rm maxL mc ms) (hLn : L.length = nL) (hst : (st.map fun v => v.category).sum ≤ 8) (hce : cells + mc ≤ rm.cells) (hsl : slots + ms ≤ rm.slots)
    (k : ∀ (r : Int32) (na2 : nA) (h2 : nH), post r na2 h2 → WN K na2 h2 (cells + mc) (slots + ms) Q (pc + 3) L (.int r :: st)) : WN K na h cells slots Q pc L (a1 :: .ref b :: st) := by
  obtain ⟨p, l, e, R, s, m, args, below, meth, c, G, sz⟩ := K
  obtain ⟨hx, hb, hml, hown, hts, hK, hX, hZ, hsz, hlk, hrt, hRm, hl⟩ := hC
  intro H locs ls hR hS hL
  subst hk
  subst hRm
  exact va_calli (va_runV (As := [a1]) (rest := st) ⟨hx, hb, hml, hown, hts⟩ (hM l hl G sz) (cwV 1 hts (lw_V hq hd.1 hd.2.1 hd.2.2.1 hd.2.2.2.1) rfl hfit.1 hfit.2.1 ⟨rfl, hd.2.2.2.2⟩ ⟨hfit.2.2.1, hfit.2.2.2⟩) ⟨fun a U g mk q => ⟨q.1, nU.blind g mk a q.2⟩, by rw [← hcl]; exact va_recv hK (hR.P1 he) hc (q0 := 0) rfl, fun U hU hW => ⟨rfl, nU.call hR hS hK hX hZ hsz hU hW⟩⟩ rfl rfl (hL.1.trans hLn) rfl (lv_room hst) hdg ⟨hce, hsl⟩) hS (fun q _ h => h) (fun q h => h) (fun r u t H1 locs1 ht hvm hp hB hz hk1 hS1 => k r u.1 u.2 hp H1 locs1 ls (by rw [← ht]; exact hB.1) hS1 hL)
theorem n_callV1v (hC : nC K cc nL own ret rm) {b : Nat} {a1 : Value}  {post : nA → nH → Prop} (hM : nM y bytes maxL none rm2 [.ref b, a1] na h (nQv post) mc ms) (hd : nMd y bytes maxL none 1) (hq : Cond.methodLink own idx y ∈ lw_all) (hdg : decode cc pc = .ok (.invokevirtual idx, 3)) {kk ci : Nat} {fs : List Value} {rC : vw_C} (hk : na kk = b) (he : h kk = some (.inr (ci, fs))) (hc : nCl[ci]? = some rC) (hcl : rC.1 = y.cls) (hfit : nFit rm2 rm maxL mc ms) (hLn : L.length = nL) (hst : (st.map fun v => v.category).sum ≤ 8) (hce : cells + mc ≤ rm.cells) (hsl : slots + ms ≤ rm.slots)
    (k : ∀ (na2 : nA) (h2 : nH), post na2 h2 → WN K na2 h2 (cells + mc) (slots + ms) Q (pc + 3) L st) : WN K na h cells slots Q pc L (a1 :: .ref b :: st) := by
  obtain ⟨p, l, e, R, s, m, args, below, meth, c, G, sz⟩ := K
  obtain ⟨hx, hb, hml, hown, hts, hK, hX, hZ, hsz, hlk, hrt, hRm, hl⟩ := hC
  intro H locs ls hR hS hL
  subst hk
  subst hRm
  exact va_callv (va_runV (As := [a1]) (rest := st) ⟨hx, hb, hml, hown, hts⟩ (hM l hl G sz) (cwV 1 hts (lw_V hq hd.1 hd.2.1 hd.2.2.1 hd.2.2.2.1) rfl hfit.1 hfit.2.1 ⟨rfl, hd.2.2.2.2⟩ ⟨hfit.2.2.1, hfit.2.2.2⟩) ⟨fun a U g mk q => ⟨q.1, nU.blind g mk a q.2⟩, by rw [← hcl]; exact va_recv hK (hR.P1 he) hc (q0 := 0) rfl, fun U hU hW => ⟨rfl, nU.call hR hS hK hX hZ hsz hU hW⟩⟩ rfl rfl (hL.1.trans hLn) rfl (lv_room hst) hdg ⟨hce, hsl⟩) hS (fun q _ h => h) (fun q h => h) (fun u t H1 locs1 ht hvm hp hB hz hk1 hS1 => k u.1 u.2 hp H1 locs1 ls (by rw [← ht]; exact hB.1) hS1 hL)
theorem n_callV1q (hC : nC K cc nL own ret rm) {b : Nat} {a1 : Value}  {rt : FieldType} {post : Option Nat → nA → nH → Prop} (hM : nM y bytes maxL (some rt) rm2 [.ref b, a1] na h (nQq post) mc ms) (hd : nMd y bytes maxL (some rt) 1) (hq : Cond.methodLink own idx y ∈ lw_all) (hdg : decode cc pc = .ok (.invokevirtual idx, 3)) {kk ci : Nat} {fs : List Value} {rC : vw_C} (hk : na kk = b) (he : h kk = some (.inr (ci, fs))) (hc : nCl[ci]? = some rC) (hcl : rC.1 = y.cls) (hfit : nFit rm2 rm maxL mc ms) (hLn : L.length = nL) (hst : (st.map fun v => v.category).sum ≤ 8) (hce : cells + mc ≤ rm.cells) (hsl : slots + ms ≤ rm.slots)
    (k : ∀ (r : Option Nat) (na2 : nA) (h2 : nH), post r na2 h2 → WN K na2 h2 (cells + mc) (slots + ms) Q (pc + 3) L (va_rf r :: st)) : WN K na h cells slots Q pc L (a1 :: .ref b :: st) := by
  obtain ⟨p, l, e, R, s, m, args, below, meth, c, G, sz⟩ := K
  obtain ⟨hx, hb, hml, hown, hts, hK, hX, hZ, hsz, hlk, hrt, hRm, hl⟩ := hC
  intro H locs ls hR hS hL
  subst hk
  subst hRm
  exact va_callq (va_runV (As := [a1]) (rest := st) ⟨hx, hb, hml, hown, hts⟩ (hM l hl G sz) (cwV 1 hts (lw_V hq hd.1 hd.2.1 hd.2.2.1 hd.2.2.2.1) rfl hfit.1 hfit.2.1 ⟨rfl, hd.2.2.2.2⟩ ⟨hfit.2.2.1, hfit.2.2.2⟩) ⟨fun a U g mk q => ⟨q.1, nU.blind g mk a q.2⟩, by rw [← hcl]; exact va_recv hK (hR.P1 he) hc (q0 := 0) rfl, fun U hU hW => ⟨rfl, nU.call hR hS hK hX hZ hsz hU hW⟩⟩ rfl rfl (hL.1.trans hLn) rfl (lv_room hst) hdg ⟨hce, hsl⟩) hS (fun q _ h => h) (fun q h => h) (fun r u t H1 locs1 ht hvm hp hB hz hk1 hS1 => k r u.1 u.2 hp H1 locs1 ls (by rw [← ht]; exact hB.1) hS1 hL)
theorem n_callV2i (hC : nC K cc nL own ret rm) {b : Nat} {a1 a2 : Value}  {post : Int32 → nA → nH → Prop} (hM : nM y bytes maxL (some .int) rm2 [.ref b, a1, a2] na h (nQi post) mc ms) (hd : nMd y bytes maxL (some .int) 2) (hq : Cond.methodLink own idx y ∈ lw_all) (hdg : decode cc pc = .ok (.invokevirtual idx, 3)) {kk ci : Nat} {fs : List Value} {rC : vw_C} (hk : na kk = b) (he : h kk = some (.inr (ci, fs))) (hc : nCl[ci]? = some rC) (hcl : rC.1 = y.cls) (hfit : nFit rm2 rm maxL mc ms) (hLn : L.length = nL) (hst : (st.map fun v => v.category).sum ≤ 8) (hce : cells + mc ≤ rm.cells) (hsl : slots + ms ≤ rm.slots)
    (k : ∀ (r : Int32) (na2 : nA) (h2 : nH), post r na2 h2 → WN K na2 h2 (cells + mc) (slots + ms) Q (pc + 3) L (.int r :: st)) : WN K na h cells slots Q pc L (a2 :: a1 :: .ref b :: st) := by
  obtain ⟨p, l, e, R, s, m, args, below, meth, c, G, sz⟩ := K
  obtain ⟨hx, hb, hml, hown, hts, hK, hX, hZ, hsz, hlk, hrt, hRm, hl⟩ := hC
  intro H locs ls hR hS hL
  subst hk
  subst hRm
  exact va_calli (va_runV (As := [a1, a2]) (rest := st) ⟨hx, hb, hml, hown, hts⟩ (hM l hl G sz) (cwV 2 hts (lw_V hq hd.1 hd.2.1 hd.2.2.1 hd.2.2.2.1) rfl hfit.1 hfit.2.1 ⟨rfl, hd.2.2.2.2⟩ ⟨hfit.2.2.1, hfit.2.2.2⟩) ⟨fun a U g mk q => ⟨q.1, nU.blind g mk a q.2⟩, by rw [← hcl]; exact va_recv hK (hR.P1 he) hc (q0 := 0) rfl, fun U hU hW => ⟨rfl, nU.call hR hS hK hX hZ hsz hU hW⟩⟩ rfl rfl (hL.1.trans hLn) rfl (lv_room hst) hdg ⟨hce, hsl⟩) hS (fun q _ h => h) (fun q h => h) (fun r u t H1 locs1 ht hvm hp hB hz hk1 hS1 => k r u.1 u.2 hp H1 locs1 ls (by rw [← ht]; exact hB.1) hS1 hL)
theorem n_callV2z (hC : nC K cc nL own ret rm) {b : Nat} {a1 a2 : Value}  {post : Int32 → nA → nH → Prop} (hM : nM y bytes maxL (some .boolean) rm2 [.ref b, a1, a2] na h (nQi post) mc ms) (hd : nMd y bytes maxL (some .boolean) 2) (hq : Cond.methodLink own idx y ∈ lw_all) (hdg : decode cc pc = .ok (.invokevirtual idx, 3)) {kk ci : Nat} {fs : List Value} {rC : vw_C} (hk : na kk = b) (he : h kk = some (.inr (ci, fs))) (hc : nCl[ci]? = some rC) (hcl : rC.1 = y.cls) (hfit : nFit rm2 rm maxL mc ms) (hLn : L.length = nL) (hst : (st.map fun v => v.category).sum ≤ 8) (hce : cells + mc ≤ rm.cells) (hsl : slots + ms ≤ rm.slots)
    (k : ∀ (r : Int32) (na2 : nA) (h2 : nH), post r na2 h2 → WN K na2 h2 (cells + mc) (slots + ms) Q (pc + 3) L (.int r :: st)) : WN K na h cells slots Q pc L (a2 :: a1 :: .ref b :: st) := by
  obtain ⟨p, l, e, R, s, m, args, below, meth, c, G, sz⟩ := K
  obtain ⟨hx, hb, hml, hown, hts, hK, hX, hZ, hsz, hlk, hrt, hRm, hl⟩ := hC
  intro H locs ls hR hS hL
  subst hk
  subst hRm
  exact va_calli (va_runV (As := [a1, a2]) (rest := st) ⟨hx, hb, hml, hown, hts⟩ (hM l hl G sz) (cwV 2 hts (lw_V hq hd.1 hd.2.1 hd.2.2.1 hd.2.2.2.1) rfl hfit.1 hfit.2.1 ⟨rfl, hd.2.2.2.2⟩ ⟨hfit.2.2.1, hfit.2.2.2⟩) ⟨fun a U g mk q => ⟨q.1, nU.blind g mk a q.2⟩, by rw [← hcl]; exact va_recv hK (hR.P1 he) hc (q0 := 0) rfl, fun U hU hW => ⟨rfl, nU.call hR hS hK hX hZ hsz hU hW⟩⟩ rfl rfl (hL.1.trans hLn) rfl (lv_room hst) hdg ⟨hce, hsl⟩) hS (fun q _ h => h) (fun q h => h) (fun r u t H1 locs1 ht hvm hp hB hz hk1 hS1 => k r u.1 u.2 hp H1 locs1 ls (by rw [← ht]; exact hB.1) hS1 hL)
theorem n_callV2v (hC : nC K cc nL own ret rm) {b : Nat} {a1 a2 : Value}  {post : nA → nH → Prop} (hM : nM y bytes maxL none rm2 [.ref b, a1, a2] na h (nQv post) mc ms) (hd : nMd y bytes maxL none 2) (hq : Cond.methodLink own idx y ∈ lw_all) (hdg : decode cc pc = .ok (.invokevirtual idx, 3)) {kk ci : Nat} {fs : List Value} {rC : vw_C} (hk : na kk = b) (he : h kk = some (.inr (ci, fs))) (hc : nCl[ci]? = some rC) (hcl : rC.1 = y.cls) (hfit : nFit rm2 rm maxL mc ms) (hLn : L.length = nL) (hst : (st.map fun v => v.category).sum ≤ 8) (hce : cells + mc ≤ rm.cells) (hsl : slots + ms ≤ rm.slots)
    (k : ∀ (na2 : nA) (h2 : nH), post na2 h2 → WN K na2 h2 (cells + mc) (slots + ms) Q (pc + 3) L st) : WN K na h cells slots Q pc L (a2 :: a1 :: .ref b :: st) := by
  obtain ⟨p, l, e, R, s, m, args, below, meth, c, G, sz⟩ := K
  obtain ⟨hx, hb, hml, hown, hts, hK, hX, hZ, hsz, hlk, hrt, hRm, hl⟩ := hC
  intro H locs ls hR hS hL
  subst hk
  subst hRm
  exact va_callv (va_runV (As := [a1, a2]) (rest := st) ⟨hx, hb, hml, hown, hts⟩ (hM l hl G sz) (cwV 2 hts (lw_V hq hd.1 hd.2.1 hd.2.2.1 hd.2.2.2.1) rfl hfit.1 hfit.2.1 ⟨rfl, hd.2.2.2.2⟩ ⟨hfit.2.2.1, hfit.2.2.2⟩) ⟨fun a U g mk q => ⟨q.1, nU.blind g mk a q.2⟩, by rw [← hcl]; exact va_recv hK (hR.P1 he) hc (q0 := 0) rfl, fun U hU hW => ⟨rfl, nU.call hR hS hK hX hZ hsz hU hW⟩⟩ rfl rfl (hL.1.trans hLn) rfl (lv_room hst) hdg ⟨hce, hsl⟩) hS (fun q _ h => h) (fun q h => h) (fun u t H1 locs1 ht hvm hp hB hz hk1 hS1 => k u.1 u.2 hp H1 locs1 ls (by rw [← ht]; exact hB.1) hS1 hL)
theorem n_callV2q (hC : nC K cc nL own ret rm) {b : Nat} {a1 a2 : Value}  {rt : FieldType} {post : Option Nat → nA → nH → Prop} (hM : nM y bytes maxL (some rt) rm2 [.ref b, a1, a2] na h (nQq post) mc ms) (hd : nMd y bytes maxL (some rt) 2) (hq : Cond.methodLink own idx y ∈ lw_all) (hdg : decode cc pc = .ok (.invokevirtual idx, 3)) {kk ci : Nat} {fs : List Value} {rC : vw_C} (hk : na kk = b) (he : h kk = some (.inr (ci, fs))) (hc : nCl[ci]? = some rC) (hcl : rC.1 = y.cls) (hfit : nFit rm2 rm maxL mc ms) (hLn : L.length = nL) (hst : (st.map fun v => v.category).sum ≤ 8) (hce : cells + mc ≤ rm.cells) (hsl : slots + ms ≤ rm.slots)
    (k : ∀ (r : Option Nat) (na2 : nA) (h2 : nH), post r na2 h2 → WN K na2 h2 (cells + mc) (slots + ms) Q (pc + 3) L (va_rf r :: st)) : WN K na h cells slots Q pc L (a2 :: a1 :: .ref b :: st) := by
  obtain ⟨p, l, e, R, s, m, args, below, meth, c, G, sz⟩ := K
  obtain ⟨hx, hb, hml, hown, hts, hK, hX, hZ, hsz, hlk, hrt, hRm, hl⟩ := hC
  intro H locs ls hR hS hL
  subst hk
  subst hRm
  exact va_callq (va_runV (As := [a1, a2]) (rest := st) ⟨hx, hb, hml, hown, hts⟩ (hM l hl G sz) (cwV 2 hts (lw_V hq hd.1 hd.2.1 hd.2.2.1 hd.2.2.2.1) rfl hfit.1 hfit.2.1 ⟨rfl, hd.2.2.2.2⟩ ⟨hfit.2.2.1, hfit.2.2.2⟩) ⟨fun a U g mk q => ⟨q.1, nU.blind g mk a q.2⟩, by rw [← hcl]; exact va_recv hK (hR.P1 he) hc (q0 := 0) rfl, fun U hU hW => ⟨rfl, nU.call hR hS hK hX hZ hsz hU hW⟩⟩ rfl rfl (hL.1.trans hLn) rfl (lv_room hst) hdg ⟨hce, hsl⟩) hS (fun q _ h => h) (fun q h => h) (fun r u t H1 locs1 ht hvm hp hB hz hk1 hS1 => k r u.1 u.2 hp H1 locs1 ls (by rw [← ht]; exact hB.1) hS1 hL)
theorem n_callV3i (hC : nC K cc nL own ret rm) {b : Nat} {a1 a2 a3 : Value}  {post : Int32 → nA → nH → Prop} (hM : nM y bytes maxL (some .int) rm2 [.ref b, a1, a2, a3] na h (nQi post) mc ms) (hd : nMd y bytes maxL (some .int) 3) (hq : Cond.methodLink own idx y ∈ lw_all) (hdg : decode cc pc = .ok (.invokevirtual idx, 3)) {kk ci : Nat} {fs : List Value} {rC : vw_C} (hk : na kk = b) (he : h kk = some (.inr (ci, fs))) (hc : nCl[ci]? = some rC) (hcl : rC.1 = y.cls) (hfit : nFit rm2 rm maxL mc ms) (hLn : L.length = nL) (hst : (st.map fun v => v.category).sum ≤ 8) (hce : cells + mc ≤ rm.cells) (hsl : slots + ms ≤ rm.slots)
    (k : ∀ (r : Int32) (na2 : nA) (h2 : nH), post r na2 h2 → WN K na2 h2 (cells + mc) (slots + ms) Q (pc + 3) L (.int r :: st)) : WN K na h cells slots Q pc L (a3 :: a2 :: a1 :: .ref b :: st) := by
  obtain ⟨p, l, e, R, s, m, args, below, meth, c, G, sz⟩ := K
  obtain ⟨hx, hb, hml, hown, hts, hK, hX, hZ, hsz, hlk, hrt, hRm, hl⟩ := hC
  intro H locs ls hR hS hL
  subst hk
  subst hRm
  exact va_calli (va_runV (As := [a1, a2, a3]) (rest := st) ⟨hx, hb, hml, hown, hts⟩ (hM l hl G sz) (cwV 3 hts (lw_V hq hd.1 hd.2.1 hd.2.2.1 hd.2.2.2.1) rfl hfit.1 hfit.2.1 ⟨rfl, hd.2.2.2.2⟩ ⟨hfit.2.2.1, hfit.2.2.2⟩) ⟨fun a U g mk q => ⟨q.1, nU.blind g mk a q.2⟩, by rw [← hcl]; exact va_recv hK (hR.P1 he) hc (q0 := 0) rfl, fun U hU hW => ⟨rfl, nU.call hR hS hK hX hZ hsz hU hW⟩⟩ rfl rfl (hL.1.trans hLn) rfl (lv_room hst) hdg ⟨hce, hsl⟩) hS (fun q _ h => h) (fun q h => h) (fun r u t H1 locs1 ht hvm hp hB hz hk1 hS1 => k r u.1 u.2 hp H1 locs1 ls (by rw [← ht]; exact hB.1) hS1 hL)
theorem n_callV3z (hC : nC K cc nL own ret rm) {b : Nat} {a1 a2 a3 : Value}  {post : Int32 → nA → nH → Prop} (hM : nM y bytes maxL (some .boolean) rm2 [.ref b, a1, a2, a3] na h (nQi post) mc ms) (hd : nMd y bytes maxL (some .boolean) 3) (hq : Cond.methodLink own idx y ∈ lw_all) (hdg : decode cc pc = .ok (.invokevirtual idx, 3)) {kk ci : Nat} {fs : List Value} {rC : vw_C} (hk : na kk = b) (he : h kk = some (.inr (ci, fs))) (hc : nCl[ci]? = some rC) (hcl : rC.1 = y.cls) (hfit : nFit rm2 rm maxL mc ms) (hLn : L.length = nL) (hst : (st.map fun v => v.category).sum ≤ 8) (hce : cells + mc ≤ rm.cells) (hsl : slots + ms ≤ rm.slots)
    (k : ∀ (r : Int32) (na2 : nA) (h2 : nH), post r na2 h2 → WN K na2 h2 (cells + mc) (slots + ms) Q (pc + 3) L (.int r :: st)) : WN K na h cells slots Q pc L (a3 :: a2 :: a1 :: .ref b :: st) := by
  obtain ⟨p, l, e, R, s, m, args, below, meth, c, G, sz⟩ := K
  obtain ⟨hx, hb, hml, hown, hts, hK, hX, hZ, hsz, hlk, hrt, hRm, hl⟩ := hC
  intro H locs ls hR hS hL
  subst hk
  subst hRm
  exact va_calli (va_runV (As := [a1, a2, a3]) (rest := st) ⟨hx, hb, hml, hown, hts⟩ (hM l hl G sz) (cwV 3 hts (lw_V hq hd.1 hd.2.1 hd.2.2.1 hd.2.2.2.1) rfl hfit.1 hfit.2.1 ⟨rfl, hd.2.2.2.2⟩ ⟨hfit.2.2.1, hfit.2.2.2⟩) ⟨fun a U g mk q => ⟨q.1, nU.blind g mk a q.2⟩, by rw [← hcl]; exact va_recv hK (hR.P1 he) hc (q0 := 0) rfl, fun U hU hW => ⟨rfl, nU.call hR hS hK hX hZ hsz hU hW⟩⟩ rfl rfl (hL.1.trans hLn) rfl (lv_room hst) hdg ⟨hce, hsl⟩) hS (fun q _ h => h) (fun q h => h) (fun r u t H1 locs1 ht hvm hp hB hz hk1 hS1 => k r u.1 u.2 hp H1 locs1 ls (by rw [← ht]; exact hB.1) hS1 hL)
theorem n_callV3v (hC : nC K cc nL own ret rm) {b : Nat} {a1 a2 a3 : Value}  {post : nA → nH → Prop} (hM : nM y bytes maxL none rm2 [.ref b, a1, a2, a3] na h (nQv post) mc ms) (hd : nMd y bytes maxL none 3) (hq : Cond.methodLink own idx y ∈ lw_all) (hdg : decode cc pc = .ok (.invokevirtual idx, 3)) {kk ci : Nat} {fs : List Value} {rC : vw_C} (hk : na kk = b) (he : h kk = some (.inr (ci, fs))) (hc : nCl[ci]? = some rC) (hcl : rC.1 = y.cls) (hfit : nFit rm2 rm maxL mc ms) (hLn : L.length = nL) (hst : (st.map fun v => v.category).sum ≤ 8) (hce : cells + mc ≤ rm.cells) (hsl : slots + ms ≤ rm.slots)
    (k : ∀ (na2 : nA) (h2 : nH), post na2 h2 → WN K na2 h2 (cells + mc) (slots + ms) Q (pc + 3) L st) : WN K na h cells slots Q pc L (a3 :: a2 :: a1 :: .ref b :: st) := by
  obtain ⟨p, l, e, R, s, m, args, below, meth, c, G, sz⟩ := K
  obtain ⟨hx, hb, hml, hown, hts, hK, hX, hZ, hsz, hlk, hrt, hRm, hl⟩ := hC
  intro H locs ls hR hS hL
  subst hk
  subst hRm
  exact va_callv (va_runV (As := [a1, a2, a3]) (rest := st) ⟨hx, hb, hml, hown, hts⟩ (hM l hl G sz) (cwV 3 hts (lw_V hq hd.1 hd.2.1 hd.2.2.1 hd.2.2.2.1) rfl hfit.1 hfit.2.1 ⟨rfl, hd.2.2.2.2⟩ ⟨hfit.2.2.1, hfit.2.2.2⟩) ⟨fun a U g mk q => ⟨q.1, nU.blind g mk a q.2⟩, by rw [← hcl]; exact va_recv hK (hR.P1 he) hc (q0 := 0) rfl, fun U hU hW => ⟨rfl, nU.call hR hS hK hX hZ hsz hU hW⟩⟩ rfl rfl (hL.1.trans hLn) rfl (lv_room hst) hdg ⟨hce, hsl⟩) hS (fun q _ h => h) (fun q h => h) (fun u t H1 locs1 ht hvm hp hB hz hk1 hS1 => k u.1 u.2 hp H1 locs1 ls (by rw [← ht]; exact hB.1) hS1 hL)
theorem n_callV3q (hC : nC K cc nL own ret rm) {b : Nat} {a1 a2 a3 : Value}  {rt : FieldType} {post : Option Nat → nA → nH → Prop} (hM : nM y bytes maxL (some rt) rm2 [.ref b, a1, a2, a3] na h (nQq post) mc ms) (hd : nMd y bytes maxL (some rt) 3) (hq : Cond.methodLink own idx y ∈ lw_all) (hdg : decode cc pc = .ok (.invokevirtual idx, 3)) {kk ci : Nat} {fs : List Value} {rC : vw_C} (hk : na kk = b) (he : h kk = some (.inr (ci, fs))) (hc : nCl[ci]? = some rC) (hcl : rC.1 = y.cls) (hfit : nFit rm2 rm maxL mc ms) (hLn : L.length = nL) (hst : (st.map fun v => v.category).sum ≤ 8) (hce : cells + mc ≤ rm.cells) (hsl : slots + ms ≤ rm.slots)
    (k : ∀ (r : Option Nat) (na2 : nA) (h2 : nH), post r na2 h2 → WN K na2 h2 (cells + mc) (slots + ms) Q (pc + 3) L (va_rf r :: st)) : WN K na h cells slots Q pc L (a3 :: a2 :: a1 :: .ref b :: st) := by
  obtain ⟨p, l, e, R, s, m, args, below, meth, c, G, sz⟩ := K
  obtain ⟨hx, hb, hml, hown, hts, hK, hX, hZ, hsz, hlk, hrt, hRm, hl⟩ := hC
  intro H locs ls hR hS hL
  subst hk
  subst hRm
  exact va_callq (va_runV (As := [a1, a2, a3]) (rest := st) ⟨hx, hb, hml, hown, hts⟩ (hM l hl G sz) (cwV 3 hts (lw_V hq hd.1 hd.2.1 hd.2.2.1 hd.2.2.2.1) rfl hfit.1 hfit.2.1 ⟨rfl, hd.2.2.2.2⟩ ⟨hfit.2.2.1, hfit.2.2.2⟩) ⟨fun a U g mk q => ⟨q.1, nU.blind g mk a q.2⟩, by rw [← hcl]; exact va_recv hK (hR.P1 he) hc (q0 := 0) rfl, fun U hU hW => ⟨rfl, nU.call hR hS hK hX hZ hsz hU hW⟩⟩ rfl rfl (hL.1.trans hLn) rfl (lv_room hst) hdg ⟨hce, hsl⟩) hS (fun q _ h => h) (fun q h => h) (fun r u t H1 locs1 ht hvm hp hB hz hk1 hS1 => k r u.1 u.2 hp H1 locs1 ls (by rw [← ht]; exact hB.1) hS1 hL)
theorem n_callV4i (hC : nC K cc nL own ret rm) {b : Nat} {a1 a2 a3 a4 : Value}  {post : Int32 → nA → nH → Prop} (hM : nM y bytes maxL (some .int) rm2 [.ref b, a1, a2, a3, a4] na h (nQi post) mc ms) (hd : nMd y bytes maxL (some .int) 4) (hq : Cond.methodLink own idx y ∈ lw_all) (hdg : decode cc pc = .ok (.invokevirtual idx, 3)) {kk ci : Nat} {fs : List Value} {rC : vw_C} (hk : na kk = b) (he : h kk = some (.inr (ci, fs))) (hc : nCl[ci]? = some rC) (hcl : rC.1 = y.cls) (hfit : nFit rm2 rm maxL mc ms) (hLn : L.length = nL) (hst : (st.map fun v => v.category).sum ≤ 8) (hce : cells + mc ≤ rm.cells) (hsl : slots + ms ≤ rm.slots)
    (k : ∀ (r : Int32) (na2 : nA) (h2 : nH), post r na2 h2 → WN K na2 h2 (cells + mc) (slots + ms) Q (pc + 3) L (.int r :: st)) : WN K na h cells slots Q pc L (a4 :: a3 :: a2 :: a1 :: .ref b :: st) := by
  obtain ⟨p, l, e, R, s, m, args, below, meth, c, G, sz⟩ := K
  obtain ⟨hx, hb, hml, hown, hts, hK, hX, hZ, hsz, hlk, hrt, hRm, hl⟩ := hC
  intro H locs ls hR hS hL
  subst hk
  subst hRm
  exact va_calli (va_runV (As := [a1, a2, a3, a4]) (rest := st) ⟨hx, hb, hml, hown, hts⟩ (hM l hl G sz) (cwV 4 hts (lw_V hq hd.1 hd.2.1 hd.2.2.1 hd.2.2.2.1) rfl hfit.1 hfit.2.1 ⟨rfl, hd.2.2.2.2⟩ ⟨hfit.2.2.1, hfit.2.2.2⟩) ⟨fun a U g mk q => ⟨q.1, nU.blind g mk a q.2⟩, by rw [← hcl]; exact va_recv hK (hR.P1 he) hc (q0 := 0) rfl, fun U hU hW => ⟨rfl, nU.call hR hS hK hX hZ hsz hU hW⟩⟩ rfl rfl (hL.1.trans hLn) rfl (lv_room hst) hdg ⟨hce, hsl⟩) hS (fun q _ h => h) (fun q h => h) (fun r u t H1 locs1 ht hvm hp hB hz hk1 hS1 => k r u.1 u.2 hp H1 locs1 ls (by rw [← ht]; exact hB.1) hS1 hL)
theorem n_callV4z (hC : nC K cc nL own ret rm) {b : Nat} {a1 a2 a3 a4 : Value}  {post : Int32 → nA → nH → Prop} (hM : nM y bytes maxL (some .boolean) rm2 [.ref b, a1, a2, a3, a4] na h (nQi post) mc ms) (hd : nMd y bytes maxL (some .boolean) 4) (hq : Cond.methodLink own idx y ∈ lw_all) (hdg : decode cc pc = .ok (.invokevirtual idx, 3)) {kk ci : Nat} {fs : List Value} {rC : vw_C} (hk : na kk = b) (he : h kk = some (.inr (ci, fs))) (hc : nCl[ci]? = some rC) (hcl : rC.1 = y.cls) (hfit : nFit rm2 rm maxL mc ms) (hLn : L.length = nL) (hst : (st.map fun v => v.category).sum ≤ 8) (hce : cells + mc ≤ rm.cells) (hsl : slots + ms ≤ rm.slots)
    (k : ∀ (r : Int32) (na2 : nA) (h2 : nH), post r na2 h2 → WN K na2 h2 (cells + mc) (slots + ms) Q (pc + 3) L (.int r :: st)) : WN K na h cells slots Q pc L (a4 :: a3 :: a2 :: a1 :: .ref b :: st) := by
  obtain ⟨p, l, e, R, s, m, args, below, meth, c, G, sz⟩ := K
  obtain ⟨hx, hb, hml, hown, hts, hK, hX, hZ, hsz, hlk, hrt, hRm, hl⟩ := hC
  intro H locs ls hR hS hL
  subst hk
  subst hRm
  exact va_calli (va_runV (As := [a1, a2, a3, a4]) (rest := st) ⟨hx, hb, hml, hown, hts⟩ (hM l hl G sz) (cwV 4 hts (lw_V hq hd.1 hd.2.1 hd.2.2.1 hd.2.2.2.1) rfl hfit.1 hfit.2.1 ⟨rfl, hd.2.2.2.2⟩ ⟨hfit.2.2.1, hfit.2.2.2⟩) ⟨fun a U g mk q => ⟨q.1, nU.blind g mk a q.2⟩, by rw [← hcl]; exact va_recv hK (hR.P1 he) hc (q0 := 0) rfl, fun U hU hW => ⟨rfl, nU.call hR hS hK hX hZ hsz hU hW⟩⟩ rfl rfl (hL.1.trans hLn) rfl (lv_room hst) hdg ⟨hce, hsl⟩) hS (fun q _ h => h) (fun q h => h) (fun r u t H1 locs1 ht hvm hp hB hz hk1 hS1 => k r u.1 u.2 hp H1 locs1 ls (by rw [← ht]; exact hB.1) hS1 hL)
theorem n_callV4v (hC : nC K cc nL own ret rm) {b : Nat} {a1 a2 a3 a4 : Value}  {post : nA → nH → Prop} (hM : nM y bytes maxL none rm2 [.ref b, a1, a2, a3, a4] na h (nQv post) mc ms) (hd : nMd y bytes maxL none 4) (hq : Cond.methodLink own idx y ∈ lw_all) (hdg : decode cc pc = .ok (.invokevirtual idx, 3)) {kk ci : Nat} {fs : List Value} {rC : vw_C} (hk : na kk = b) (he : h kk = some (.inr (ci, fs))) (hc : nCl[ci]? = some rC) (hcl : rC.1 = y.cls) (hfit : nFit rm2 rm maxL mc ms) (hLn : L.length = nL) (hst : (st.map fun v => v.category).sum ≤ 8) (hce : cells + mc ≤ rm.cells) (hsl : slots + ms ≤ rm.slots)
    (k : ∀ (na2 : nA) (h2 : nH), post na2 h2 → WN K na2 h2 (cells + mc) (slots + ms) Q (pc + 3) L st) : WN K na h cells slots Q pc L (a4 :: a3 :: a2 :: a1 :: .ref b :: st) := by
  obtain ⟨p, l, e, R, s, m, args, below, meth, c, G, sz⟩ := K
  obtain ⟨hx, hb, hml, hown, hts, hK, hX, hZ, hsz, hlk, hrt, hRm, hl⟩ := hC
  intro H locs ls hR hS hL
  subst hk
  subst hRm
  exact va_callv (va_runV (As := [a1, a2, a3, a4]) (rest := st) ⟨hx, hb, hml, hown, hts⟩ (hM l hl G sz) (cwV 4 hts (lw_V hq hd.1 hd.2.1 hd.2.2.1 hd.2.2.2.1) rfl hfit.1 hfit.2.1 ⟨rfl, hd.2.2.2.2⟩ ⟨hfit.2.2.1, hfit.2.2.2⟩) ⟨fun a U g mk q => ⟨q.1, nU.blind g mk a q.2⟩, by rw [← hcl]; exact va_recv hK (hR.P1 he) hc (q0 := 0) rfl, fun U hU hW => ⟨rfl, nU.call hR hS hK hX hZ hsz hU hW⟩⟩ rfl rfl (hL.1.trans hLn) rfl (lv_room hst) hdg ⟨hce, hsl⟩) hS (fun q _ h => h) (fun q h => h) (fun u t H1 locs1 ht hvm hp hB hz hk1 hS1 => k u.1 u.2 hp H1 locs1 ls (by rw [← ht]; exact hB.1) hS1 hL)
theorem n_callV4q (hC : nC K cc nL own ret rm) {b : Nat} {a1 a2 a3 a4 : Value}  {rt : FieldType} {post : Option Nat → nA → nH → Prop} (hM : nM y bytes maxL (some rt) rm2 [.ref b, a1, a2, a3, a4] na h (nQq post) mc ms) (hd : nMd y bytes maxL (some rt) 4) (hq : Cond.methodLink own idx y ∈ lw_all) (hdg : decode cc pc = .ok (.invokevirtual idx, 3)) {kk ci : Nat} {fs : List Value} {rC : vw_C} (hk : na kk = b) (he : h kk = some (.inr (ci, fs))) (hc : nCl[ci]? = some rC) (hcl : rC.1 = y.cls) (hfit : nFit rm2 rm maxL mc ms) (hLn : L.length = nL) (hst : (st.map fun v => v.category).sum ≤ 8) (hce : cells + mc ≤ rm.cells) (hsl : slots + ms ≤ rm.slots)
    (k : ∀ (r : Option Nat) (na2 : nA) (h2 : nH), post r na2 h2 → WN K na2 h2 (cells + mc) (slots + ms) Q (pc + 3) L (va_rf r :: st)) : WN K na h cells slots Q pc L (a4 :: a3 :: a2 :: a1 :: .ref b :: st) := by
  obtain ⟨p, l, e, R, s, m, args, below, meth, c, G, sz⟩ := K
  obtain ⟨hx, hb, hml, hown, hts, hK, hX, hZ, hsz, hlk, hrt, hRm, hl⟩ := hC
  intro H locs ls hR hS hL
  subst hk
  subst hRm
  exact va_callq (va_runV (As := [a1, a2, a3, a4]) (rest := st) ⟨hx, hb, hml, hown, hts⟩ (hM l hl G sz) (cwV 4 hts (lw_V hq hd.1 hd.2.1 hd.2.2.1 hd.2.2.2.1) rfl hfit.1 hfit.2.1 ⟨rfl, hd.2.2.2.2⟩ ⟨hfit.2.2.1, hfit.2.2.2⟩) ⟨fun a U g mk q => ⟨q.1, nU.blind g mk a q.2⟩, by rw [← hcl]; exact va_recv hK (hR.P1 he) hc (q0 := 0) rfl, fun U hU hW => ⟨rfl, nU.call hR hS hK hX hZ hsz hU hW⟩⟩ rfl rfl (hL.1.trans hLn) rfl (lv_room hst) hdg ⟨hce, hsl⟩) hS (fun q _ h => h) (fun q h => h) (fun r u t H1 locs1 ht hvm hp hB hz hk1 hS1 => k r u.1 u.2 hp H1 locs1 ls (by rw [← ht]; exact hB.1) hS1 hL)
theorem n_callV5i (hC : nC K cc nL own ret rm) {b : Nat} {a1 a2 a3 a4 a5 : Value}  {post : Int32 → nA → nH → Prop} (hM : nM y bytes maxL (some .int) rm2 [.ref b, a1, a2, a3, a4, a5] na h (nQi post) mc ms) (hd : nMd y bytes maxL (some .int) 5) (hq : Cond.methodLink own idx y ∈ lw_all) (hdg : decode cc pc = .ok (.invokevirtual idx, 3)) {kk ci : Nat} {fs : List Value} {rC : vw_C} (hk : na kk = b) (he : h kk = some (.inr (ci, fs))) (hc : nCl[ci]? = some rC) (hcl : rC.1 = y.cls) (hfit : nFit rm2 rm maxL mc ms) (hLn : L.length = nL) (hst : (st.map fun v => v.category).sum ≤ 8) (hce : cells + mc ≤ rm.cells) (hsl : slots + ms ≤ rm.slots)
    (k : ∀ (r : Int32) (na2 : nA) (h2 : nH), post r na2 h2 → WN K na2 h2 (cells + mc) (slots + ms) Q (pc + 3) L (.int r :: st)) : WN K na h cells slots Q pc L (a5 :: a4 :: a3 :: a2 :: a1 :: .ref b :: st) := by
  obtain ⟨p, l, e, R, s, m, args, below, meth, c, G, sz⟩ := K
  obtain ⟨hx, hb, hml, hown, hts, hK, hX, hZ, hsz, hlk, hrt, hRm, hl⟩ := hC
  intro H locs ls hR hS hL
  subst hk
  subst hRm
  exact va_calli (va_runV (As := [a1, a2, a3, a4, a5]) (rest := st) ⟨hx, hb, hml, hown, hts⟩ (hM l hl G sz) (cwV 5 hts (lw_V hq hd.1 hd.2.1 hd.2.2.1 hd.2.2.2.1) rfl hfit.1 hfit.2.1 ⟨rfl, hd.2.2.2.2⟩ ⟨hfit.2.2.1, hfit.2.2.2⟩) ⟨fun a U g mk q => ⟨q.1, nU.blind g mk a q.2⟩, by rw [← hcl]; exact va_recv hK (hR.P1 he) hc (q0 := 0) rfl, fun U hU hW => ⟨rfl, nU.call hR hS hK hX hZ hsz hU hW⟩⟩ rfl rfl (hL.1.trans hLn) rfl (lv_room hst) hdg ⟨hce, hsl⟩) hS (fun q _ h => h) (fun q h => h) (fun r u t H1 locs1 ht hvm hp hB hz hk1 hS1 => k r u.1 u.2 hp H1 locs1 ls (by rw [← ht]; exact hB.1) hS1 hL)
theorem n_callV5z (hC : nC K cc nL own ret rm) {b : Nat} {a1 a2 a3 a4 a5 : Value}  {post : Int32 → nA → nH → Prop} (hM : nM y bytes maxL (some .boolean) rm2 [.ref b, a1, a2, a3, a4, a5] na h (nQi post) mc ms) (hd : nMd y bytes maxL (some .boolean) 5) (hq : Cond.methodLink own idx y ∈ lw_all) (hdg : decode cc pc = .ok (.invokevirtual idx, 3)) {kk ci : Nat} {fs : List Value} {rC : vw_C} (hk : na kk = b) (he : h kk = some (.inr (ci, fs))) (hc : nCl[ci]? = some rC) (hcl : rC.1 = y.cls) (hfit : nFit rm2 rm maxL mc ms) (hLn : L.length = nL) (hst : (st.map fun v => v.category).sum ≤ 8) (hce : cells + mc ≤ rm.cells) (hsl : slots + ms ≤ rm.slots)
    (k : ∀ (r : Int32) (na2 : nA) (h2 : nH), post r na2 h2 → WN K na2 h2 (cells + mc) (slots + ms) Q (pc + 3) L (.int r :: st)) : WN K na h cells slots Q pc L (a5 :: a4 :: a3 :: a2 :: a1 :: .ref b :: st) := by
  obtain ⟨p, l, e, R, s, m, args, below, meth, c, G, sz⟩ := K
  obtain ⟨hx, hb, hml, hown, hts, hK, hX, hZ, hsz, hlk, hrt, hRm, hl⟩ := hC
  intro H locs ls hR hS hL
  subst hk
  subst hRm
  exact va_calli (va_runV (As := [a1, a2, a3, a4, a5]) (rest := st) ⟨hx, hb, hml, hown, hts⟩ (hM l hl G sz) (cwV 5 hts (lw_V hq hd.1 hd.2.1 hd.2.2.1 hd.2.2.2.1) rfl hfit.1 hfit.2.1 ⟨rfl, hd.2.2.2.2⟩ ⟨hfit.2.2.1, hfit.2.2.2⟩) ⟨fun a U g mk q => ⟨q.1, nU.blind g mk a q.2⟩, by rw [← hcl]; exact va_recv hK (hR.P1 he) hc (q0 := 0) rfl, fun U hU hW => ⟨rfl, nU.call hR hS hK hX hZ hsz hU hW⟩⟩ rfl rfl (hL.1.trans hLn) rfl (lv_room hst) hdg ⟨hce, hsl⟩) hS (fun q _ h => h) (fun q h => h) (fun r u t H1 locs1 ht hvm hp hB hz hk1 hS1 => k r u.1 u.2 hp H1 locs1 ls (by rw [← ht]; exact hB.1) hS1 hL)
theorem n_callV5v (hC : nC K cc nL own ret rm) {b : Nat} {a1 a2 a3 a4 a5 : Value}  {post : nA → nH → Prop} (hM : nM y bytes maxL none rm2 [.ref b, a1, a2, a3, a4, a5] na h (nQv post) mc ms) (hd : nMd y bytes maxL none 5) (hq : Cond.methodLink own idx y ∈ lw_all) (hdg : decode cc pc = .ok (.invokevirtual idx, 3)) {kk ci : Nat} {fs : List Value} {rC : vw_C} (hk : na kk = b) (he : h kk = some (.inr (ci, fs))) (hc : nCl[ci]? = some rC) (hcl : rC.1 = y.cls) (hfit : nFit rm2 rm maxL mc ms) (hLn : L.length = nL) (hst : (st.map fun v => v.category).sum ≤ 8) (hce : cells + mc ≤ rm.cells) (hsl : slots + ms ≤ rm.slots)
    (k : ∀ (na2 : nA) (h2 : nH), post na2 h2 → WN K na2 h2 (cells + mc) (slots + ms) Q (pc + 3) L st) : WN K na h cells slots Q pc L (a5 :: a4 :: a3 :: a2 :: a1 :: .ref b :: st) := by
  obtain ⟨p, l, e, R, s, m, args, below, meth, c, G, sz⟩ := K
  obtain ⟨hx, hb, hml, hown, hts, hK, hX, hZ, hsz, hlk, hrt, hRm, hl⟩ := hC
  intro H locs ls hR hS hL
  subst hk
  subst hRm
  exact va_callv (va_runV (As := [a1, a2, a3, a4, a5]) (rest := st) ⟨hx, hb, hml, hown, hts⟩ (hM l hl G sz) (cwV 5 hts (lw_V hq hd.1 hd.2.1 hd.2.2.1 hd.2.2.2.1) rfl hfit.1 hfit.2.1 ⟨rfl, hd.2.2.2.2⟩ ⟨hfit.2.2.1, hfit.2.2.2⟩) ⟨fun a U g mk q => ⟨q.1, nU.blind g mk a q.2⟩, by rw [← hcl]; exact va_recv hK (hR.P1 he) hc (q0 := 0) rfl, fun U hU hW => ⟨rfl, nU.call hR hS hK hX hZ hsz hU hW⟩⟩ rfl rfl (hL.1.trans hLn) rfl (lv_room hst) hdg ⟨hce, hsl⟩) hS (fun q _ h => h) (fun q h => h) (fun u t H1 locs1 ht hvm hp hB hz hk1 hS1 => k u.1 u.2 hp H1 locs1 ls (by rw [← ht]; exact hB.1) hS1 hL)
theorem n_callV5q (hC : nC K cc nL own ret rm) {b : Nat} {a1 a2 a3 a4 a5 : Value}  {rt : FieldType} {post : Option Nat → nA → nH → Prop} (hM : nM y bytes maxL (some rt) rm2 [.ref b, a1, a2, a3, a4, a5] na h (nQq post) mc ms) (hd : nMd y bytes maxL (some rt) 5) (hq : Cond.methodLink own idx y ∈ lw_all) (hdg : decode cc pc = .ok (.invokevirtual idx, 3)) {kk ci : Nat} {fs : List Value} {rC : vw_C} (hk : na kk = b) (he : h kk = some (.inr (ci, fs))) (hc : nCl[ci]? = some rC) (hcl : rC.1 = y.cls) (hfit : nFit rm2 rm maxL mc ms) (hLn : L.length = nL) (hst : (st.map fun v => v.category).sum ≤ 8) (hce : cells + mc ≤ rm.cells) (hsl : slots + ms ≤ rm.slots)
    (k : ∀ (r : Option Nat) (na2 : nA) (h2 : nH), post r na2 h2 → WN K na2 h2 (cells + mc) (slots + ms) Q (pc + 3) L (va_rf r :: st)) : WN K na h cells slots Q pc L (a5 :: a4 :: a3 :: a2 :: a1 :: .ref b :: st) := by
  obtain ⟨p, l, e, R, s, m, args, below, meth, c, G, sz⟩ := K
  obtain ⟨hx, hb, hml, hown, hts, hK, hX, hZ, hsz, hlk, hrt, hRm, hl⟩ := hC
  intro H locs ls hR hS hL
  subst hk
  subst hRm
  exact va_callq (va_runV (As := [a1, a2, a3, a4, a5]) (rest := st) ⟨hx, hb, hml, hown, hts⟩ (hM l hl G sz) (cwV 5 hts (lw_V hq hd.1 hd.2.1 hd.2.2.1 hd.2.2.2.1) rfl hfit.1 hfit.2.1 ⟨rfl, hd.2.2.2.2⟩ ⟨hfit.2.2.1, hfit.2.2.2⟩) ⟨fun a U g mk q => ⟨q.1, nU.blind g mk a q.2⟩, by rw [← hcl]; exact va_recv hK (hR.P1 he) hc (q0 := 0) rfl, fun U hU hW => ⟨rfl, nU.call hR hS hK hX hZ hsz hU hW⟩⟩ rfl rfl (hL.1.trans hLn) rfl (lv_room hst) hdg ⟨hce, hsl⟩) hS (fun q _ h => h) (fun q h => h) (fun r u t H1 locs1 ht hvm hp hB hz hk1 hS1 => k r u.1 u.2 hp H1 locs1 ls (by rw [← ht]; exact hB.1) hS1 hL)
theorem n_callS0i (hC : nC K cc nL own ret rm)  {post : Int32 → nA → nH → Prop} (hM : nM y bytes maxL (some .int) rm2 [] na h (nQi post) mc ms) (hd : nMs y bytes maxL (some .int) 0) (hq : Cond.methodLink own idx y ∈ lw_all) (hdg : decode cc pc = .ok (.invokestatic idx, 3)) (hfit : nFit rm2 rm maxL mc ms) (hLn : L.length = nL) (hst : (st.map fun v => v.category).sum ≤ 8) (hce : cells + mc ≤ rm.cells) (hsl : slots + ms ≤ rm.slots)
    (k : ∀ (r : Int32) (na2 : nA) (h2 : nH), post r na2 h2 → WN K na2 h2 (cells + mc) (slots + ms) Q (pc + 3) L (.int r :: st)) : WN K na h cells slots Q pc L (st) := by
  obtain ⟨p, l, e, R, s, m, args, below, meth, c, G, sz⟩ := K
  obtain ⟨hx, hb, hml, hown, hts, hK, hX, hZ, hsz, hlk, hrt, hRm, hl⟩ := hC
  intro H locs ls hR hS hL
  subst hRm
  exact va_calli (va_runS (As := []) (rest := st) ⟨hx, hb, hml, hown, hts⟩ (hM l hl G sz) (va_cwS 0 hts (lw_S hq hd.1 hd.2.1 hd.2.2.1) rfl hfit.1 hfit.2.1 hd.2.2.2 ⟨hfit.2.2.1, hfit.2.2.2⟩) ⟨fun a U g mk q => ⟨q.1, nU.blind g mk a q.2⟩, fun U hU hW => ⟨rfl, nU.call hR hS hK hX hZ hsz hU hW⟩⟩ rfl rfl (hL.1.trans hLn) rfl (lv_room hst) hdg ⟨hce, hsl⟩) hS (fun q _ h => h) (fun q h => h) (fun r u t H1 locs1 ht hvm hp hB hz hk1 hS1 => k r u.1 u.2 hp H1 locs1 ls (by rw [← ht]; exact hB.1) hS1 hL)
theorem n_callS0z (hC : nC K cc nL own ret rm)  {post : Int32 → nA → nH → Prop} (hM : nM y bytes maxL (some .boolean) rm2 [] na h (nQi post) mc ms) (hd : nMs y bytes maxL (some .boolean) 0) (hq : Cond.methodLink own idx y ∈ lw_all) (hdg : decode cc pc = .ok (.invokestatic idx, 3)) (hfit : nFit rm2 rm maxL mc ms) (hLn : L.length = nL) (hst : (st.map fun v => v.category).sum ≤ 8) (hce : cells + mc ≤ rm.cells) (hsl : slots + ms ≤ rm.slots)
    (k : ∀ (r : Int32) (na2 : nA) (h2 : nH), post r na2 h2 → WN K na2 h2 (cells + mc) (slots + ms) Q (pc + 3) L (.int r :: st)) : WN K na h cells slots Q pc L (st) := by
  obtain ⟨p, l, e, R, s, m, args, below, meth, c, G, sz⟩ := K
  obtain ⟨hx, hb, hml, hown, hts, hK, hX, hZ, hsz, hlk, hrt, hRm, hl⟩ := hC
  intro H locs ls hR hS hL
  subst hRm
  exact va_calli (va_runS (As := []) (rest := st) ⟨hx, hb, hml, hown, hts⟩ (hM l hl G sz) (va_cwS 0 hts (lw_S hq hd.1 hd.2.1 hd.2.2.1) rfl hfit.1 hfit.2.1 hd.2.2.2 ⟨hfit.2.2.1, hfit.2.2.2⟩) ⟨fun a U g mk q => ⟨q.1, nU.blind g mk a q.2⟩, fun U hU hW => ⟨rfl, nU.call hR hS hK hX hZ hsz hU hW⟩⟩ rfl rfl (hL.1.trans hLn) rfl (lv_room hst) hdg ⟨hce, hsl⟩) hS (fun q _ h => h) (fun q h => h) (fun r u t H1 locs1 ht hvm hp hB hz hk1 hS1 => k r u.1 u.2 hp H1 locs1 ls (by rw [← ht]; exact hB.1) hS1 hL)
theorem n_callS0v (hC : nC K cc nL own ret rm)  {post : nA → nH → Prop} (hM : nM y bytes maxL none rm2 [] na h (nQv post) mc ms) (hd : nMs y bytes maxL none 0) (hq : Cond.methodLink own idx y ∈ lw_all) (hdg : decode cc pc = .ok (.invokestatic idx, 3)) (hfit : nFit rm2 rm maxL mc ms) (hLn : L.length = nL) (hst : (st.map fun v => v.category).sum ≤ 8) (hce : cells + mc ≤ rm.cells) (hsl : slots + ms ≤ rm.slots)
    (k : ∀ (na2 : nA) (h2 : nH), post na2 h2 → WN K na2 h2 (cells + mc) (slots + ms) Q (pc + 3) L st) : WN K na h cells slots Q pc L (st) := by
  obtain ⟨p, l, e, R, s, m, args, below, meth, c, G, sz⟩ := K
  obtain ⟨hx, hb, hml, hown, hts, hK, hX, hZ, hsz, hlk, hrt, hRm, hl⟩ := hC
  intro H locs ls hR hS hL
  subst hRm
  exact va_callv (va_runS (As := []) (rest := st) ⟨hx, hb, hml, hown, hts⟩ (hM l hl G sz) (va_cwS 0 hts (lw_S hq hd.1 hd.2.1 hd.2.2.1) rfl hfit.1 hfit.2.1 hd.2.2.2 ⟨hfit.2.2.1, hfit.2.2.2⟩) ⟨fun a U g mk q => ⟨q.1, nU.blind g mk a q.2⟩, fun U hU hW => ⟨rfl, nU.call hR hS hK hX hZ hsz hU hW⟩⟩ rfl rfl (hL.1.trans hLn) rfl (lv_room hst) hdg ⟨hce, hsl⟩) hS (fun q _ h => h) (fun q h => h) (fun u t H1 locs1 ht hvm hp hB hz hk1 hS1 => k u.1 u.2 hp H1 locs1 ls (by rw [← ht]; exact hB.1) hS1 hL)
theorem n_callS0q (hC : nC K cc nL own ret rm)  {rt : FieldType} {post : Option Nat → nA → nH → Prop} (hM : nM y bytes maxL (some rt) rm2 [] na h (nQq post) mc ms) (hd : nMs y bytes maxL (some rt) 0) (hq : Cond.methodLink own idx y ∈ lw_all) (hdg : decode cc pc = .ok (.invokestatic idx, 3)) (hfit : nFit rm2 rm maxL mc ms) (hLn : L.length = nL) (hst : (st.map fun v => v.category).sum ≤ 8) (hce : cells + mc ≤ rm.cells) (hsl : slots + ms ≤ rm.slots)
    (k : ∀ (r : Option Nat) (na2 : nA) (h2 : nH), post r na2 h2 → WN K na2 h2 (cells + mc) (slots + ms) Q (pc + 3) L (va_rf r :: st)) : WN K na h cells slots Q pc L (st) := by
  obtain ⟨p, l, e, R, s, m, args, below, meth, c, G, sz⟩ := K
  obtain ⟨hx, hb, hml, hown, hts, hK, hX, hZ, hsz, hlk, hrt, hRm, hl⟩ := hC
  intro H locs ls hR hS hL
  subst hRm
  exact va_callq (va_runS (As := []) (rest := st) ⟨hx, hb, hml, hown, hts⟩ (hM l hl G sz) (va_cwS 0 hts (lw_S hq hd.1 hd.2.1 hd.2.2.1) rfl hfit.1 hfit.2.1 hd.2.2.2 ⟨hfit.2.2.1, hfit.2.2.2⟩) ⟨fun a U g mk q => ⟨q.1, nU.blind g mk a q.2⟩, fun U hU hW => ⟨rfl, nU.call hR hS hK hX hZ hsz hU hW⟩⟩ rfl rfl (hL.1.trans hLn) rfl (lv_room hst) hdg ⟨hce, hsl⟩) hS (fun q _ h => h) (fun q h => h) (fun r u t H1 locs1 ht hvm hp hB hz hk1 hS1 => k r u.1 u.2 hp H1 locs1 ls (by rw [← ht]; exact hB.1) hS1 hL)
theorem n_callS1i (hC : nC K cc nL own ret rm) {a1 : Value}  {post : Int32 → nA → nH → Prop} (hM : nM y bytes maxL (some .int) rm2 [a1] na h (nQi post) mc ms) (hd : nMs y bytes maxL (some .int) 1) (hq : Cond.methodLink own idx y ∈ lw_all) (hdg : decode cc pc = .ok (.invokestatic idx, 3)) (hfit : nFit rm2 rm maxL mc ms) (hLn : L.length = nL) (hst : (st.map fun v => v.category).sum ≤ 8) (hce : cells + mc ≤ rm.cells) (hsl : slots + ms ≤ rm.slots)
    (k : ∀ (r : Int32) (na2 : nA) (h2 : nH), post r na2 h2 → WN K na2 h2 (cells + mc) (slots + ms) Q (pc + 3) L (.int r :: st)) : WN K na h cells slots Q pc L (a1 :: st) := by
  obtain ⟨p, l, e, R, s, m, args, below, meth, c, G, sz⟩ := K
  obtain ⟨hx, hb, hml, hown, hts, hK, hX, hZ, hsz, hlk, hrt, hRm, hl⟩ := hC
  intro H locs ls hR hS hL
  subst hRm
  exact va_calli (va_runS (As := [a1]) (rest := st) ⟨hx, hb, hml, hown, hts⟩ (hM l hl G sz) (va_cwS 1 hts (lw_S hq hd.1 hd.2.1 hd.2.2.1) rfl hfit.1 hfit.2.1 hd.2.2.2 ⟨hfit.2.2.1, hfit.2.2.2⟩) ⟨fun a U g mk q => ⟨q.1, nU.blind g mk a q.2⟩, fun U hU hW => ⟨rfl, nU.call hR hS hK hX hZ hsz hU hW⟩⟩ rfl rfl (hL.1.trans hLn) rfl (lv_room hst) hdg ⟨hce, hsl⟩) hS (fun q _ h => h) (fun q h => h) (fun r u t H1 locs1 ht hvm hp hB hz hk1 hS1 => k r u.1 u.2 hp H1 locs1 ls (by rw [← ht]; exact hB.1) hS1 hL)
theorem n_callS1z (hC : nC K cc nL own ret rm) {a1 : Value}  {post : Int32 → nA → nH → Prop} (hM : nM y bytes maxL (some .boolean) rm2 [a1] na h (nQi post) mc ms) (hd : nMs y bytes maxL (some .boolean) 1) (hq : Cond.methodLink own idx y ∈ lw_all) (hdg : decode cc pc = .ok (.invokestatic idx, 3)) (hfit : nFit rm2 rm maxL mc ms) (hLn : L.length = nL) (hst : (st.map fun v => v.category).sum ≤ 8) (hce : cells + mc ≤ rm.cells) (hsl : slots + ms ≤ rm.slots)
    (k : ∀ (r : Int32) (na2 : nA) (h2 : nH), post r na2 h2 → WN K na2 h2 (cells + mc) (slots + ms) Q (pc + 3) L (.int r :: st)) : WN K na h cells slots Q pc L (a1 :: st) := by
  obtain ⟨p, l, e, R, s, m, args, below, meth, c, G, sz⟩ := K
  obtain ⟨hx, hb, hml, hown, hts, hK, hX, hZ, hsz, hlk, hrt, hRm, hl⟩ := hC
  intro H locs ls hR hS hL
  subst hRm
  exact va_calli (va_runS (As := [a1]) (rest := st) ⟨hx, hb, hml, hown, hts⟩ (hM l hl G sz) (va_cwS 1 hts (lw_S hq hd.1 hd.2.1 hd.2.2.1) rfl hfit.1 hfit.2.1 hd.2.2.2 ⟨hfit.2.2.1, hfit.2.2.2⟩) ⟨fun a U g mk q => ⟨q.1, nU.blind g mk a q.2⟩, fun U hU hW => ⟨rfl, nU.call hR hS hK hX hZ hsz hU hW⟩⟩ rfl rfl (hL.1.trans hLn) rfl (lv_room hst) hdg ⟨hce, hsl⟩) hS (fun q _ h => h) (fun q h => h) (fun r u t H1 locs1 ht hvm hp hB hz hk1 hS1 => k r u.1 u.2 hp H1 locs1 ls (by rw [← ht]; exact hB.1) hS1 hL)
theorem n_callS1v (hC : nC K cc nL own ret rm) {a1 : Value}  {post : nA → nH → Prop} (hM : nM y bytes maxL none rm2 [a1] na h (nQv post) mc ms) (hd : nMs y bytes maxL none 1) (hq : Cond.methodLink own idx y ∈ lw_all) (hdg : decode cc pc = .ok (.invokestatic idx, 3)) (hfit : nFit rm2 rm maxL mc ms) (hLn : L.length = nL) (hst : (st.map fun v => v.category).sum ≤ 8) (hce : cells + mc ≤ rm.cells) (hsl : slots + ms ≤ rm.slots)
    (k : ∀ (na2 : nA) (h2 : nH), post na2 h2 → WN K na2 h2 (cells + mc) (slots + ms) Q (pc + 3) L st) : WN K na h cells slots Q pc L (a1 :: st) := by
  obtain ⟨p, l, e, R, s, m, args, below, meth, c, G, sz⟩ := K
  obtain ⟨hx, hb, hml, hown, hts, hK, hX, hZ, hsz, hlk, hrt, hRm, hl⟩ := hC
  intro H locs ls hR hS hL
  subst hRm
  exact va_callv (va_runS (As := [a1]) (rest := st) ⟨hx, hb, hml, hown, hts⟩ (hM l hl G sz) (va_cwS 1 hts (lw_S hq hd.1 hd.2.1 hd.2.2.1) rfl hfit.1 hfit.2.1 hd.2.2.2 ⟨hfit.2.2.1, hfit.2.2.2⟩) ⟨fun a U g mk q => ⟨q.1, nU.blind g mk a q.2⟩, fun U hU hW => ⟨rfl, nU.call hR hS hK hX hZ hsz hU hW⟩⟩ rfl rfl (hL.1.trans hLn) rfl (lv_room hst) hdg ⟨hce, hsl⟩) hS (fun q _ h => h) (fun q h => h) (fun u t H1 locs1 ht hvm hp hB hz hk1 hS1 => k u.1 u.2 hp H1 locs1 ls (by rw [← ht]; exact hB.1) hS1 hL)
theorem n_callS1q (hC : nC K cc nL own ret rm) {a1 : Value}  {rt : FieldType} {post : Option Nat → nA → nH → Prop} (hM : nM y bytes maxL (some rt) rm2 [a1] na h (nQq post) mc ms) (hd : nMs y bytes maxL (some rt) 1) (hq : Cond.methodLink own idx y ∈ lw_all) (hdg : decode cc pc = .ok (.invokestatic idx, 3)) (hfit : nFit rm2 rm maxL mc ms) (hLn : L.length = nL) (hst : (st.map fun v => v.category).sum ≤ 8) (hce : cells + mc ≤ rm.cells) (hsl : slots + ms ≤ rm.slots)
    (k : ∀ (r : Option Nat) (na2 : nA) (h2 : nH), post r na2 h2 → WN K na2 h2 (cells + mc) (slots + ms) Q (pc + 3) L (va_rf r :: st)) : WN K na h cells slots Q pc L (a1 :: st) := by
  obtain ⟨p, l, e, R, s, m, args, below, meth, c, G, sz⟩ := K
  obtain ⟨hx, hb, hml, hown, hts, hK, hX, hZ, hsz, hlk, hrt, hRm, hl⟩ := hC
  intro H locs ls hR hS hL
  subst hRm
  exact va_callq (va_runS (As := [a1]) (rest := st) ⟨hx, hb, hml, hown, hts⟩ (hM l hl G sz) (va_cwS 1 hts (lw_S hq hd.1 hd.2.1 hd.2.2.1) rfl hfit.1 hfit.2.1 hd.2.2.2 ⟨hfit.2.2.1, hfit.2.2.2⟩) ⟨fun a U g mk q => ⟨q.1, nU.blind g mk a q.2⟩, fun U hU hW => ⟨rfl, nU.call hR hS hK hX hZ hsz hU hW⟩⟩ rfl rfl (hL.1.trans hLn) rfl (lv_room hst) hdg ⟨hce, hsl⟩) hS (fun q _ h => h) (fun q h => h) (fun r u t H1 locs1 ht hvm hp hB hz hk1 hS1 => k r u.1 u.2 hp H1 locs1 ls (by rw [← ht]; exact hB.1) hS1 hL)
theorem n_callS2i (hC : nC K cc nL own ret rm) {a1 a2 : Value}  {post : Int32 → nA → nH → Prop} (hM : nM y bytes maxL (some .int) rm2 [a1, a2] na h (nQi post) mc ms) (hd : nMs y bytes maxL (some .int) 2) (hq : Cond.methodLink own idx y ∈ lw_all) (hdg : decode cc pc = .ok (.invokestatic idx, 3)) (hfit : nFit rm2 rm maxL mc ms) (hLn : L.length = nL) (hst : (st.map fun v => v.category).sum ≤ 8) (hce : cells + mc ≤ rm.cells) (hsl : slots + ms ≤ rm.slots)
    (k : ∀ (r : Int32) (na2 : nA) (h2 : nH), post r na2 h2 → WN K na2 h2 (cells + mc) (slots + ms) Q (pc + 3) L (.int r :: st)) : WN K na h cells slots Q pc L (a2 :: a1 :: st) := by
  obtain ⟨p, l, e, R, s, m, args, below, meth, c, G, sz⟩ := K
  obtain ⟨hx, hb, hml, hown, hts, hK, hX, hZ, hsz, hlk, hrt, hRm, hl⟩ := hC
  intro H locs ls hR hS hL
  subst hRm
  exact va_calli (va_runS (As := [a1, a2]) (rest := st) ⟨hx, hb, hml, hown, hts⟩ (hM l hl G sz) (va_cwS 2 hts (lw_S hq hd.1 hd.2.1 hd.2.2.1) rfl hfit.1 hfit.2.1 hd.2.2.2 ⟨hfit.2.2.1, hfit.2.2.2⟩) ⟨fun a U g mk q => ⟨q.1, nU.blind g mk a q.2⟩, fun U hU hW => ⟨rfl, nU.call hR hS hK hX hZ hsz hU hW⟩⟩ rfl rfl (hL.1.trans hLn) rfl (lv_room hst) hdg ⟨hce, hsl⟩) hS (fun q _ h => h) (fun q h => h) (fun r u t H1 locs1 ht hvm hp hB hz hk1 hS1 => k r u.1 u.2 hp H1 locs1 ls (by rw [← ht]; exact hB.1) hS1 hL)
theorem n_callS2z (hC : nC K cc nL own ret rm) {a1 a2 : Value}  {post : Int32 → nA → nH → Prop} (hM : nM y bytes maxL (some .boolean) rm2 [a1, a2] na h (nQi post) mc ms) (hd : nMs y bytes maxL (some .boolean) 2) (hq : Cond.methodLink own idx y ∈ lw_all) (hdg : decode cc pc = .ok (.invokestatic idx, 3)) (hfit : nFit rm2 rm maxL mc ms) (hLn : L.length = nL) (hst : (st.map fun v => v.category).sum ≤ 8) (hce : cells + mc ≤ rm.cells) (hsl : slots + ms ≤ rm.slots)
    (k : ∀ (r : Int32) (na2 : nA) (h2 : nH), post r na2 h2 → WN K na2 h2 (cells + mc) (slots + ms) Q (pc + 3) L (.int r :: st)) : WN K na h cells slots Q pc L (a2 :: a1 :: st) := by
  obtain ⟨p, l, e, R, s, m, args, below, meth, c, G, sz⟩ := K
  obtain ⟨hx, hb, hml, hown, hts, hK, hX, hZ, hsz, hlk, hrt, hRm, hl⟩ := hC
  intro H locs ls hR hS hL
  subst hRm
  exact va_calli (va_runS (As := [a1, a2]) (rest := st) ⟨hx, hb, hml, hown, hts⟩ (hM l hl G sz) (va_cwS 2 hts (lw_S hq hd.1 hd.2.1 hd.2.2.1) rfl hfit.1 hfit.2.1 hd.2.2.2 ⟨hfit.2.2.1, hfit.2.2.2⟩) ⟨fun a U g mk q => ⟨q.1, nU.blind g mk a q.2⟩, fun U hU hW => ⟨rfl, nU.call hR hS hK hX hZ hsz hU hW⟩⟩ rfl rfl (hL.1.trans hLn) rfl (lv_room hst) hdg ⟨hce, hsl⟩) hS (fun q _ h => h) (fun q h => h) (fun r u t H1 locs1 ht hvm hp hB hz hk1 hS1 => k r u.1 u.2 hp H1 locs1 ls (by rw [← ht]; exact hB.1) hS1 hL)
theorem n_callS2v (hC : nC K cc nL own ret rm) {a1 a2 : Value}  {post : nA → nH → Prop} (hM : nM y bytes maxL none rm2 [a1, a2] na h (nQv post) mc ms) (hd : nMs y bytes maxL none 2) (hq : Cond.methodLink own idx y ∈ lw_all) (hdg : decode cc pc = .ok (.invokestatic idx, 3)) (hfit : nFit rm2 rm maxL mc ms) (hLn : L.length = nL) (hst : (st.map fun v => v.category).sum ≤ 8) (hce : cells + mc ≤ rm.cells) (hsl : slots + ms ≤ rm.slots)
    (k : ∀ (na2 : nA) (h2 : nH), post na2 h2 → WN K na2 h2 (cells + mc) (slots + ms) Q (pc + 3) L st) : WN K na h cells slots Q pc L (a2 :: a1 :: st) := by
  obtain ⟨p, l, e, R, s, m, args, below, meth, c, G, sz⟩ := K
  obtain ⟨hx, hb, hml, hown, hts, hK, hX, hZ, hsz, hlk, hrt, hRm, hl⟩ := hC
  intro H locs ls hR hS hL
  subst hRm
  exact va_callv (va_runS (As := [a1, a2]) (rest := st) ⟨hx, hb, hml, hown, hts⟩ (hM l hl G sz) (va_cwS 2 hts (lw_S hq hd.1 hd.2.1 hd.2.2.1) rfl hfit.1 hfit.2.1 hd.2.2.2 ⟨hfit.2.2.1, hfit.2.2.2⟩) ⟨fun a U g mk q => ⟨q.1, nU.blind g mk a q.2⟩, fun U hU hW => ⟨rfl, nU.call hR hS hK hX hZ hsz hU hW⟩⟩ rfl rfl (hL.1.trans hLn) rfl (lv_room hst) hdg ⟨hce, hsl⟩) hS (fun q _ h => h) (fun q h => h) (fun u t H1 locs1 ht hvm hp hB hz hk1 hS1 => k u.1 u.2 hp H1 locs1 ls (by rw [← ht]; exact hB.1) hS1 hL)
theorem n_callS2q (hC : nC K cc nL own ret rm) {a1 a2 : Value}  {rt : FieldType} {post : Option Nat → nA → nH → Prop} (hM : nM y bytes maxL (some rt) rm2 [a1, a2] na h (nQq post) mc ms) (hd : nMs y bytes maxL (some rt) 2) (hq : Cond.methodLink own idx y ∈ lw_all) (hdg : decode cc pc = .ok (.invokestatic idx, 3)) (hfit : nFit rm2 rm maxL mc ms) (hLn : L.length = nL) (hst : (st.map fun v => v.category).sum ≤ 8) (hce : cells + mc ≤ rm.cells) (hsl : slots + ms ≤ rm.slots)
    (k : ∀ (r : Option Nat) (na2 : nA) (h2 : nH), post r na2 h2 → WN K na2 h2 (cells + mc) (slots + ms) Q (pc + 3) L (va_rf r :: st)) : WN K na h cells slots Q pc L (a2 :: a1 :: st) := by
  obtain ⟨p, l, e, R, s, m, args, below, meth, c, G, sz⟩ := K
  obtain ⟨hx, hb, hml, hown, hts, hK, hX, hZ, hsz, hlk, hrt, hRm, hl⟩ := hC
  intro H locs ls hR hS hL
  subst hRm
  exact va_callq (va_runS (As := [a1, a2]) (rest := st) ⟨hx, hb, hml, hown, hts⟩ (hM l hl G sz) (va_cwS 2 hts (lw_S hq hd.1 hd.2.1 hd.2.2.1) rfl hfit.1 hfit.2.1 hd.2.2.2 ⟨hfit.2.2.1, hfit.2.2.2⟩) ⟨fun a U g mk q => ⟨q.1, nU.blind g mk a q.2⟩, fun U hU hW => ⟨rfl, nU.call hR hS hK hX hZ hsz hU hW⟩⟩ rfl rfl (hL.1.trans hLn) rfl (lv_room hst) hdg ⟨hce, hsl⟩) hS (fun q _ h => h) (fun q h => h) (fun r u t H1 locs1 ht hvm hp hB hz hk1 hS1 => k r u.1 u.2 hp H1 locs1 ls (by rw [← ht]; exact hB.1) hS1 hL)
theorem n_callS3i (hC : nC K cc nL own ret rm) {a1 a2 a3 : Value}  {post : Int32 → nA → nH → Prop} (hM : nM y bytes maxL (some .int) rm2 [a1, a2, a3] na h (nQi post) mc ms) (hd : nMs y bytes maxL (some .int) 3) (hq : Cond.methodLink own idx y ∈ lw_all) (hdg : decode cc pc = .ok (.invokestatic idx, 3)) (hfit : nFit rm2 rm maxL mc ms) (hLn : L.length = nL) (hst : (st.map fun v => v.category).sum ≤ 8) (hce : cells + mc ≤ rm.cells) (hsl : slots + ms ≤ rm.slots)
    (k : ∀ (r : Int32) (na2 : nA) (h2 : nH), post r na2 h2 → WN K na2 h2 (cells + mc) (slots + ms) Q (pc + 3) L (.int r :: st)) : WN K na h cells slots Q pc L (a3 :: a2 :: a1 :: st) := by
  obtain ⟨p, l, e, R, s, m, args, below, meth, c, G, sz⟩ := K
  obtain ⟨hx, hb, hml, hown, hts, hK, hX, hZ, hsz, hlk, hrt, hRm, hl⟩ := hC
  intro H locs ls hR hS hL
  subst hRm
  exact va_calli (va_runS (As := [a1, a2, a3]) (rest := st) ⟨hx, hb, hml, hown, hts⟩ (hM l hl G sz) (va_cwS 3 hts (lw_S hq hd.1 hd.2.1 hd.2.2.1) rfl hfit.1 hfit.2.1 hd.2.2.2 ⟨hfit.2.2.1, hfit.2.2.2⟩) ⟨fun a U g mk q => ⟨q.1, nU.blind g mk a q.2⟩, fun U hU hW => ⟨rfl, nU.call hR hS hK hX hZ hsz hU hW⟩⟩ rfl rfl (hL.1.trans hLn) rfl (lv_room hst) hdg ⟨hce, hsl⟩) hS (fun q _ h => h) (fun q h => h) (fun r u t H1 locs1 ht hvm hp hB hz hk1 hS1 => k r u.1 u.2 hp H1 locs1 ls (by rw [← ht]; exact hB.1) hS1 hL)
theorem n_callS3z (hC : nC K cc nL own ret rm) {a1 a2 a3 : Value}  {post : Int32 → nA → nH → Prop} (hM : nM y bytes maxL (some .boolean) rm2 [a1, a2, a3] na h (nQi post) mc ms) (hd : nMs y bytes maxL (some .boolean) 3) (hq : Cond.methodLink own idx y ∈ lw_all) (hdg : decode cc pc = .ok (.invokestatic idx, 3)) (hfit : nFit rm2 rm maxL mc ms) (hLn : L.length = nL) (hst : (st.map fun v => v.category).sum ≤ 8) (hce : cells + mc ≤ rm.cells) (hsl : slots + ms ≤ rm.slots)
    (k : ∀ (r : Int32) (na2 : nA) (h2 : nH), post r na2 h2 → WN K na2 h2 (cells + mc) (slots + ms) Q (pc + 3) L (.int r :: st)) : WN K na h cells slots Q pc L (a3 :: a2 :: a1 :: st) := by
  obtain ⟨p, l, e, R, s, m, args, below, meth, c, G, sz⟩ := K
  obtain ⟨hx, hb, hml, hown, hts, hK, hX, hZ, hsz, hlk, hrt, hRm, hl⟩ := hC
  intro H locs ls hR hS hL
  subst hRm
  exact va_calli (va_runS (As := [a1, a2, a3]) (rest := st) ⟨hx, hb, hml, hown, hts⟩ (hM l hl G sz) (va_cwS 3 hts (lw_S hq hd.1 hd.2.1 hd.2.2.1) rfl hfit.1 hfit.2.1 hd.2.2.2 ⟨hfit.2.2.1, hfit.2.2.2⟩) ⟨fun a U g mk q => ⟨q.1, nU.blind g mk a q.2⟩, fun U hU hW => ⟨rfl, nU.call hR hS hK hX hZ hsz hU hW⟩⟩ rfl rfl (hL.1.trans hLn) rfl (lv_room hst) hdg ⟨hce, hsl⟩) hS (fun q _ h => h) (fun q h => h) (fun r u t H1 locs1 ht hvm hp hB hz hk1 hS1 => k r u.1 u.2 hp H1 locs1 ls (by rw [← ht]; exact hB.1) hS1 hL)
theorem n_callS3v (hC : nC K cc nL own ret rm) {a1 a2 a3 : Value}  {post : nA → nH → Prop} (hM : nM y bytes maxL none rm2 [a1, a2, a3] na h (nQv post) mc ms) (hd : nMs y bytes maxL none 3) (hq : Cond.methodLink own idx y ∈ lw_all) (hdg : decode cc pc = .ok (.invokestatic idx, 3)) (hfit : nFit rm2 rm maxL mc ms) (hLn : L.length = nL) (hst : (st.map fun v => v.category).sum ≤ 8) (hce : cells + mc ≤ rm.cells) (hsl : slots + ms ≤ rm.slots)
    (k : ∀ (na2 : nA) (h2 : nH), post na2 h2 → WN K na2 h2 (cells + mc) (slots + ms) Q (pc + 3) L st) : WN K na h cells slots Q pc L (a3 :: a2 :: a1 :: st) := by
  obtain ⟨p, l, e, R, s, m, args, below, meth, c, G, sz⟩ := K
  obtain ⟨hx, hb, hml, hown, hts, hK, hX, hZ, hsz, hlk, hrt, hRm, hl⟩ := hC
  intro H locs ls hR hS hL
  subst hRm
  exact va_callv (va_runS (As := [a1, a2, a3]) (rest := st) ⟨hx, hb, hml, hown, hts⟩ (hM l hl G sz) (va_cwS 3 hts (lw_S hq hd.1 hd.2.1 hd.2.2.1) rfl hfit.1 hfit.2.1 hd.2.2.2 ⟨hfit.2.2.1, hfit.2.2.2⟩) ⟨fun a U g mk q => ⟨q.1, nU.blind g mk a q.2⟩, fun U hU hW => ⟨rfl, nU.call hR hS hK hX hZ hsz hU hW⟩⟩ rfl rfl (hL.1.trans hLn) rfl (lv_room hst) hdg ⟨hce, hsl⟩) hS (fun q _ h => h) (fun q h => h) (fun u t H1 locs1 ht hvm hp hB hz hk1 hS1 => k u.1 u.2 hp H1 locs1 ls (by rw [← ht]; exact hB.1) hS1 hL)
theorem n_callS3q (hC : nC K cc nL own ret rm) {a1 a2 a3 : Value}  {rt : FieldType} {post : Option Nat → nA → nH → Prop} (hM : nM y bytes maxL (some rt) rm2 [a1, a2, a3] na h (nQq post) mc ms) (hd : nMs y bytes maxL (some rt) 3) (hq : Cond.methodLink own idx y ∈ lw_all) (hdg : decode cc pc = .ok (.invokestatic idx, 3)) (hfit : nFit rm2 rm maxL mc ms) (hLn : L.length = nL) (hst : (st.map fun v => v.category).sum ≤ 8) (hce : cells + mc ≤ rm.cells) (hsl : slots + ms ≤ rm.slots)
    (k : ∀ (r : Option Nat) (na2 : nA) (h2 : nH), post r na2 h2 → WN K na2 h2 (cells + mc) (slots + ms) Q (pc + 3) L (va_rf r :: st)) : WN K na h cells slots Q pc L (a3 :: a2 :: a1 :: st) := by
  obtain ⟨p, l, e, R, s, m, args, below, meth, c, G, sz⟩ := K
  obtain ⟨hx, hb, hml, hown, hts, hK, hX, hZ, hsz, hlk, hrt, hRm, hl⟩ := hC
  intro H locs ls hR hS hL
  subst hRm
  exact va_callq (va_runS (As := [a1, a2, a3]) (rest := st) ⟨hx, hb, hml, hown, hts⟩ (hM l hl G sz) (va_cwS 3 hts (lw_S hq hd.1 hd.2.1 hd.2.2.1) rfl hfit.1 hfit.2.1 hd.2.2.2 ⟨hfit.2.2.1, hfit.2.2.2⟩) ⟨fun a U g mk q => ⟨q.1, nU.blind g mk a q.2⟩, fun U hU hW => ⟨rfl, nU.call hR hS hK hX hZ hsz hU hW⟩⟩ rfl rfl (hL.1.trans hLn) rfl (lv_room hst) hdg ⟨hce, hsl⟩) hS (fun q _ h => h) (fun q h => h) (fun r u t H1 locs1 ht hvm hp hB hz hk1 hS1 => k r u.1 u.2 hp H1 locs1 ls (by rw [← ht]; exact hB.1) hS1 hL)
theorem n_callS4i (hC : nC K cc nL own ret rm) {a1 a2 a3 a4 : Value}  {post : Int32 → nA → nH → Prop} (hM : nM y bytes maxL (some .int) rm2 [a1, a2, a3, a4] na h (nQi post) mc ms) (hd : nMs y bytes maxL (some .int) 4) (hq : Cond.methodLink own idx y ∈ lw_all) (hdg : decode cc pc = .ok (.invokestatic idx, 3)) (hfit : nFit rm2 rm maxL mc ms) (hLn : L.length = nL) (hst : (st.map fun v => v.category).sum ≤ 8) (hce : cells + mc ≤ rm.cells) (hsl : slots + ms ≤ rm.slots)
    (k : ∀ (r : Int32) (na2 : nA) (h2 : nH), post r na2 h2 → WN K na2 h2 (cells + mc) (slots + ms) Q (pc + 3) L (.int r :: st)) : WN K na h cells slots Q pc L (a4 :: a3 :: a2 :: a1 :: st) := by
  obtain ⟨p, l, e, R, s, m, args, below, meth, c, G, sz⟩ := K
  obtain ⟨hx, hb, hml, hown, hts, hK, hX, hZ, hsz, hlk, hrt, hRm, hl⟩ := hC
  intro H locs ls hR hS hL
  subst hRm
  exact va_calli (va_runS (As := [a1, a2, a3, a4]) (rest := st) ⟨hx, hb, hml, hown, hts⟩ (hM l hl G sz) (va_cwS 4 hts (lw_S hq hd.1 hd.2.1 hd.2.2.1) rfl hfit.1 hfit.2.1 hd.2.2.2 ⟨hfit.2.2.1, hfit.2.2.2⟩) ⟨fun a U g mk q => ⟨q.1, nU.blind g mk a q.2⟩, fun U hU hW => ⟨rfl, nU.call hR hS hK hX hZ hsz hU hW⟩⟩ rfl rfl (hL.1.trans hLn) rfl (lv_room hst) hdg ⟨hce, hsl⟩) hS (fun q _ h => h) (fun q h => h) (fun r u t H1 locs1 ht hvm hp hB hz hk1 hS1 => k r u.1 u.2 hp H1 locs1 ls (by rw [← ht]; exact hB.1) hS1 hL)
theorem n_callS4z (hC : nC K cc nL own ret rm) {a1 a2 a3 a4 : Value}  {post : Int32 → nA → nH → Prop} (hM : nM y bytes maxL (some .boolean) rm2 [a1, a2, a3, a4] na h (nQi post) mc ms) (hd : nMs y bytes maxL (some .boolean) 4) (hq : Cond.methodLink own idx y ∈ lw_all) (hdg : decode cc pc = .ok (.invokestatic idx, 3)) (hfit : nFit rm2 rm maxL mc ms) (hLn : L.length = nL) (hst : (st.map fun v => v.category).sum ≤ 8) (hce : cells + mc ≤ rm.cells) (hsl : slots + ms ≤ rm.slots)
    (k : ∀ (r : Int32) (na2 : nA) (h2 : nH), post r na2 h2 → WN K na2 h2 (cells + mc) (slots + ms) Q (pc + 3) L (.int r :: st)) : WN K na h cells slots Q pc L (a4 :: a3 :: a2 :: a1 :: st) := by
  obtain ⟨p, l, e, R, s, m, args, below, meth, c, G, sz⟩ := K
  obtain ⟨hx, hb, hml, hown, hts, hK, hX, hZ, hsz, hlk, hrt, hRm, hl⟩ := hC
  intro H locs ls hR hS hL
  subst hRm
  exact va_calli (va_runS (As := [a1, a2, a3, a4]) (rest := st) ⟨hx, hb, hml, hown, hts⟩ (hM l hl G sz) (va_cwS 4 hts (lw_S hq hd.1 hd.2.1 hd.2.2.1) rfl hfit.1 hfit.2.1 hd.2.2.2 ⟨hfit.2.2.1, hfit.2.2.2⟩) ⟨fun a U g mk q => ⟨q.1, nU.blind g mk a q.2⟩, fun U hU hW => ⟨rfl, nU.call hR hS hK hX hZ hsz hU hW⟩⟩ rfl rfl (hL.1.trans hLn) rfl (lv_room hst) hdg ⟨hce, hsl⟩) hS (fun q _ h => h) (fun q h => h) (fun r u t H1 locs1 ht hvm hp hB hz hk1 hS1 => k r u.1 u.2 hp H1 locs1 ls (by rw [← ht]; exact hB.1) hS1 hL)
theorem n_callS4v (hC : nC K cc nL own ret rm) {a1 a2 a3 a4 : Value}  {post : nA → nH → Prop} (hM : nM y bytes maxL none rm2 [a1, a2, a3, a4] na h (nQv post) mc ms) (hd : nMs y bytes maxL none 4) (hq : Cond.methodLink own idx y ∈ lw_all) (hdg : decode cc pc = .ok (.invokestatic idx, 3)) (hfit : nFit rm2 rm maxL mc ms) (hLn : L.length = nL) (hst : (st.map fun v => v.category).sum ≤ 8) (hce : cells + mc ≤ rm.cells) (hsl : slots + ms ≤ rm.slots)
    (k : ∀ (na2 : nA) (h2 : nH), post na2 h2 → WN K na2 h2 (cells + mc) (slots + ms) Q (pc + 3) L st) : WN K na h cells slots Q pc L (a4 :: a3 :: a2 :: a1 :: st) := by
  obtain ⟨p, l, e, R, s, m, args, below, meth, c, G, sz⟩ := K
  obtain ⟨hx, hb, hml, hown, hts, hK, hX, hZ, hsz, hlk, hrt, hRm, hl⟩ := hC
  intro H locs ls hR hS hL
  subst hRm
  exact va_callv (va_runS (As := [a1, a2, a3, a4]) (rest := st) ⟨hx, hb, hml, hown, hts⟩ (hM l hl G sz) (va_cwS 4 hts (lw_S hq hd.1 hd.2.1 hd.2.2.1) rfl hfit.1 hfit.2.1 hd.2.2.2 ⟨hfit.2.2.1, hfit.2.2.2⟩) ⟨fun a U g mk q => ⟨q.1, nU.blind g mk a q.2⟩, fun U hU hW => ⟨rfl, nU.call hR hS hK hX hZ hsz hU hW⟩⟩ rfl rfl (hL.1.trans hLn) rfl (lv_room hst) hdg ⟨hce, hsl⟩) hS (fun q _ h => h) (fun q h => h) (fun u t H1 locs1 ht hvm hp hB hz hk1 hS1 => k u.1 u.2 hp H1 locs1 ls (by rw [← ht]; exact hB.1) hS1 hL)
theorem n_callS4q (hC : nC K cc nL own ret rm) {a1 a2 a3 a4 : Value}  {rt : FieldType} {post : Option Nat → nA → nH → Prop} (hM : nM y bytes maxL (some rt) rm2 [a1, a2, a3, a4] na h (nQq post) mc ms) (hd : nMs y bytes maxL (some rt) 4) (hq : Cond.methodLink own idx y ∈ lw_all) (hdg : decode cc pc = .ok (.invokestatic idx, 3)) (hfit : nFit rm2 rm maxL mc ms) (hLn : L.length = nL) (hst : (st.map fun v => v.category).sum ≤ 8) (hce : cells + mc ≤ rm.cells) (hsl : slots + ms ≤ rm.slots)
    (k : ∀ (r : Option Nat) (na2 : nA) (h2 : nH), post r na2 h2 → WN K na2 h2 (cells + mc) (slots + ms) Q (pc + 3) L (va_rf r :: st)) : WN K na h cells slots Q pc L (a4 :: a3 :: a2 :: a1 :: st) := by
  obtain ⟨p, l, e, R, s, m, args, below, meth, c, G, sz⟩ := K
  obtain ⟨hx, hb, hml, hown, hts, hK, hX, hZ, hsz, hlk, hrt, hRm, hl⟩ := hC
  intro H locs ls hR hS hL
  subst hRm
  exact va_callq (va_runS (As := [a1, a2, a3, a4]) (rest := st) ⟨hx, hb, hml, hown, hts⟩ (hM l hl G sz) (va_cwS 4 hts (lw_S hq hd.1 hd.2.1 hd.2.2.1) rfl hfit.1 hfit.2.1 hd.2.2.2 ⟨hfit.2.2.1, hfit.2.2.2⟩) ⟨fun a U g mk q => ⟨q.1, nU.blind g mk a q.2⟩, fun U hU hW => ⟨rfl, nU.call hR hS hK hX hZ hsz hU hW⟩⟩ rfl rfl (hL.1.trans hLn) rfl (lv_room hst) hdg ⟨hce, hsl⟩) hS (fun q _ h => h) (fun q h => h) (fun r u t H1 locs1 ht hvm hp hB hz hk1 hS1 => k r u.1 u.2 hp H1 locs1 ls (by rw [← ht]; exact hB.1) hS1 hL)
theorem n_callS5i (hC : nC K cc nL own ret rm) {a1 a2 a3 a4 a5 : Value}  {post : Int32 → nA → nH → Prop} (hM : nM y bytes maxL (some .int) rm2 [a1, a2, a3, a4, a5] na h (nQi post) mc ms) (hd : nMs y bytes maxL (some .int) 5) (hq : Cond.methodLink own idx y ∈ lw_all) (hdg : decode cc pc = .ok (.invokestatic idx, 3)) (hfit : nFit rm2 rm maxL mc ms) (hLn : L.length = nL) (hst : (st.map fun v => v.category).sum ≤ 8) (hce : cells + mc ≤ rm.cells) (hsl : slots + ms ≤ rm.slots)
    (k : ∀ (r : Int32) (na2 : nA) (h2 : nH), post r na2 h2 → WN K na2 h2 (cells + mc) (slots + ms) Q (pc + 3) L (.int r :: st)) : WN K na h cells slots Q pc L (a5 :: a4 :: a3 :: a2 :: a1 :: st) := by
  obtain ⟨p, l, e, R, s, m, args, below, meth, c, G, sz⟩ := K
  obtain ⟨hx, hb, hml, hown, hts, hK, hX, hZ, hsz, hlk, hrt, hRm, hl⟩ := hC
  intro H locs ls hR hS hL
  subst hRm
  exact va_calli (va_runS (As := [a1, a2, a3, a4, a5]) (rest := st) ⟨hx, hb, hml, hown, hts⟩ (hM l hl G sz) (va_cwS 5 hts (lw_S hq hd.1 hd.2.1 hd.2.2.1) rfl hfit.1 hfit.2.1 hd.2.2.2 ⟨hfit.2.2.1, hfit.2.2.2⟩) ⟨fun a U g mk q => ⟨q.1, nU.blind g mk a q.2⟩, fun U hU hW => ⟨rfl, nU.call hR hS hK hX hZ hsz hU hW⟩⟩ rfl rfl (hL.1.trans hLn) rfl (lv_room hst) hdg ⟨hce, hsl⟩) hS (fun q _ h => h) (fun q h => h) (fun r u t H1 locs1 ht hvm hp hB hz hk1 hS1 => k r u.1 u.2 hp H1 locs1 ls (by rw [← ht]; exact hB.1) hS1 hL)
theorem n_callS5z (hC : nC K cc nL own ret rm) {a1 a2 a3 a4 a5 : Value}  {post : Int32 → nA → nH → Prop} (hM : nM y bytes maxL (some .boolean) rm2 [a1, a2, a3, a4, a5] na h (nQi post) mc ms) (hd : nMs y bytes maxL (some .boolean) 5) (hq : Cond.methodLink own idx y ∈ lw_all) (hdg : decode cc pc = .ok (.invokestatic idx, 3)) (hfit : nFit rm2 rm maxL mc ms) (hLn : L.length = nL) (hst : (st.map fun v => v.category).sum ≤ 8) (hce : cells + mc ≤ rm.cells) (hsl : slots + ms ≤ rm.slots)
    (k : ∀ (r : Int32) (na2 : nA) (h2 : nH), post r na2 h2 → WN K na2 h2 (cells + mc) (slots + ms) Q (pc + 3) L (.int r :: st)) : WN K na h cells slots Q pc L (a5 :: a4 :: a3 :: a2 :: a1 :: st) := by
  obtain ⟨p, l, e, R, s, m, args, below, meth, c, G, sz⟩ := K
  obtain ⟨hx, hb, hml, hown, hts, hK, hX, hZ, hsz, hlk, hrt, hRm, hl⟩ := hC
  intro H locs ls hR hS hL
  subst hRm
  exact va_calli (va_runS (As := [a1, a2, a3, a4, a5]) (rest := st) ⟨hx, hb, hml, hown, hts⟩ (hM l hl G sz) (va_cwS 5 hts (lw_S hq hd.1 hd.2.1 hd.2.2.1) rfl hfit.1 hfit.2.1 hd.2.2.2 ⟨hfit.2.2.1, hfit.2.2.2⟩) ⟨fun a U g mk q => ⟨q.1, nU.blind g mk a q.2⟩, fun U hU hW => ⟨rfl, nU.call hR hS hK hX hZ hsz hU hW⟩⟩ rfl rfl (hL.1.trans hLn) rfl (lv_room hst) hdg ⟨hce, hsl⟩) hS (fun q _ h => h) (fun q h => h) (fun r u t H1 locs1 ht hvm hp hB hz hk1 hS1 => k r u.1 u.2 hp H1 locs1 ls (by rw [← ht]; exact hB.1) hS1 hL)
theorem n_callS5v (hC : nC K cc nL own ret rm) {a1 a2 a3 a4 a5 : Value}  {post : nA → nH → Prop} (hM : nM y bytes maxL none rm2 [a1, a2, a3, a4, a5] na h (nQv post) mc ms) (hd : nMs y bytes maxL none 5) (hq : Cond.methodLink own idx y ∈ lw_all) (hdg : decode cc pc = .ok (.invokestatic idx, 3)) (hfit : nFit rm2 rm maxL mc ms) (hLn : L.length = nL) (hst : (st.map fun v => v.category).sum ≤ 8) (hce : cells + mc ≤ rm.cells) (hsl : slots + ms ≤ rm.slots)
    (k : ∀ (na2 : nA) (h2 : nH), post na2 h2 → WN K na2 h2 (cells + mc) (slots + ms) Q (pc + 3) L st) : WN K na h cells slots Q pc L (a5 :: a4 :: a3 :: a2 :: a1 :: st) := by
  obtain ⟨p, l, e, R, s, m, args, below, meth, c, G, sz⟩ := K
  obtain ⟨hx, hb, hml, hown, hts, hK, hX, hZ, hsz, hlk, hrt, hRm, hl⟩ := hC
  intro H locs ls hR hS hL
  subst hRm
  exact va_callv (va_runS (As := [a1, a2, a3, a4, a5]) (rest := st) ⟨hx, hb, hml, hown, hts⟩ (hM l hl G sz) (va_cwS 5 hts (lw_S hq hd.1 hd.2.1 hd.2.2.1) rfl hfit.1 hfit.2.1 hd.2.2.2 ⟨hfit.2.2.1, hfit.2.2.2⟩) ⟨fun a U g mk q => ⟨q.1, nU.blind g mk a q.2⟩, fun U hU hW => ⟨rfl, nU.call hR hS hK hX hZ hsz hU hW⟩⟩ rfl rfl (hL.1.trans hLn) rfl (lv_room hst) hdg ⟨hce, hsl⟩) hS (fun q _ h => h) (fun q h => h) (fun u t H1 locs1 ht hvm hp hB hz hk1 hS1 => k u.1 u.2 hp H1 locs1 ls (by rw [← ht]; exact hB.1) hS1 hL)
theorem n_callS5q (hC : nC K cc nL own ret rm) {a1 a2 a3 a4 a5 : Value}  {rt : FieldType} {post : Option Nat → nA → nH → Prop} (hM : nM y bytes maxL (some rt) rm2 [a1, a2, a3, a4, a5] na h (nQq post) mc ms) (hd : nMs y bytes maxL (some rt) 5) (hq : Cond.methodLink own idx y ∈ lw_all) (hdg : decode cc pc = .ok (.invokestatic idx, 3)) (hfit : nFit rm2 rm maxL mc ms) (hLn : L.length = nL) (hst : (st.map fun v => v.category).sum ≤ 8) (hce : cells + mc ≤ rm.cells) (hsl : slots + ms ≤ rm.slots)
    (k : ∀ (r : Option Nat) (na2 : nA) (h2 : nH), post r na2 h2 → WN K na2 h2 (cells + mc) (slots + ms) Q (pc + 3) L (va_rf r :: st)) : WN K na h cells slots Q pc L (a5 :: a4 :: a3 :: a2 :: a1 :: st) := by
  obtain ⟨p, l, e, R, s, m, args, below, meth, c, G, sz⟩ := K
  obtain ⟨hx, hb, hml, hown, hts, hK, hX, hZ, hsz, hlk, hrt, hRm, hl⟩ := hC
  intro H locs ls hR hS hL
  subst hRm
  exact va_callq (va_runS (As := [a1, a2, a3, a4, a5]) (rest := st) ⟨hx, hb, hml, hown, hts⟩ (hM l hl G sz) (va_cwS 5 hts (lw_S hq hd.1 hd.2.1 hd.2.2.1) rfl hfit.1 hfit.2.1 hd.2.2.2 ⟨hfit.2.2.1, hfit.2.2.2⟩) ⟨fun a U g mk q => ⟨q.1, nU.blind g mk a q.2⟩, fun U hU hW => ⟨rfl, nU.call hR hS hK hX hZ hsz hU hW⟩⟩ rfl rfl (hL.1.trans hLn) rfl (lv_room hst) hdg ⟨hce, hsl⟩) hS (fun q _ h => h) (fun q h => h) (fun r u t H1 locs1 ht hvm hp hB hz hk1 hS1 => k r u.1 u.2 hp H1 locs1 ls (by rw [← ht]; exact hB.1) hS1 hL)
theorem n_callI0v (hC : nC K cc nL own ret rm) {b : Nat}  {post : nA → nH → Prop} (hM : nM y bytes maxL none rm2 [.ref b] na h (nQv post) mc ms) (hd : nMi y bytes maxL 0) (hq : Cond.methodLink own idx y ∈ lw_all) (hdg : decode cc pc = .ok (.invokespecial idx, 3)) (hfit : nFit rm2 rm maxL mc ms) (hLn : L.length = nL) (hst : (st.map fun v => v.category).sum ≤ 8) (hce : cells + mc ≤ rm.cells) (hsl : slots + ms ≤ rm.slots)
    (k : ∀ (na2 : nA) (h2 : nH), post na2 h2 → WN K na2 h2 (cells + mc) (slots + ms) Q (pc + 3) L st) : WN K na h cells slots Q pc L (.ref b :: st) := by
  obtain ⟨p, l, e, R, s, m, args, below, meth, c, G, sz⟩ := K
  obtain ⟨hx, hb, hml, hown, hts, hK, hX, hZ, hsz, hlk, hrt, hRm, hl⟩ := hC
  intro H locs ls hR hS hL
  subst hRm
  exact va_callv (va_runI (As := []) (rest := st) ⟨hx, hb, hml, hown, hts⟩ (hM l hl G sz) (cwI 0 hts (lw_meth hd.2.2.1) rfl hfit.1 hfit.2.1 (hts _ hd.2.1) (hts _ hq) (hts _ hd.1) hd.2.2.2.1 hd.2.2.2.2 ⟨hfit.2.2.1, hfit.2.2.2⟩) ⟨fun a U g mk q => ⟨q.1, nU.blind g mk a q.2⟩, fun U hU hW => ⟨rfl, nU.call hR hS hK hX hZ hsz hU hW⟩⟩ rfl rfl (hL.1.trans hLn) rfl (lv_room hst) hdg ⟨hce, hsl⟩) hS (fun q _ h => h) (fun q h => h) (fun u t H1 locs1 ht hvm hp hB hz hk1 hS1 => k u.1 u.2 hp H1 locs1 ls (by rw [← ht]; exact hB.1) hS1 hL)
theorem n_callI1v (hC : nC K cc nL own ret rm) {b : Nat} {a1 : Value}  {post : nA → nH → Prop} (hM : nM y bytes maxL none rm2 [.ref b, a1] na h (nQv post) mc ms) (hd : nMi y bytes maxL 1) (hq : Cond.methodLink own idx y ∈ lw_all) (hdg : decode cc pc = .ok (.invokespecial idx, 3)) (hfit : nFit rm2 rm maxL mc ms) (hLn : L.length = nL) (hst : (st.map fun v => v.category).sum ≤ 8) (hce : cells + mc ≤ rm.cells) (hsl : slots + ms ≤ rm.slots)
    (k : ∀ (na2 : nA) (h2 : nH), post na2 h2 → WN K na2 h2 (cells + mc) (slots + ms) Q (pc + 3) L st) : WN K na h cells slots Q pc L (a1 :: .ref b :: st) := by
  obtain ⟨p, l, e, R, s, m, args, below, meth, c, G, sz⟩ := K
  obtain ⟨hx, hb, hml, hown, hts, hK, hX, hZ, hsz, hlk, hrt, hRm, hl⟩ := hC
  intro H locs ls hR hS hL
  subst hRm
  exact va_callv (va_runI (As := [a1]) (rest := st) ⟨hx, hb, hml, hown, hts⟩ (hM l hl G sz) (cwI 1 hts (lw_meth hd.2.2.1) rfl hfit.1 hfit.2.1 (hts _ hd.2.1) (hts _ hq) (hts _ hd.1) hd.2.2.2.1 hd.2.2.2.2 ⟨hfit.2.2.1, hfit.2.2.2⟩) ⟨fun a U g mk q => ⟨q.1, nU.blind g mk a q.2⟩, fun U hU hW => ⟨rfl, nU.call hR hS hK hX hZ hsz hU hW⟩⟩ rfl rfl (hL.1.trans hLn) rfl (lv_room hst) hdg ⟨hce, hsl⟩) hS (fun q _ h => h) (fun q h => h) (fun u t H1 locs1 ht hvm hp hB hz hk1 hS1 => k u.1 u.2 hp H1 locs1 ls (by rw [← ht]; exact hB.1) hS1 hL)
theorem n_callI2v (hC : nC K cc nL own ret rm) {b : Nat} {a1 a2 : Value}  {post : nA → nH → Prop} (hM : nM y bytes maxL none rm2 [.ref b, a1, a2] na h (nQv post) mc ms) (hd : nMi y bytes maxL 2) (hq : Cond.methodLink own idx y ∈ lw_all) (hdg : decode cc pc = .ok (.invokespecial idx, 3)) (hfit : nFit rm2 rm maxL mc ms) (hLn : L.length = nL) (hst : (st.map fun v => v.category).sum ≤ 8) (hce : cells + mc ≤ rm.cells) (hsl : slots + ms ≤ rm.slots)
    (k : ∀ (na2 : nA) (h2 : nH), post na2 h2 → WN K na2 h2 (cells + mc) (slots + ms) Q (pc + 3) L st) : WN K na h cells slots Q pc L (a2 :: a1 :: .ref b :: st) := by
  obtain ⟨p, l, e, R, s, m, args, below, meth, c, G, sz⟩ := K
  obtain ⟨hx, hb, hml, hown, hts, hK, hX, hZ, hsz, hlk, hrt, hRm, hl⟩ := hC
  intro H locs ls hR hS hL
  subst hRm
  exact va_callv (va_runI (As := [a1, a2]) (rest := st) ⟨hx, hb, hml, hown, hts⟩ (hM l hl G sz) (cwI 2 hts (lw_meth hd.2.2.1) rfl hfit.1 hfit.2.1 (hts _ hd.2.1) (hts _ hq) (hts _ hd.1) hd.2.2.2.1 hd.2.2.2.2 ⟨hfit.2.2.1, hfit.2.2.2⟩) ⟨fun a U g mk q => ⟨q.1, nU.blind g mk a q.2⟩, fun U hU hW => ⟨rfl, nU.call hR hS hK hX hZ hsz hU hW⟩⟩ rfl rfl (hL.1.trans hLn) rfl (lv_room hst) hdg ⟨hce, hsl⟩) hS (fun q _ h => h) (fun q h => h) (fun u t H1 locs1 ht hvm hp hB hz hk1 hS1 => k u.1 u.2 hp H1 locs1 ls (by rw [← ht]; exact hB.1) hS1 hL)
theorem n_callI3v (hC : nC K cc nL own ret rm) {b : Nat} {a1 a2 a3 : Value}  {post : nA → nH → Prop} (hM : nM y bytes maxL none rm2 [.ref b, a1, a2, a3] na h (nQv post) mc ms) (hd : nMi y bytes maxL 3) (hq : Cond.methodLink own idx y ∈ lw_all) (hdg : decode cc pc = .ok (.invokespecial idx, 3)) (hfit : nFit rm2 rm maxL mc ms) (hLn : L.length = nL) (hst : (st.map fun v => v.category).sum ≤ 8) (hce : cells + mc ≤ rm.cells) (hsl : slots + ms ≤ rm.slots)
    (k : ∀ (na2 : nA) (h2 : nH), post na2 h2 → WN K na2 h2 (cells + mc) (slots + ms) Q (pc + 3) L st) : WN K na h cells slots Q pc L (a3 :: a2 :: a1 :: .ref b :: st) := by
  obtain ⟨p, l, e, R, s, m, args, below, meth, c, G, sz⟩ := K
  obtain ⟨hx, hb, hml, hown, hts, hK, hX, hZ, hsz, hlk, hrt, hRm, hl⟩ := hC
  intro H locs ls hR hS hL
  subst hRm
  exact va_callv (va_runI (As := [a1, a2, a3]) (rest := st) ⟨hx, hb, hml, hown, hts⟩ (hM l hl G sz) (cwI 3 hts (lw_meth hd.2.2.1) rfl hfit.1 hfit.2.1 (hts _ hd.2.1) (hts _ hq) (hts _ hd.1) hd.2.2.2.1 hd.2.2.2.2 ⟨hfit.2.2.1, hfit.2.2.2⟩) ⟨fun a U g mk q => ⟨q.1, nU.blind g mk a q.2⟩, fun U hU hW => ⟨rfl, nU.call hR hS hK hX hZ hsz hU hW⟩⟩ rfl rfl (hL.1.trans hLn) rfl (lv_room hst) hdg ⟨hce, hsl⟩) hS (fun q _ h => h) (fun q h => h) (fun u t H1 locs1 ht hvm hp hB hz hk1 hS1 => k u.1 u.2 hp H1 locs1 ls (by rw [← ht]; exact hB.1) hS1 hL)
theorem n_callI4v (hC : nC K cc nL own ret rm) {b : Nat} {a1 a2 a3 a4 : Value}  {post : nA → nH → Prop} (hM : nM y bytes maxL none rm2 [.ref b, a1, a2, a3, a4] na h (nQv post) mc ms) (hd : nMi y bytes maxL 4) (hq : Cond.methodLink own idx y ∈ lw_all) (hdg : decode cc pc = .ok (.invokespecial idx, 3)) (hfit : nFit rm2 rm maxL mc ms) (hLn : L.length = nL) (hst : (st.map fun v => v.category).sum ≤ 8) (hce : cells + mc ≤ rm.cells) (hsl : slots + ms ≤ rm.slots)
    (k : ∀ (na2 : nA) (h2 : nH), post na2 h2 → WN K na2 h2 (cells + mc) (slots + ms) Q (pc + 3) L st) : WN K na h cells slots Q pc L (a4 :: a3 :: a2 :: a1 :: .ref b :: st) := by
  obtain ⟨p, l, e, R, s, m, args, below, meth, c, G, sz⟩ := K
  obtain ⟨hx, hb, hml, hown, hts, hK, hX, hZ, hsz, hlk, hrt, hRm, hl⟩ := hC
  intro H locs ls hR hS hL
  subst hRm
  exact va_callv (va_runI (As := [a1, a2, a3, a4]) (rest := st) ⟨hx, hb, hml, hown, hts⟩ (hM l hl G sz) (cwI 4 hts (lw_meth hd.2.2.1) rfl hfit.1 hfit.2.1 (hts _ hd.2.1) (hts _ hq) (hts _ hd.1) hd.2.2.2.1 hd.2.2.2.2 ⟨hfit.2.2.1, hfit.2.2.2⟩) ⟨fun a U g mk q => ⟨q.1, nU.blind g mk a q.2⟩, fun U hU hW => ⟨rfl, nU.call hR hS hK hX hZ hsz hU hW⟩⟩ rfl rfl (hL.1.trans hLn) rfl (lv_room hst) hdg ⟨hce, hsl⟩) hS (fun q _ h => h) (fun q h => h) (fun u t H1 locs1 ht hvm hp hB hz hk1 hS1 => k u.1 u.2 hp H1 locs1 ls (by rw [← ht]; exact hB.1) hS1 hL)
end NCALL
