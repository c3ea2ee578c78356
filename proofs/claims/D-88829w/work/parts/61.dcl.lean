/-! ===== CALLS of overridden, inherited and super methods; fields of blocks written from outside ===== -/
set_option maxRecDepth 100000
section DCL
variable {K : nK} {na : nA} {h : nH} {cells slots mc ms : Nat} {Q : State → Prop} {cc bytes : ByteArray} {nL maxL pc idx : Nat} {own : String} {ret : Option FieldType} {rm rm2 : Room} {L : List (Option Value)} {st : List Value} {x y : MethodName}
theorem n_cu {args : Array Value} {s : State} {R : Room} {C owner : String} {rt : Option FieldType} {b0 : ByteArray} {m0 : Nat} {r0 : Option FieldType} (n : Nat) (hts : ∀ w ∈ lw_all, w.before args s = true) (hcd : Cond.code y bytes maxL rt ∈ lw_all) (hini : Cond.initialized y.cls ∈ lw_all) (hl : Cond.methodLink own idx x ∈ lw_all) (hsame : Cond.sameMethod x.cls owner x.name x.desc ∈ lw_all) (hi0 : Cond.instanceMethod ⟨owner, x.name, x.desc⟩ ∈ lw_all) (hc0 : Cond.code ⟨owner, x.name, x.desc⟩ b0 m0 r0 ∈ lw_all) (hsel : Cond.selects C x y ∈ lw_all) (hi : Cond.instanceMethod y ∈ lw_all)
    (hd : owner ≠ "java/lang/invoke/MethodHandle" ∧ owner ≠ "java/lang/invoke/VarHandle" ∧ (parseMethodDescriptor x.desc).map (fun d => d.parameters.length) = some n) (hfit : nFit rm2 R maxL mc ms) : va_CU R s args own C owner idx x y bytes maxL rt (ws_ y bytes maxL rt) rm2 mc ms n :=
  ⟨⟨hfit.1, hfit.2.1, hfit.2.2.1, hfit.2.2.2, pay_in hts (lw_meth hcd), List.mem_cons_self⟩, hts _ hcd, hts _ hini, ⟨hd.1, hd.2.1⟩, fun sig hs => by
    have h2 := hd.2.2
    rw [hs] at h2
    exact (Option.some.inj h2).symm, hts _ hl, hts _ hsame, va_Decl.of (hts _ hi0) (hts _ hc0), hts _ hsel, hts _ hi⟩
theorem n_callU1i (hC : nC K cc nL own ret rm) {b : Nat} {a1 : Value} {post : Int32 → nA → nH → Prop} (hM : nM y bytes maxL (some .int) rm2 [.ref b, a1] na h (nQi post) mc ms) {owner : String} {b0 : ByteArray} {m0 : Nat} {r0 : Option FieldType} (hcd : Cond.code y bytes maxL (some .int) ∈ lw_all) (hini : Cond.initialized y.cls ∈ lw_all) (hl : Cond.methodLink own idx x ∈ lw_all) (hsame : Cond.sameMethod x.cls owner x.name x.desc ∈ lw_all) (hi0 : Cond.instanceMethod ⟨owner, x.name, x.desc⟩ ∈ lw_all) (hc0 : Cond.code ⟨owner, x.name, x.desc⟩ b0 m0 r0 ∈ lw_all)
    {kk ci : Nat} {fs : List Value} {rC : vw_C} (hsel : Cond.selects rC.1 x y ∈ lw_all) (hi : Cond.instanceMethod y ∈ lw_all) (hd : owner ≠ "java/lang/invoke/MethodHandle" ∧ owner ≠ "java/lang/invoke/VarHandle" ∧ (parseMethodDescriptor x.desc).map (fun d => d.parameters.length) = some 1) (hdg : decode cc pc = .ok (.invokevirtual idx, 3)) (hk : na kk = b) (he : h kk = some (.inr (ci, fs))) (hc : nCl[ci]? = some rC) (hfit : nFit rm2 rm maxL mc ms) (hLn : L.length = nL) (hst : (st.map fun v => v.category).sum ≤ 8) (hce : cells + mc ≤ rm.cells) (hsl : slots + ms ≤ rm.slots)
    (k : ∀ (r : Int32) (na2 : nA) (h2 : nH), post r na2 h2 → WN K na2 h2 (cells + mc) (slots + ms) Q (pc + 3) L (.int r :: st)) : WN K na h cells slots Q pc L (a1 :: .ref b :: st) := by
  obtain ⟨p, l, e, R, s, m, args, below, meth, c, G, sz⟩ := K
  obtain ⟨hx, hb, hml, hown, hts, hK, hX, hZ, hsz, hlk, hrt, hRm, hl9⟩ := hC
  intro H locs ls hR hS hL
  subst hk
  subst hRm
  have cw9 := n_cu (C := rC.1) (rm2 := rm2) (R := R) (mc := mc) (ms := ms) 1 hts hcd hini hl hsame hi0 hc0 hsel hi hd hfit
  exact va_calli (va_runU (As := [a1]) (rest := st) ⟨hx, hb, hml, hown, hts⟩ (hM l hl9 G sz) cw9 ⟨fun a U g mk q => ⟨q.1, nU.blind g mk a q.2⟩, va_recv hK (hR.P1 he) hc (q0 := 0) rfl, fun U hU hW => ⟨rfl, nU.call hR hS hK hX hZ hsz hU hW⟩⟩ rfl rfl (hL.1.trans hLn) rfl (lv_room hst) hdg ⟨hce, hsl⟩) hS (fun q _ h => h) (fun q h => h) (fun r u t H1 locs1 ht hvm hp hB hz hk1 hS1 => k r u.1 u.2 hp H1 locs1 ls (by rw [← ht]; exact hB.1) hS1 hL)
theorem n_callU0i (hC : nC K cc nL own ret rm) {b : Nat} {post : Int32 → nA → nH → Prop} (hM : nM y bytes maxL (some .int) rm2 [.ref b] na h (nQi post) mc ms) {owner : String} {b0 : ByteArray} {m0 : Nat} {r0 : Option FieldType} (hcd : Cond.code y bytes maxL (some .int) ∈ lw_all) (hini : Cond.initialized y.cls ∈ lw_all) (hl : Cond.methodLink own idx x ∈ lw_all) (hsame : Cond.sameMethod x.cls owner x.name x.desc ∈ lw_all) (hi0 : Cond.instanceMethod ⟨owner, x.name, x.desc⟩ ∈ lw_all) (hc0 : Cond.code ⟨owner, x.name, x.desc⟩ b0 m0 r0 ∈ lw_all)
    {kk ci : Nat} {fs : List Value} {rC : vw_C} (hsel : Cond.selects rC.1 x y ∈ lw_all) (hi : Cond.instanceMethod y ∈ lw_all) (hd : owner ≠ "java/lang/invoke/MethodHandle" ∧ owner ≠ "java/lang/invoke/VarHandle" ∧ (parseMethodDescriptor x.desc).map (fun d => d.parameters.length) = some 0) (hdg : decode cc pc = .ok (.invokevirtual idx, 3)) (hk : na kk = b) (he : h kk = some (.inr (ci, fs))) (hc : nCl[ci]? = some rC) (hfit : nFit rm2 rm maxL mc ms) (hLn : L.length = nL) (hst : (st.map fun v => v.category).sum ≤ 8) (hce : cells + mc ≤ rm.cells) (hsl : slots + ms ≤ rm.slots)
    (k : ∀ (r : Int32) (na2 : nA) (h2 : nH), post r na2 h2 → WN K na2 h2 (cells + mc) (slots + ms) Q (pc + 3) L (.int r :: st)) : WN K na h cells slots Q pc L (.ref b :: st) := by
  obtain ⟨p, l, e, R, s, m, args, below, meth, c, G, sz⟩ := K
  obtain ⟨hx, hb, hml, hown, hts, hK, hX, hZ, hsz, hlk, hrt, hRm, hl9⟩ := hC
  intro H locs ls hR hS hL
  subst hk
  subst hRm
  have cw9 := n_cu (C := rC.1) (rm2 := rm2) (R := R) (mc := mc) (ms := ms) 0 hts hcd hini hl hsame hi0 hc0 hsel hi hd hfit
  exact va_calli (va_runU (As := []) (rest := st) ⟨hx, hb, hml, hown, hts⟩ (hM l hl9 G sz) cw9 ⟨fun a U g mk q => ⟨q.1, nU.blind g mk a q.2⟩, va_recv hK (hR.P1 he) hc (q0 := 0) rfl, fun U hU hW => ⟨rfl, nU.call hR hS hK hX hZ hsz hU hW⟩⟩ rfl rfl (hL.1.trans hLn) rfl (lv_room hst) hdg ⟨hce, hsl⟩) hS (fun q _ h => h) (fun q h => h) (fun r u t H1 locs1 ht hvm hp hB hz hk1 hS1 => k r u.1 u.2 hp H1 locs1 ls (by rw [← ht]; exact hB.1) hS1 hL)
/-- super.m(..) -/
theorem n_callP1i (hC : nC K cc nL own ret rm) {b : Nat} {a1 : Value} {post : Int32 → nA → nH → Prop} (hM : nM y bytes maxL (some .int) rm2 [.ref b, a1] na h (nQi post) mc ms) (hcd : Cond.code y bytes maxL (some .int) ∈ lw_all) (hini : Cond.initialized y.cls ∈ lw_all) (hl : Cond.methodLink own idx y ∈ lw_all) (hsame : Cond.sameMethod y.cls y.cls y.name y.desc ∈ lw_all) (hsup : Cond.superclass own y.cls ∈ lw_all) (hi : Cond.instanceMethod y ∈ lw_all)
    {kk ci : Nat} {fs : List Value} {rC : vw_C} (hno : y.name ≠ "<init>" ∧ (parseMethodDescriptor y.desc).map (fun d => d.parameters.length) = some 1) (hdg : decode cc pc = .ok (.invokespecial idx, 3)) (hk : na kk = b) (he : h kk = some (.inr (ci, fs))) (hc : nCl[ci]? = some rC) (hfit : nFit rm2 rm maxL mc ms) (hLn : L.length = nL) (hst : (st.map fun v => v.category).sum ≤ 8) (hce : cells + mc ≤ rm.cells) (hsl : slots + ms ≤ rm.slots)
    (k : ∀ (r : Int32) (na2 : nA) (h2 : nH), post r na2 h2 → WN K na2 h2 (cells + mc) (slots + ms) Q (pc + 3) L (.int r :: st)) : WN K na h cells slots Q pc L (a1 :: .ref b :: st) := by
  obtain ⟨p, l, e, R, s, m, args, below, meth, c, G, sz⟩ := K
  obtain ⟨hx, hb, hml, hown, hts, hK, hX, hZ, hsz, hlk, hrt, hRm, hl9⟩ := hC
  intro H locs ls hR hS hL
  subst hk
  subst hRm
  have cw9 : va_CS R s args own idx y bytes maxL (some .int) (ws_ y bytes maxL (some .int)) rm2 mc ms 1 := ⟨⟨hfit.1, hfit.2.1, hfit.2.2.1, hfit.2.2.2, pay_in hts (lw_meth hcd), List.mem_cons_self⟩, hts _ hl, hts _ hsame, hts _ hsup, hts _ hi, hts _ hini, hts _ hcd, hno.1, fun sig hs => by
    have h2 := hno.2
    rw [hs] at h2
    exact (Option.some.inj h2).symm⟩
  have hat := (hK.1 ci rC hc).2
  exact va_calli (va_runSU (As := [a1]) (rest := st) hat ⟨hx, hb, hml, hown, hts⟩ (hM l hl9 G sz) cw9 ⟨fun a U g mk q => ⟨q.1, nU.blind g mk a q.2⟩, va_recv hK (hR.P1 he) hc (q0 := 0) rfl, fun U hU hW => ⟨rfl, nU.call hR hS hK hX hZ hsz hU hW⟩⟩ rfl rfl (hL.1.trans hLn) rfl (lv_room hst) hdg ⟨hce, hsl⟩) hS (fun q _ h => h) (fun q h => h) (fun r u t H1 locs1 ht hvm hp hB hz hk1 hS1 => k r u.1 u.2 hp H1 locs1 ls (by rw [← ht]; exact hB.1) hS1 hL)
end DCL
section DPUT
variable {K : nK} {na : nA} {h : nH} {C : nMem} {B : Nat → nMem} {P : Nat → Nat × Nat} {I : Nat → Nat} {cells slots : Nat} {Q : State → Prop} {cc : ByteArray} {nL pc idx a : Nat} {own Cn : String} {T : u_T} {ty0 : Nat → FieldType} {ret : Option FieldType} {rm : Room} {L : List (Option Value)} {st : List Value}
/-- an int field of block i, written by a nest mate -/
theorem xb_putIN (hC : nC K cc nL own ret rm) {i : Nat} {c : Nat × Nat} (gw : gW (shOf c) Cn T ty0) (hP : P i = c) (hc : c.1 ≠ 0 ∧ c.1 < 6) {host : String} (j : Nat) {x : Int32} (hq : (own, idx, Cn, (T j).2.1, (T j).2.2.1, host) ∈ nWF) (hdg : decode cc pc = .ok (.putfield idx, 3)) (hk : na (bB i + 9) = a) (hl : j < (shOf c).2.1) (hj : (shOf c).2.2.1 j = 0) (hfin : (T j).2.2.2 = false) {ty : FieldType} (hty : parseFieldDescriptor (T j).2.2.1 = some ty) (hn : narrow ty (.int x) = .int x) (hfit : fits ty (.int x) = true)
    (k : WN K na (xPut na h (C, bset B i (mset (B i) j (fun _ => x)), P, I)) cells slots Q (pc + 3) L st) : WN K na (xPut na h (C, B, P, I)) cells slots Q pc L (.int x :: .ref a :: st) := by
  refine n_putN hC gw.2.1 ty0 gw.2.2.2.1 gw.2.2.2.2.1 j hq hdg hk ((xBlk_o (X := (C, B, P, I)) hP hc 9 (by decide)).trans (if_pos rfl)) gw.1 hl (gw.2.2.1 j hl) hfin hty hn hfit (by rw [gfs_len]; exact hl) ?_
  have e : nup (xPut na h (C, B, P, I)) (bB i + 9) (.inr ((shOf c).1, (gfs (shOf c) (bB i) na (B i)).set j (.int x))) = xPut na h (C, bset B i (mset (B i) j (fun _ => x)), P, I) := by
    rw [← xBlk_set (R := mset (B i) j (fun _ => x)) hP hc, ← gPut_setI hl hj gw.2.2.2.2.2.1, xBlk (X := (C, B, P, I)) hP hc]
  rw [← e] at k
  exact k
end DPUT
section DPP
variable {p : Program} {l : Launch} {e : Env} {R : Room} {s : State} {m : MethodId} {args : Array Value} {below : List Frame} {meth : Method} {c : Code}
/-- the method that the superclass has of its own superclass -/
theorem sub_two {vm : Vm} {a b : ClassId} {k : Class} (hk : vm.classes[a]? = some k) (hs : k.super = some b) : vm.isSubclass a b = true := by
  unfold Vm.isSubclass Vm.isSubclassAux
  have hz : 0 < vm.classes.size := by
    have := (Array.getElem?_eq_some_iff.mp hk).1
    omega
  obtain ⟨z, hz2⟩ : ∃ z, vm.classes.size = z + 1 := ⟨vm.classes.size - 1, by omega⟩
  rw [hk, hz2]
  dsimp only
  rw [hs]
  dsimp only
  unfold Vm.isSubclassAux
  simp
theorem n_callSUU {T : State} {locs : List Loc} {cells slots : Nat} (X : Stand p l e R s m args below meth c T locs cells slots) (hexec : p.tables.exec = Jvm.exec) {own : String} {index : Nat} {x y : MethodName} {bytes : ByteArray} {maxL : Nat} {ret : Option FieldType}
    (hown : s.vm.findClass own = some m.cls) (hlink : (Cond.methodLink own index x).before args s = true) (hsame : (Cond.sameMethod x.cls y.cls x.name x.desc).before args s = true) (hyx : y = ⟨y.cls, x.name, x.desc⟩) (hsup : (Cond.superclass own x.cls).before args s = true) (hsup2 : (Cond.superclass x.cls y.cls).before args s = true)
    (hinst : (Cond.instanceMethod y).before args s = true) (hcode : (Cond.code y bytes maxL ret).before args s = true) (hno : x.name ≠ "<init>")
    {W : Nat} {Pre : Pt → Array Value → Prop} {Post : Pt → Array Value → Option Value → Pt → Prop} (hK : Back l R p e below s args y 3 W Pre Post)
    {b : Addr} {cellB : Cell} {kB : Class} (hcell : T.heap[b]? = some cellB) (hobj : cellB.vm.isStatics = false) (hkB : s.vm.classes[cellB.cls]? = some kB)
    {g : JFrame} (hg : g.method = m) (hsize : g.locals.size = c.maxLocals) {argsL rest : List Value} (hlen : ∀ sig, parseMethodDescriptor y.desc = some sig → argsL.length = sig.parameters.length)
    (hstack : g.stack = argsL.reverse ++ .ref b :: rest) (hW : 2 * g.monitorRoom + (rest.map fun v => v.category).sum ≤ W) (hdg : decode c.code g.pc = .ok (.invokespecial index, 3))
    (hpre : ∀ vm₁, s.WarmedH vm₁ → Pre ⟨T.setVm vm₁, locs, cells, slots⟩ (Value.ref b :: argsL).toArray) :
    ∃ (v : Option Value) (vm₁ : Vm) (B : Pt), s.WarmedH vm₁ ∧ Stand p l e R s m args below meth c B.U B.locs B.cells B.slots ∧ Post ⟨T.setVm vm₁, locs, cells, slots⟩ (Value.ref b :: argsL).toArray v B ∧
      ∀ target, Steps p.tables e below (B.U.setTop { g with pc := g.pc + 3, stack := v.toList ++ rest }) target → Steps p.tables e below (T.setTop g) target := by
  obtain ⟨mk, methM, hnamed, hmethM, hstM, habM⟩ := Cond.instanceMethod_spec hinst
  obtain ⟨methM', cM, hmethM', -, -, -, -, -, -, hsigM⟩ := Cond.code_spec hnamed hcode
  cases hmethM.symm.trans hmethM'
  obtain ⟨ps, dk, kp, hps, hdk, hkp, hsuper, -, -, hnid⟩ := Cond.superclass_spec hown hsup
  obtain ⟨p2, dk2, kp2, hps2, hdk2, hkp2, hsuper2, -, -, -⟩ := Cond.superclass_spec hps hsup2
  have hn : s.methodNamed? ⟨y.cls, x.name, x.desc⟩ = some mk := by rw [← hyx]; exact hnamed
  have hpm : p2 = mk.cls := Option.some.inj (hps2.symm.trans (findClass_of_methodNamed hnamed))
  have hsub : s.vm.isSubclass ps mk.cls = true := by rw [← hpm]; exact sub_two hdk2 hsuper2
  obtain ⟨vm₁, X₁, hstep₁⟩ := X.invokespecialUp hexec hown hlink hsame hn hmethM hstM habM hno hdk hnid hps hsuper hsub (a := b) (cell := cellB) hcell
    (fun z h => by rw [h] at hobj; cases hobj) hkB (g := g) hg (argsL := argsL) (rest := rest) (hlen _ hsigM) hstack hdg
  obtain ⟨v, B, X', hpost, hsteps⟩ := hK m meth c ⟨T.setVm vm₁, locs, cells, slots⟩ { g with stack := rest } (.invokespecial index) mk (Value.ref b :: argsL).toArray X₁ hg hsize hdg hW (X₁.named hnamed) (hpre vm₁ X₁.warmed)
  exact ⟨v, vm₁, B, X₁.warmed, X', hpost, fun target h => hstep₁ _ (by rw [doInvoke_state]; exact hsteps.trans h)⟩
end DPP
section DPQ
variable {K : nK} {na : nA} {h : nH} {cells slots mc ms : Nat} {Q : State → Prop} {cc bytes : ByteArray} {nL maxL pc idx : Nat} {own : String} {ret : Option FieldType} {rm rm2 : Room} {L : List (Option Value)} {st : List Value} {x y : MethodName}
theorem n_callPP1i (hC : nC K cc nL own ret rm) {b : Nat} {a1 : Value} {post : Int32 → nA → nH → Prop} (hM : nM y bytes maxL (some .int) rm2 [.ref b, a1] na h (nQi post) mc ms) (hcd : Cond.code y bytes maxL (some .int) ∈ lw_all) (hini : Cond.initialized y.cls ∈ lw_all) (hl : Cond.methodLink own idx x ∈ lw_all) (hsame : Cond.sameMethod x.cls y.cls x.name x.desc ∈ lw_all) (hyx : y = ⟨y.cls, x.name, x.desc⟩) (hsup : Cond.superclass own x.cls ∈ lw_all) (hsup2 : Cond.superclass x.cls y.cls ∈ lw_all) (hi : Cond.instanceMethod y ∈ lw_all)
    {kk ci : Nat} {fs : List Value} {rC : vw_C} (hno : x.name ≠ "<init>" ∧ (parseMethodDescriptor y.desc).map (fun d => d.parameters.length) = some 1) (hdg : decode cc pc = .ok (.invokespecial idx, 3)) (hk : na kk = b) (he : h kk = some (.inr (ci, fs))) (hc : nCl[ci]? = some rC) (hfit : nFit rm2 rm maxL mc ms) (hLn : L.length = nL) (hst : (st.map fun v => v.category).sum ≤ 8) (hce : cells + mc ≤ rm.cells) (hsl : slots + ms ≤ rm.slots)
    (k : ∀ (r : Int32) (na2 : nA) (h2 : nH), post r na2 h2 → WN K na2 h2 (cells + mc) (slots + ms) Q (pc + 3) L (.int r :: st)) : WN K na h cells slots Q pc L (a1 :: .ref b :: st) := by
  obtain ⟨p, l, e, R, s, m, args, below, meth, c, G, sz⟩ := K
  obtain ⟨hx, hb, hml, hown, hts, hK, hX, hZ, hsz, hlk, hrt, hRm, hl9⟩ := hC
  intro H locs ls hR hS hL
  subst hk
  subst hRm
  have hat := (hK.1 ci rC hc).2
  have hrun : va_Run p l e R s m args below meth c H locs cells slots mc ms (F0 m pc ls (a1 :: .ref (na kk) :: st)) st (nQi post G sz (Value.ref (na kk) :: [a1]).toArray) (fun q => sz ≤ q) := by
    have hK9 : Back l R p e below s args y 3 8 (PreOf R mc ms (va_Pc [.ref (na kk), a1] (nU G sz na h))) (PostOf (nQi post G sz) mc ms (fun q => sz ≤ q)) := back_of (bytes := bytes) (maxL := maxL) (ret := some .int) (hM l hl9 G sz) (fun a U g mk q => ⟨q.1, nU.blind g mk a q.2⟩) hfit.1 hfit.2.1 hfit.2.2.1 hfit.2.2.2 (pay_in hts (lw_meth hcd)) List.mem_cons_self (fun a' U hW => word_at hW (Or.inl (by first | rfl | simp [Cond.onTables, Cond.keeps, Cond.steady])) (hts _ hini))
    obtain ⟨cellB, hcB, hoB, hclB⟩ := va_recv hK (hR.P1 he) hc (q0 := 0) rfl
    obtain ⟨hfc, kB, hkB, -⟩ := hat
    have e9 : cellB.cls = G.1.1 ci := Option.some.inj (hclB.symm.trans hfc)
    have hkB : s.vm.classes[cellB.cls]? = some kB := by rw [e9]; exact hkB
    intro T hT X
    obtain ⟨v, vm₁, ⟨U', l2, c2, s2⟩, hW₁, X', ⟨g', mk, t, L9, e1, e2, hq, h1, hL9, h2, h3⟩, st9⟩ := n_callSUU X hx (x := x) (bytes := bytes) (maxL := maxL) (ret := some .int) hown (hts _ hl) (hts _ hsame) hyx (hts _ hsup) (hts _ hsup2) (hts _ hi) (hts _ hcd) hno.1 hK9 (by rw [hT]; exact hcB) hoB hkB (g := F0 m pc ls (a1 :: .ref (na kk) :: st)) rfl ((hL.1.trans hLn).trans hml.symm) (argsL := [a1]) (rest := st) (fun sig hs => by
      have h2 := hno.2
      rw [hs] at h2
      exact (Option.some.inj h2).symm) rfl (lv_room hst) (by rw [hb]; exact hdg)
      (fun vm₁ hW₁ => ⟨hce, hsl, ⟨rfl, nU.call hR hS hK hX hZ hsz hT hW₁⟩⟩)
    dsimp only [Pt.U, Pt.locs, Pt.cells, Pt.slots] at X' e1 e2 h1 h2 h3 st9
    subst h1; subst h2; subst h3
    exact ⟨v, (T.setVm vm₁).calling g' mk (Value.ref (na kk) :: [a1]).toArray, t, U', L9, hT, X', hL9, e1, e2, hq, st9⟩
  exact va_calli hrun hS (fun q _ h => h) (fun q h => h) (fun r u t H1 locs1 ht hvm hp hB hz hk1 hS1 => k r u.1 u.2 hp H1 locs1 ls (by rw [← ht]; exact hB.1) hS1 hL)
end DPQ
section DGS
variable {K : nK} {na : nA} {h : nH} {cells slots : Nat} {Q : State → Prop} {cc : ByteArray} {nL pc : Nat} {own : String} {ret : Option FieldType} {rm : Room} {L : List (Option Value)} {st : List Value}
/-- a field that the superclass declares, by the subclass's name -/
theorem n_getS (hC : nC K cc nL own ret rm) {a kk ci index N : Nat} {ref C : String} {T : u_T} {fs : List Value} {v : Value} (hin : ∀ w ∈ u_ws C T N, w ∈ lw_all) (j : Nat) (hq : Cond.fieldLink own index ref (T j).2.1 (T j).2.2.1 ∈ lw_all) (hsf : Cond.sameField ref (T j).1 (T j).2.1 (T j).2.2.1 ∈ lw_all) (hdg : decode cc pc = .ok (.getfield index, 3)) (hk : na kk = a) (he : h kk = some (.inr (ci, fs))) (hc : nCl[ci]? = some (C, T, N)) (hj : j < N) (hv : fs[j]? = some v)
    (k : WN K na h cells slots Q (pc + 3) L (v :: st)) : WN K na h cells slots Q pc L (.ref a :: st) := by
  obtain ⟨p, l, e, R, s, m, args, below, meth, c, G, sz⟩ := K
  obtain ⟨hx, hb, hml, hown, hts, hK, hX, hZ, hsz, hlk, hrt, hRm, hl⟩ := hC
  intro H locs ls hR hS hL
  subst hk
  exact va_get hx hb hts hin hown hK (hR.P1 he) 0 rfl hc j hj (hts _ hq) (fun x hx => u_same (hts _ hsf) x hx) hv hdg (k H locs ls hR hS hL)
end DGS
section DMA
variable {K : nK} {na : nA} {h : nH} {cells slots : Nat} {Q : State → Prop} {cc : ByteArray} {nL pc index : Nat} {own : String} {ret : Option FieldType} {rm : Room} {L : List (Option Value)} {st : List Value}
theorem n_mmin (hC : nC K cc nL own ret rm) (hq : Cond.methodLink own index Lib.Math.min.name ∈ lw_all) (h1 : Cond.static Lib.Math.min.name ∈ lw_all) (h2 : Cond.initialized "java/lang/Math" ∈ lw_all) (h3 : Cond.code Lib.Math.min.name Lib.Math.min.code 2 (some .int) ∈ lw_all) {a b : Nat} (ha : a < 2 ^ 31) (hb9 : b < 2 ^ 31) (hdg : decode cc pc = .ok (.invokestatic index, 3)) (hLn : L.length = nL) (hf : 1 ≤ rm.frames) (hlo : (st.map fun v => v.category).sum + 13 ≤ rm.locals) (hce : cells ≤ rm.cells) (hsl : slots ≤ rm.slots)
    (k : WN K na h cells slots Q (pc + 3) L (.int (nI (min a b)) :: st)) : WN K na h cells slots Q pc L (.int (nI b) :: .int (nI a) :: st) := by
  obtain ⟨p, l, e, R, s, m, args, below, meth, c, G, sz⟩ := K
  obtain ⟨hx, hb, hml, hown, hts, hK, hX, hZ, hsz, hlk, hrt, hRm, hl⟩ := hC
  intro H locs ls hR hS hL
  subst hRm
  have e9 : (if nI b < nI a then nI b else nI a) = nI (min a b) := by
    by_cases c9 : b < a
    · rw [if_pos ((nI_ltI hb9 ha).mpr c9), show min a b = b by omega]
    · rw [if_neg (fun z => c9 ((nI_ltI hb9 ha).mp z)), show min a b = a by omega]
  refine va_mmin hx hb (hml.trans (hL.1.trans hLn).symm) hown (hts _ hq) (hts _ h1) (hts _ h2) (hts _ h3) hf hlo hce hsl hdg ?_
  rw [e9]
  exact k H locs ls hR hS hL
theorem n_mmax (hC : nC K cc nL own ret rm) (hq : Cond.methodLink own index Lib.Math.max.name ∈ lw_all) (h1 : Cond.static Lib.Math.max.name ∈ lw_all) (h2 : Cond.initialized "java/lang/Math" ∈ lw_all) (h3 : Cond.code Lib.Math.max.name Lib.Math.max.code 2 (some .int) ∈ lw_all) {a b : Nat} (ha : a < 2 ^ 31) (hb9 : b < 2 ^ 31) (hdg : decode cc pc = .ok (.invokestatic index, 3)) (hLn : L.length = nL) (hf : 1 ≤ rm.frames) (hlo : (st.map fun v => v.category).sum + 13 ≤ rm.locals) (hce : cells ≤ rm.cells) (hsl : slots ≤ rm.slots)
    (k : WN K na h cells slots Q (pc + 3) L (.int (nI (max a b)) :: st)) : WN K na h cells slots Q pc L (.int (nI b) :: .int (nI a) :: st) := by
  obtain ⟨p, l, e, R, s, m, args, below, meth, c, G, sz⟩ := K
  obtain ⟨hx, hb, hml, hown, hts, hK, hX, hZ, hsz, hlk, hrt, hRm, hl⟩ := hC
  intro H locs ls hR hS hL
  subst hRm
  have e9 : (if nI a < nI b then nI b else nI a) = nI (max a b) := by
    by_cases c9 : a < b
    · rw [if_pos ((nI_ltI ha hb9).mpr c9), show max a b = b by omega]
    · rw [if_neg (fun z => c9 ((nI_ltI ha hb9).mp z)), show max a b = a by omega]
  refine va_mmax hx hb (hml.trans (hL.1.trans hLn).symm) hown (hts _ hq) (hts _ h1) (hts _ h2) (hts _ h3) hf hlo hce hsl hdg ?_
  rw [e9]
  exact k H locs ls hR hS hL
theorem n_mabs (hC : nC K cc nL own ret rm) (hq : Cond.methodLink own index Lib.Math.abs.name ∈ lw_all) (h1 : Cond.static Lib.Math.abs.name ∈ lw_all) (h2 : Cond.initialized "java/lang/Math" ∈ lw_all) (h3 : Cond.code Lib.Math.abs.name Lib.Math.abs.code 1 (some .int) ∈ lw_all) {x v : Int32} (hv : (if 0 ≤ x then x else 0 - x) = v) (hdg : decode cc pc = .ok (.invokestatic index, 3)) (hLn : L.length = nL) (hf : 1 ≤ rm.frames) (hlo : (st.map fun v => v.category).sum + 13 ≤ rm.locals) (hce : cells ≤ rm.cells) (hsl : slots ≤ rm.slots)
    (k : WN K na h cells slots Q (pc + 3) L (.int v :: st)) : WN K na h cells slots Q pc L (.int x :: st) := by
  obtain ⟨p, l, e, R, s, m, args, below, meth, c, G, sz⟩ := K
  obtain ⟨hx, hb, hml, hown, hts, hK, hX, hZ, hsz, hlk, hrt, hRm, hl⟩ := hC
  intro H locs ls hR hS hL
  subst hRm
  subst hv
  exact va_mabs hx hb (hml.trans (hL.1.trans hLn).symm) hown (hts _ hq) (hts _ h1) (hts _ h2) (hts _ h3) hf hlo hce hsl hdg (k H locs ls hR hS hL)
end DMA
