/-! ===== CALLS of nest members by contracts ===== -/
section NCALL
variable {K : nK} {na : nA} {h : nH} {cells slots mc ms : Nat} {Q : State → Prop} {cc bytes : ByteArray} {nL maxL pc idx : Nat} {own : String} {ret : Option FieldType} {rm rm2 : Room} {L : List (Option Value)} {st : List Value} {y : MethodName}
theorem nX.nest {s : State} (hX : nX s) {own : String} {idx : Nat} {y : MethodName} {host : String} (hq : (own, idx, y, host) ∈ nWM) : va_Nw (.methodLinkNest own idx y host) s := hX.2.1 (own, idx, y, host) hq
theorem n_cn {args : Array Value} {s : State} {R : Room} {host : String} (n : Nat) (hts : ∀ w ∈ lw_all, w.before args s = true) (hcd : Cond.code y bytes maxL ret ∈ lw_all) (hini : Cond.initialized y.cls ∈ lw_all) (hl9 : va_Nw (.methodLinkNest own idx y host) s) (hn : npd y n) (hfit : nFit rm2 R maxL mc ms) : va_CN R s args own idx y host bytes maxL ret (ws_ y bytes maxL ret) rm2 mc ms n :=
  va_cnB n hts (lw_meth hcd) rfl hfit.1 hfit.2.1 hl9 (hts _ hini) hn ⟨hfit.2.2.1, hfit.2.2.2⟩
theorem n_callVN0i (hC : nC K cc nL own ret rm) {b : Nat}  {post : Int32 → nA → nH → Prop} (hM : nM y bytes maxL (some .int) rm2 [.ref b] na h (nQi post) mc ms) (hd : nMd y bytes maxL (some .int) 0) {host : String} (hq : (own, idx, y, host) ∈ nWM) (hdg : decode cc pc = .ok (.invokevirtual idx, 3)) {kk ci : Nat} {fs : List Value} {rC : vw_C} (hk : na kk = b) (he : h kk = some (.inr (ci, fs))) (hc : nCl[ci]? = some rC) (hcl : rC.1 = y.cls) (hfit : nFit rm2 rm maxL mc ms) (hLn : L.length = nL) (hst : (st.map fun v => v.category).sum ≤ 8) (hce : cells + mc ≤ rm.cells) (hsl : slots + ms ≤ rm.slots)
    (k : ∀ (r : Int32) (na2 : nA) (h2 : nH), post r na2 h2 → WN K na2 h2 (cells + mc) (slots + ms) Q (pc + 3) L (.int r :: st)) : WN K na h cells slots Q pc L (.ref b :: st) := by
  obtain ⟨p, l, e, R, s, m, args, below, meth, c, G, sz⟩ := K
  obtain ⟨hx, hb, hml, hown, hts, hK, hX, hZ, hsz, hlk, hrt, hRm, hl⟩ := hC
  intro H locs ls hR hS hL
  subst hk
  subst hRm
  have cw9 := n_cn (rm2 := rm2) (R := R) (mc := mc) (ms := ms) 0 hts hd.2.2.2.1 hd.2.2.1 (nX.nest hX hq) hd.2.2.2.2 hfit
  exact va_calli (va_runVN (As := []) (rest := st) ⟨hx, hb, hml, hown, hts⟩ (hM l hl G sz) ⟨cw9, hts _ hd.1, hts _ hd.2.1⟩ ⟨fun a U g mk q => ⟨q.1, nU.blind g mk a q.2⟩, by rw [← hcl]; exact va_recv hK (hR.P1 he) hc (q0 := 0) rfl, fun U hU hW => ⟨rfl, nU.call hR hS hK hX hZ hsz hU hW⟩⟩ rfl rfl (hL.1.trans hLn) rfl (lv_room hst) hdg ⟨hce, hsl⟩) hS (fun q _ h => h) (fun q h => h) (fun r u t H1 locs1 ht hvm hp hB hz hk1 hS1 => k r u.1 u.2 hp H1 locs1 ls (by rw [← ht]; exact hB.1) hS1 hL)
theorem n_callVN0z (hC : nC K cc nL own ret rm) {b : Nat}  {post : Int32 → nA → nH → Prop} (hM : nM y bytes maxL (some .boolean) rm2 [.ref b] na h (nQi post) mc ms) (hd : nMd y bytes maxL (some .boolean) 0) {host : String} (hq : (own, idx, y, host) ∈ nWM) (hdg : decode cc pc = .ok (.invokevirtual idx, 3)) {kk ci : Nat} {fs : List Value} {rC : vw_C} (hk : na kk = b) (he : h kk = some (.inr (ci, fs))) (hc : nCl[ci]? = some rC) (hcl : rC.1 = y.cls) (hfit : nFit rm2 rm maxL mc ms) (hLn : L.length = nL) (hst : (st.map fun v => v.category).sum ≤ 8) (hce : cells + mc ≤ rm.cells) (hsl : slots + ms ≤ rm.slots)
    (k : ∀ (r : Int32) (na2 : nA) (h2 : nH), post r na2 h2 → WN K na2 h2 (cells + mc) (slots + ms) Q (pc + 3) L (.int r :: st)) : WN K na h cells slots Q pc L (.ref b :: st) := by
  obtain ⟨p, l, e, R, s, m, args, below, meth, c, G, sz⟩ := K
  obtain ⟨hx, hb, hml, hown, hts, hK, hX, hZ, hsz, hlk, hrt, hRm, hl⟩ := hC
  intro H locs ls hR hS hL
  subst hk
  subst hRm
  have cw9 := n_cn (rm2 := rm2) (R := R) (mc := mc) (ms := ms) 0 hts hd.2.2.2.1 hd.2.2.1 (nX.nest hX hq) hd.2.2.2.2 hfit
  exact va_calli (va_runVN (As := []) (rest := st) ⟨hx, hb, hml, hown, hts⟩ (hM l hl G sz) ⟨cw9, hts _ hd.1, hts _ hd.2.1⟩ ⟨fun a U g mk q => ⟨q.1, nU.blind g mk a q.2⟩, by rw [← hcl]; exact va_recv hK (hR.P1 he) hc (q0 := 0) rfl, fun U hU hW => ⟨rfl, nU.call hR hS hK hX hZ hsz hU hW⟩⟩ rfl rfl (hL.1.trans hLn) rfl (lv_room hst) hdg ⟨hce, hsl⟩) hS (fun q _ h => h) (fun q h => h) (fun r u t H1 locs1 ht hvm hp hB hz hk1 hS1 => k r u.1 u.2 hp H1 locs1 ls (by rw [← ht]; exact hB.1) hS1 hL)
theorem n_callVN0v (hC : nC K cc nL own ret rm) {b : Nat}  {post : nA → nH → Prop} (hM : nM y bytes maxL none rm2 [.ref b] na h (nQv post) mc ms) (hd : nMd y bytes maxL none 0) {host : String} (hq : (own, idx, y, host) ∈ nWM) (hdg : decode cc pc = .ok (.invokevirtual idx, 3)) {kk ci : Nat} {fs : List Value} {rC : vw_C} (hk : na kk = b) (he : h kk = some (.inr (ci, fs))) (hc : nCl[ci]? = some rC) (hcl : rC.1 = y.cls) (hfit : nFit rm2 rm maxL mc ms) (hLn : L.length = nL) (hst : (st.map fun v => v.category).sum ≤ 8) (hce : cells + mc ≤ rm.cells) (hsl : slots + ms ≤ rm.slots)
    (k : ∀ (na2 : nA) (h2 : nH), post na2 h2 → WN K na2 h2 (cells + mc) (slots + ms) Q (pc + 3) L st) : WN K na h cells slots Q pc L (.ref b :: st) := by
  obtain ⟨p, l, e, R, s, m, args, below, meth, c, G, sz⟩ := K
  obtain ⟨hx, hb, hml, hown, hts, hK, hX, hZ, hsz, hlk, hrt, hRm, hl⟩ := hC
  intro H locs ls hR hS hL
  subst hk
  subst hRm
  have cw9 := n_cn (rm2 := rm2) (R := R) (mc := mc) (ms := ms) 0 hts hd.2.2.2.1 hd.2.2.1 (nX.nest hX hq) hd.2.2.2.2 hfit
  exact va_callv (va_runVN (As := []) (rest := st) ⟨hx, hb, hml, hown, hts⟩ (hM l hl G sz) ⟨cw9, hts _ hd.1, hts _ hd.2.1⟩ ⟨fun a U g mk q => ⟨q.1, nU.blind g mk a q.2⟩, by rw [← hcl]; exact va_recv hK (hR.P1 he) hc (q0 := 0) rfl, fun U hU hW => ⟨rfl, nU.call hR hS hK hX hZ hsz hU hW⟩⟩ rfl rfl (hL.1.trans hLn) rfl (lv_room hst) hdg ⟨hce, hsl⟩) hS (fun q _ h => h) (fun q h => h) (fun u t H1 locs1 ht hvm hp hB hz hk1 hS1 => k u.1 u.2 hp H1 locs1 ls (by rw [← ht]; exact hB.1) hS1 hL)
theorem n_callVN0q (hC : nC K cc nL own ret rm) {b : Nat}  {rt : FieldType} {post : Option Nat → nA → nH → Prop} (hM : nM y bytes maxL (some rt) rm2 [.ref b] na h (nQq post) mc ms) (hd : nMd y bytes maxL (some rt) 0) {host : String} (hq : (own, idx, y, host) ∈ nWM) (hdg : decode cc pc = .ok (.invokevirtual idx, 3)) {kk ci : Nat} {fs : List Value} {rC : vw_C} (hk : na kk = b) (he : h kk = some (.inr (ci, fs))) (hc : nCl[ci]? = some rC) (hcl : rC.1 = y.cls) (hfit : nFit rm2 rm maxL mc ms) (hLn : L.length = nL) (hst : (st.map fun v => v.category).sum ≤ 8) (hce : cells + mc ≤ rm.cells) (hsl : slots + ms ≤ rm.slots)
    (k : ∀ (r : Option Nat) (na2 : nA) (h2 : nH), post r na2 h2 → WN K na2 h2 (cells + mc) (slots + ms) Q (pc + 3) L (va_rf r :: st)) : WN K na h cells slots Q pc L (.ref b :: st) := by
  obtain ⟨p, l, e, R, s, m, args, below, meth, c, G, sz⟩ := K
  obtain ⟨hx, hb, hml, hown, hts, hK, hX, hZ, hsz, hlk, hrt, hRm, hl⟩ := hC
  intro H locs ls hR hS hL
  subst hk
  subst hRm
  have cw9 := n_cn (rm2 := rm2) (R := R) (mc := mc) (ms := ms) 0 hts hd.2.2.2.1 hd.2.2.1 (nX.nest hX hq) hd.2.2.2.2 hfit
  exact va_callq (va_runVN (As := []) (rest := st) ⟨hx, hb, hml, hown, hts⟩ (hM l hl G sz) ⟨cw9, hts _ hd.1, hts _ hd.2.1⟩ ⟨fun a U g mk q => ⟨q.1, nU.blind g mk a q.2⟩, by rw [← hcl]; exact va_recv hK (hR.P1 he) hc (q0 := 0) rfl, fun U hU hW => ⟨rfl, nU.call hR hS hK hX hZ hsz hU hW⟩⟩ rfl rfl (hL.1.trans hLn) rfl (lv_room hst) hdg ⟨hce, hsl⟩) hS (fun q _ h => h) (fun q h => h) (fun r u t H1 locs1 ht hvm hp hB hz hk1 hS1 => k r u.1 u.2 hp H1 locs1 ls (by rw [← ht]; exact hB.1) hS1 hL)
theorem n_callVN1i (hC : nC K cc nL own ret rm) {b : Nat} {a1 : Value}  {post : Int32 → nA → nH → Prop} (hM : nM y bytes maxL (some .int) rm2 [.ref b, a1] na h (nQi post) mc ms) (hd : nMd y bytes maxL (some .int) 1) {host : String} (hq : (own, idx, y, host) ∈ nWM) (hdg : decode cc pc = .ok (.invokevirtual idx, 3)) {kk ci : Nat} {fs : List Value} {rC : vw_C} (hk : na kk = b) (he : h kk = some (.inr (ci, fs))) (hc : nCl[ci]? = some rC) (hcl : rC.1 = y.cls) (hfit : nFit rm2 rm maxL mc ms) (hLn : L.length = nL) (hst : (st.map fun v => v.category).sum ≤ 8) (hce : cells + mc ≤ rm.cells) (hsl : slots + ms ≤ rm.slots)
    (k : ∀ (r : Int32) (na2 : nA) (h2 : nH), post r na2 h2 → WN K na2 h2 (cells + mc) (slots + ms) Q (pc + 3) L (.int r :: st)) : WN K na h cells slots Q pc L (a1 :: .ref b :: st) := by
  obtain ⟨p, l, e, R, s, m, args, below, meth, c, G, sz⟩ := K
  obtain ⟨hx, hb, hml, hown, hts, hK, hX, hZ, hsz, hlk, hrt, hRm, hl⟩ := hC
  intro H locs ls hR hS hL
  subst hk
  subst hRm
  have cw9 := n_cn (rm2 := rm2) (R := R) (mc := mc) (ms := ms) 1 hts hd.2.2.2.1 hd.2.2.1 (nX.nest hX hq) hd.2.2.2.2 hfit
  exact va_calli (va_runVN (As := [a1]) (rest := st) ⟨hx, hb, hml, hown, hts⟩ (hM l hl G sz) ⟨cw9, hts _ hd.1, hts _ hd.2.1⟩ ⟨fun a U g mk q => ⟨q.1, nU.blind g mk a q.2⟩, by rw [← hcl]; exact va_recv hK (hR.P1 he) hc (q0 := 0) rfl, fun U hU hW => ⟨rfl, nU.call hR hS hK hX hZ hsz hU hW⟩⟩ rfl rfl (hL.1.trans hLn) rfl (lv_room hst) hdg ⟨hce, hsl⟩) hS (fun q _ h => h) (fun q h => h) (fun r u t H1 locs1 ht hvm hp hB hz hk1 hS1 => k r u.1 u.2 hp H1 locs1 ls (by rw [← ht]; exact hB.1) hS1 hL)
theorem n_callVN1z (hC : nC K cc nL own ret rm) {b : Nat} {a1 : Value}  {post : Int32 → nA → nH → Prop} (hM : nM y bytes maxL (some .boolean) rm2 [.ref b, a1] na h (nQi post) mc ms) (hd : nMd y bytes maxL (some .boolean) 1) {host : String} (hq : (own, idx, y, host) ∈ nWM) (hdg : decode cc pc = .ok (.invokevirtual idx, 3)) {kk ci : Nat} {fs : List Value} {rC : vw_C} (hk : na kk = b) (he : h kk = some (.inr (ci, fs))) (hc : nCl[ci]? = some rC) (hcl : rC.1 = y.cls) (hfit : nFit rm2 rm maxL mc ms) (hLn : L.length = nL) (hst : (st.map fun v => v.category).sum ≤ 8) (hce : cells + mc ≤ rm.cells) (hsl : slots + ms ≤ rm.slots)
    (k : ∀ (r : Int32) (na2 : nA) (h2 : nH), post r na2 h2 → WN K na2 h2 (cells + mc) (slots + ms) Q (pc + 3) L (.int r :: st)) : WN K na h cells slots Q pc L (a1 :: .ref b :: st) := by
  obtain ⟨p, l, e, R, s, m, args, below, meth, c, G, sz⟩ := K
  obtain ⟨hx, hb, hml, hown, hts, hK, hX, hZ, hsz, hlk, hrt, hRm, hl⟩ := hC
  intro H locs ls hR hS hL
  subst hk
  subst hRm
  have cw9 := n_cn (rm2 := rm2) (R := R) (mc := mc) (ms := ms) 1 hts hd.2.2.2.1 hd.2.2.1 (nX.nest hX hq) hd.2.2.2.2 hfit
  exact va_calli (va_runVN (As := [a1]) (rest := st) ⟨hx, hb, hml, hown, hts⟩ (hM l hl G sz) ⟨cw9, hts _ hd.1, hts _ hd.2.1⟩ ⟨fun a U g mk q => ⟨q.1, nU.blind g mk a q.2⟩, by rw [← hcl]; exact va_recv hK (hR.P1 he) hc (q0 := 0) rfl, fun U hU hW => ⟨rfl, nU.call hR hS hK hX hZ hsz hU hW⟩⟩ rfl rfl (hL.1.trans hLn) rfl (lv_room hst) hdg ⟨hce, hsl⟩) hS (fun q _ h => h) (fun q h => h) (fun r u t H1 locs1 ht hvm hp hB hz hk1 hS1 => k r u.1 u.2 hp H1 locs1 ls (by rw [← ht]; exact hB.1) hS1 hL)
theorem n_callVN1v (hC : nC K cc nL own ret rm) {b : Nat} {a1 : Value}  {post : nA → nH → Prop} (hM : nM y bytes maxL none rm2 [.ref b, a1] na h (nQv post) mc ms) (hd : nMd y bytes maxL none 1) {host : String} (hq : (own, idx, y, host) ∈ nWM) (hdg : decode cc pc = .ok (.invokevirtual idx, 3)) {kk ci : Nat} {fs : List Value} {rC : vw_C} (hk : na kk = b) (he : h kk = some (.inr (ci, fs))) (hc : nCl[ci]? = some rC) (hcl : rC.1 = y.cls) (hfit : nFit rm2 rm maxL mc ms) (hLn : L.length = nL) (hst : (st.map fun v => v.category).sum ≤ 8) (hce : cells + mc ≤ rm.cells) (hsl : slots + ms ≤ rm.slots)
    (k : ∀ (na2 : nA) (h2 : nH), post na2 h2 → WN K na2 h2 (cells + mc) (slots + ms) Q (pc + 3) L st) : WN K na h cells slots Q pc L (a1 :: .ref b :: st) := by
  obtain ⟨p, l, e, R, s, m, args, below, meth, c, G, sz⟩ := K
  obtain ⟨hx, hb, hml, hown, hts, hK, hX, hZ, hsz, hlk, hrt, hRm, hl⟩ := hC
  intro H locs ls hR hS hL
  subst hk
  subst hRm
  have cw9 := n_cn (rm2 := rm2) (R := R) (mc := mc) (ms := ms) 1 hts hd.2.2.2.1 hd.2.2.1 (nX.nest hX hq) hd.2.2.2.2 hfit
  exact va_callv (va_runVN (As := [a1]) (rest := st) ⟨hx, hb, hml, hown, hts⟩ (hM l hl G sz) ⟨cw9, hts _ hd.1, hts _ hd.2.1⟩ ⟨fun a U g mk q => ⟨q.1, nU.blind g mk a q.2⟩, by rw [← hcl]; exact va_recv hK (hR.P1 he) hc (q0 := 0) rfl, fun U hU hW => ⟨rfl, nU.call hR hS hK hX hZ hsz hU hW⟩⟩ rfl rfl (hL.1.trans hLn) rfl (lv_room hst) hdg ⟨hce, hsl⟩) hS (fun q _ h => h) (fun q h => h) (fun u t H1 locs1 ht hvm hp hB hz hk1 hS1 => k u.1 u.2 hp H1 locs1 ls (by rw [← ht]; exact hB.1) hS1 hL)
theorem n_callVN1q (hC : nC K cc nL own ret rm) {b : Nat} {a1 : Value}  {rt : FieldType} {post : Option Nat → nA → nH → Prop} (hM : nM y bytes maxL (some rt) rm2 [.ref b, a1] na h (nQq post) mc ms) (hd : nMd y bytes maxL (some rt) 1) {host : String} (hq : (own, idx, y, host) ∈ nWM) (hdg : decode cc pc = .ok (.invokevirtual idx, 3)) {kk ci : Nat} {fs : List Value} {rC : vw_C} (hk : na kk = b) (he : h kk = some (.inr (ci, fs))) (hc : nCl[ci]? = some rC) (hcl : rC.1 = y.cls) (hfit : nFit rm2 rm maxL mc ms) (hLn : L.length = nL) (hst : (st.map fun v => v.category).sum ≤ 8) (hce : cells + mc ≤ rm.cells) (hsl : slots + ms ≤ rm.slots)
    (k : ∀ (r : Option Nat) (na2 : nA) (h2 : nH), post r na2 h2 → WN K na2 h2 (cells + mc) (slots + ms) Q (pc + 3) L (va_rf r :: st)) : WN K na h cells slots Q pc L (a1 :: .ref b :: st) := by
  obtain ⟨p, l, e, R, s, m, args, below, meth, c, G, sz⟩ := K
  obtain ⟨hx, hb, hml, hown, hts, hK, hX, hZ, hsz, hlk, hrt, hRm, hl⟩ := hC
  intro H locs ls hR hS hL
  subst hk
  subst hRm
  have cw9 := n_cn (rm2 := rm2) (R := R) (mc := mc) (ms := ms) 1 hts hd.2.2.2.1 hd.2.2.1 (nX.nest hX hq) hd.2.2.2.2 hfit
  exact va_callq (va_runVN (As := [a1]) (rest := st) ⟨hx, hb, hml, hown, hts⟩ (hM l hl G sz) ⟨cw9, hts _ hd.1, hts _ hd.2.1⟩ ⟨fun a U g mk q => ⟨q.1, nU.blind g mk a q.2⟩, by rw [← hcl]; exact va_recv hK (hR.P1 he) hc (q0 := 0) rfl, fun U hU hW => ⟨rfl, nU.call hR hS hK hX hZ hsz hU hW⟩⟩ rfl rfl (hL.1.trans hLn) rfl (lv_room hst) hdg ⟨hce, hsl⟩) hS (fun q _ h => h) (fun q h => h) (fun r u t H1 locs1 ht hvm hp hB hz hk1 hS1 => k r u.1 u.2 hp H1 locs1 ls (by rw [← ht]; exact hB.1) hS1 hL)
theorem n_callVN2i (hC : nC K cc nL own ret rm) {b : Nat} {a1 a2 : Value}  {post : Int32 → nA → nH → Prop} (hM : nM y bytes maxL (some .int) rm2 [.ref b, a1, a2] na h (nQi post) mc ms) (hd : nMd y bytes maxL (some .int) 2) {host : String} (hq : (own, idx, y, host) ∈ nWM) (hdg : decode cc pc = .ok (.invokevirtual idx, 3)) {kk ci : Nat} {fs : List Value} {rC : vw_C} (hk : na kk = b) (he : h kk = some (.inr (ci, fs))) (hc : nCl[ci]? = some rC) (hcl : rC.1 = y.cls) (hfit : nFit rm2 rm maxL mc ms) (hLn : L.length = nL) (hst : (st.map fun v => v.category).sum ≤ 8) (hce : cells + mc ≤ rm.cells) (hsl : slots + ms ≤ rm.slots)
    (k : ∀ (r : Int32) (na2 : nA) (h2 : nH), post r na2 h2 → WN K na2 h2 (cells + mc) (slots + ms) Q (pc + 3) L (.int r :: st)) : WN K na h cells slots Q pc L (a2 :: a1 :: .ref b :: st) := by
  obtain ⟨p, l, e, R, s, m, args, below, meth, c, G, sz⟩ := K
  obtain ⟨hx, hb, hml, hown, hts, hK, hX, hZ, hsz, hlk, hrt, hRm, hl⟩ := hC
  intro H locs ls hR hS hL
  subst hk
  subst hRm
  have cw9 := n_cn (rm2 := rm2) (R := R) (mc := mc) (ms := ms) 2 hts hd.2.2.2.1 hd.2.2.1 (nX.nest hX hq) hd.2.2.2.2 hfit
  exact va_calli (va_runVN (As := [a1, a2]) (rest := st) ⟨hx, hb, hml, hown, hts⟩ (hM l hl G sz) ⟨cw9, hts _ hd.1, hts _ hd.2.1⟩ ⟨fun a U g mk q => ⟨q.1, nU.blind g mk a q.2⟩, by rw [← hcl]; exact va_recv hK (hR.P1 he) hc (q0 := 0) rfl, fun U hU hW => ⟨rfl, nU.call hR hS hK hX hZ hsz hU hW⟩⟩ rfl rfl (hL.1.trans hLn) rfl (lv_room hst) hdg ⟨hce, hsl⟩) hS (fun q _ h => h) (fun q h => h) (fun r u t H1 locs1 ht hvm hp hB hz hk1 hS1 => k r u.1 u.2 hp H1 locs1 ls (by rw [← ht]; exact hB.1) hS1 hL)
theorem n_callVN2z (hC : nC K cc nL own ret rm) {b : Nat} {a1 a2 : Value}  {post : Int32 → nA → nH → Prop} (hM : nM y bytes maxL (some .boolean) rm2 [.ref b, a1, a2] na h (nQi post) mc ms) (hd : nMd y bytes maxL (some .boolean) 2) {host : String} (hq : (own, idx, y, host) ∈ nWM) (hdg : decode cc pc = .ok (.invokevirtual idx, 3)) {kk ci : Nat} {fs : List Value} {rC : vw_C} (hk : na kk = b) (he : h kk = some (.inr (ci, fs))) (hc : nCl[ci]? = some rC) (hcl : rC.1 = y.cls) (hfit : nFit rm2 rm maxL mc ms) (hLn : L.length = nL) (hst : (st.map fun v => v.category).sum ≤ 8) (hce : cells + mc ≤ rm.cells) (hsl : slots + ms ≤ rm.slots)
    (k : ∀ (r : Int32) (na2 : nA) (h2 : nH), post r na2 h2 → WN K na2 h2 (cells + mc) (slots + ms) Q (pc + 3) L (.int r :: st)) : WN K na h cells slots Q pc L (a2 :: a1 :: .ref b :: st) := by
  obtain ⟨p, l, e, R, s, m, args, below, meth, c, G, sz⟩ := K
  obtain ⟨hx, hb, hml, hown, hts, hK, hX, hZ, hsz, hlk, hrt, hRm, hl⟩ := hC
  intro H locs ls hR hS hL
  subst hk
  subst hRm
  have cw9 := n_cn (rm2 := rm2) (R := R) (mc := mc) (ms := ms) 2 hts hd.2.2.2.1 hd.2.2.1 (nX.nest hX hq) hd.2.2.2.2 hfit
  exact va_calli (va_runVN (As := [a1, a2]) (rest := st) ⟨hx, hb, hml, hown, hts⟩ (hM l hl G sz) ⟨cw9, hts _ hd.1, hts _ hd.2.1⟩ ⟨fun a U g mk q => ⟨q.1, nU.blind g mk a q.2⟩, by rw [← hcl]; exact va_recv hK (hR.P1 he) hc (q0 := 0) rfl, fun U hU hW => ⟨rfl, nU.call hR hS hK hX hZ hsz hU hW⟩⟩ rfl rfl (hL.1.trans hLn) rfl (lv_room hst) hdg ⟨hce, hsl⟩) hS (fun q _ h => h) (fun q h => h) (fun r u t H1 locs1 ht hvm hp hB hz hk1 hS1 => k r u.1 u.2 hp H1 locs1 ls (by rw [← ht]; exact hB.1) hS1 hL)
theorem n_callVN2v (hC : nC K cc nL own ret rm) {b : Nat} {a1 a2 : Value}  {post : nA → nH → Prop} (hM : nM y bytes maxL none rm2 [.ref b, a1, a2] na h (nQv post) mc ms) (hd : nMd y bytes maxL none 2) {host : String} (hq : (own, idx, y, host) ∈ nWM) (hdg : decode cc pc = .ok (.invokevirtual idx, 3)) {kk ci : Nat} {fs : List Value} {rC : vw_C} (hk : na kk = b) (he : h kk = some (.inr (ci, fs))) (hc : nCl[ci]? = some rC) (hcl : rC.1 = y.cls) (hfit : nFit rm2 rm maxL mc ms) (hLn : L.length = nL) (hst : (st.map fun v => v.category).sum ≤ 8) (hce : cells + mc ≤ rm.cells) (hsl : slots + ms ≤ rm.slots)
    (k : ∀ (na2 : nA) (h2 : nH), post na2 h2 → WN K na2 h2 (cells + mc) (slots + ms) Q (pc + 3) L st) : WN K na h cells slots Q pc L (a2 :: a1 :: .ref b :: st) := by
  obtain ⟨p, l, e, R, s, m, args, below, meth, c, G, sz⟩ := K
  obtain ⟨hx, hb, hml, hown, hts, hK, hX, hZ, hsz, hlk, hrt, hRm, hl⟩ := hC
  intro H locs ls hR hS hL
  subst hk
  subst hRm
  have cw9 := n_cn (rm2 := rm2) (R := R) (mc := mc) (ms := ms) 2 hts hd.2.2.2.1 hd.2.2.1 (nX.nest hX hq) hd.2.2.2.2 hfit
  exact va_callv (va_runVN (As := [a1, a2]) (rest := st) ⟨hx, hb, hml, hown, hts⟩ (hM l hl G sz) ⟨cw9, hts _ hd.1, hts _ hd.2.1⟩ ⟨fun a U g mk q => ⟨q.1, nU.blind g mk a q.2⟩, by rw [← hcl]; exact va_recv hK (hR.P1 he) hc (q0 := 0) rfl, fun U hU hW => ⟨rfl, nU.call hR hS hK hX hZ hsz hU hW⟩⟩ rfl rfl (hL.1.trans hLn) rfl (lv_room hst) hdg ⟨hce, hsl⟩) hS (fun q _ h => h) (fun q h => h) (fun u t H1 locs1 ht hvm hp hB hz hk1 hS1 => k u.1 u.2 hp H1 locs1 ls (by rw [← ht]; exact hB.1) hS1 hL)
theorem n_callVN2q (hC : nC K cc nL own ret rm) {b : Nat} {a1 a2 : Value}  {rt : FieldType} {post : Option Nat → nA → nH → Prop} (hM : nM y bytes maxL (some rt) rm2 [.ref b, a1, a2] na h (nQq post) mc ms) (hd : nMd y bytes maxL (some rt) 2) {host : String} (hq : (own, idx, y, host) ∈ nWM) (hdg : decode cc pc = .ok (.invokevirtual idx, 3)) {kk ci : Nat} {fs : List Value} {rC : vw_C} (hk : na kk = b) (he : h kk = some (.inr (ci, fs))) (hc : nCl[ci]? = some rC) (hcl : rC.1 = y.cls) (hfit : nFit rm2 rm maxL mc ms) (hLn : L.length = nL) (hst : (st.map fun v => v.category).sum ≤ 8) (hce : cells + mc ≤ rm.cells) (hsl : slots + ms ≤ rm.slots)
    (k : ∀ (r : Option Nat) (na2 : nA) (h2 : nH), post r na2 h2 → WN K na2 h2 (cells + mc) (slots + ms) Q (pc + 3) L (va_rf r :: st)) : WN K na h cells slots Q pc L (a2 :: a1 :: .ref b :: st) := by
  obtain ⟨p, l, e, R, s, m, args, below, meth, c, G, sz⟩ := K
  obtain ⟨hx, hb, hml, hown, hts, hK, hX, hZ, hsz, hlk, hrt, hRm, hl⟩ := hC
  intro H locs ls hR hS hL
  subst hk
  subst hRm
  have cw9 := n_cn (rm2 := rm2) (R := R) (mc := mc) (ms := ms) 2 hts hd.2.2.2.1 hd.2.2.1 (nX.nest hX hq) hd.2.2.2.2 hfit
  exact va_callq (va_runVN (As := [a1, a2]) (rest := st) ⟨hx, hb, hml, hown, hts⟩ (hM l hl G sz) ⟨cw9, hts _ hd.1, hts _ hd.2.1⟩ ⟨fun a U g mk q => ⟨q.1, nU.blind g mk a q.2⟩, by rw [← hcl]; exact va_recv hK (hR.P1 he) hc (q0 := 0) rfl, fun U hU hW => ⟨rfl, nU.call hR hS hK hX hZ hsz hU hW⟩⟩ rfl rfl (hL.1.trans hLn) rfl (lv_room hst) hdg ⟨hce, hsl⟩) hS (fun q _ h => h) (fun q h => h) (fun r u t H1 locs1 ht hvm hp hB hz hk1 hS1 => k r u.1 u.2 hp H1 locs1 ls (by rw [← ht]; exact hB.1) hS1 hL)
theorem n_callVN3i (hC : nC K cc nL own ret rm) {b : Nat} {a1 a2 a3 : Value}  {post : Int32 → nA → nH → Prop} (hM : nM y bytes maxL (some .int) rm2 [.ref b, a1, a2, a3] na h (nQi post) mc ms) (hd : nMd y bytes maxL (some .int) 3) {host : String} (hq : (own, idx, y, host) ∈ nWM) (hdg : decode cc pc = .ok (.invokevirtual idx, 3)) {kk ci : Nat} {fs : List Value} {rC : vw_C} (hk : na kk = b) (he : h kk = some (.inr (ci, fs))) (hc : nCl[ci]? = some rC) (hcl : rC.1 = y.cls) (hfit : nFit rm2 rm maxL mc ms) (hLn : L.length = nL) (hst : (st.map fun v => v.category).sum ≤ 8) (hce : cells + mc ≤ rm.cells) (hsl : slots + ms ≤ rm.slots)
    (k : ∀ (r : Int32) (na2 : nA) (h2 : nH), post r na2 h2 → WN K na2 h2 (cells + mc) (slots + ms) Q (pc + 3) L (.int r :: st)) : WN K na h cells slots Q pc L (a3 :: a2 :: a1 :: .ref b :: st) := by
  obtain ⟨p, l, e, R, s, m, args, below, meth, c, G, sz⟩ := K
  obtain ⟨hx, hb, hml, hown, hts, hK, hX, hZ, hsz, hlk, hrt, hRm, hl⟩ := hC
  intro H locs ls hR hS hL
  subst hk
  subst hRm
  have cw9 := n_cn (rm2 := rm2) (R := R) (mc := mc) (ms := ms) 3 hts hd.2.2.2.1 hd.2.2.1 (nX.nest hX hq) hd.2.2.2.2 hfit
  exact va_calli (va_runVN (As := [a1, a2, a3]) (rest := st) ⟨hx, hb, hml, hown, hts⟩ (hM l hl G sz) ⟨cw9, hts _ hd.1, hts _ hd.2.1⟩ ⟨fun a U g mk q => ⟨q.1, nU.blind g mk a q.2⟩, by rw [← hcl]; exact va_recv hK (hR.P1 he) hc (q0 := 0) rfl, fun U hU hW => ⟨rfl, nU.call hR hS hK hX hZ hsz hU hW⟩⟩ rfl rfl (hL.1.trans hLn) rfl (lv_room hst) hdg ⟨hce, hsl⟩) hS (fun q _ h => h) (fun q h => h) (fun r u t H1 locs1 ht hvm hp hB hz hk1 hS1 => k r u.1 u.2 hp H1 locs1 ls (by rw [← ht]; exact hB.1) hS1 hL)
theorem n_callVN3z (hC : nC K cc nL own ret rm) {b : Nat} {a1 a2 a3 : Value}  {post : Int32 → nA → nH → Prop} (hM : nM y bytes maxL (some .boolean) rm2 [.ref b, a1, a2, a3] na h (nQi post) mc ms) (hd : nMd y bytes maxL (some .boolean) 3) {host : String} (hq : (own, idx, y, host) ∈ nWM) (hdg : decode cc pc = .ok (.invokevirtual idx, 3)) {kk ci : Nat} {fs : List Value} {rC : vw_C} (hk : na kk = b) (he : h kk = some (.inr (ci, fs))) (hc : nCl[ci]? = some rC) (hcl : rC.1 = y.cls) (hfit : nFit rm2 rm maxL mc ms) (hLn : L.length = nL) (hst : (st.map fun v => v.category).sum ≤ 8) (hce : cells + mc ≤ rm.cells) (hsl : slots + ms ≤ rm.slots)
    (k : ∀ (r : Int32) (na2 : nA) (h2 : nH), post r na2 h2 → WN K na2 h2 (cells + mc) (slots + ms) Q (pc + 3) L (.int r :: st)) : WN K na h cells slots Q pc L (a3 :: a2 :: a1 :: .ref b :: st) := by
  obtain ⟨p, l, e, R, s, m, args, below, meth, c, G, sz⟩ := K
  obtain ⟨hx, hb, hml, hown, hts, hK, hX, hZ, hsz, hlk, hrt, hRm, hl⟩ := hC
  intro H locs ls hR hS hL
  subst hk
  subst hRm
  have cw9 := n_cn (rm2 := rm2) (R := R) (mc := mc) (ms := ms) 3 hts hd.2.2.2.1 hd.2.2.1 (nX.nest hX hq) hd.2.2.2.2 hfit
  exact va_calli (va_runVN (As := [a1, a2, a3]) (rest := st) ⟨hx, hb, hml, hown, hts⟩ (hM l hl G sz) ⟨cw9, hts _ hd.1, hts _ hd.2.1⟩ ⟨fun a U g mk q => ⟨q.1, nU.blind g mk a q.2⟩, by rw [← hcl]; exact va_recv hK (hR.P1 he) hc (q0 := 0) rfl, fun U hU hW => ⟨rfl, nU.call hR hS hK hX hZ hsz hU hW⟩⟩ rfl rfl (hL.1.trans hLn) rfl (lv_room hst) hdg ⟨hce, hsl⟩) hS (fun q _ h => h) (fun q h => h) (fun r u t H1 locs1 ht hvm hp hB hz hk1 hS1 => k r u.1 u.2 hp H1 locs1 ls (by rw [← ht]; exact hB.1) hS1 hL)
theorem n_callVN3v (hC : nC K cc nL own ret rm) {b : Nat} {a1 a2 a3 : Value}  {post : nA → nH → Prop} (hM : nM y bytes maxL none rm2 [.ref b, a1, a2, a3] na h (nQv post) mc ms) (hd : nMd y bytes maxL none 3) {host : String} (hq : (own, idx, y, host) ∈ nWM) (hdg : decode cc pc = .ok (.invokevirtual idx, 3)) {kk ci : Nat} {fs : List Value} {rC : vw_C} (hk : na kk = b) (he : h kk = some (.inr (ci, fs))) (hc : nCl[ci]? = some rC) (hcl : rC.1 = y.cls) (hfit : nFit rm2 rm maxL mc ms) (hLn : L.length = nL) (hst : (st.map fun v => v.category).sum ≤ 8) (hce : cells + mc ≤ rm.cells) (hsl : slots + ms ≤ rm.slots)
    (k : ∀ (na2 : nA) (h2 : nH), post na2 h2 → WN K na2 h2 (cells + mc) (slots + ms) Q (pc + 3) L st) : WN K na h cells slots Q pc L (a3 :: a2 :: a1 :: .ref b :: st) := by
  obtain ⟨p, l, e, R, s, m, args, below, meth, c, G, sz⟩ := K
  obtain ⟨hx, hb, hml, hown, hts, hK, hX, hZ, hsz, hlk, hrt, hRm, hl⟩ := hC
  intro H locs ls hR hS hL
  subst hk
  subst hRm
  have cw9 := n_cn (rm2 := rm2) (R := R) (mc := mc) (ms := ms) 3 hts hd.2.2.2.1 hd.2.2.1 (nX.nest hX hq) hd.2.2.2.2 hfit
  exact va_callv (va_runVN (As := [a1, a2, a3]) (rest := st) ⟨hx, hb, hml, hown, hts⟩ (hM l hl G sz) ⟨cw9, hts _ hd.1, hts _ hd.2.1⟩ ⟨fun a U g mk q => ⟨q.1, nU.blind g mk a q.2⟩, by rw [← hcl]; exact va_recv hK (hR.P1 he) hc (q0 := 0) rfl, fun U hU hW => ⟨rfl, nU.call hR hS hK hX hZ hsz hU hW⟩⟩ rfl rfl (hL.1.trans hLn) rfl (lv_room hst) hdg ⟨hce, hsl⟩) hS (fun q _ h => h) (fun q h => h) (fun u t H1 locs1 ht hvm hp hB hz hk1 hS1 => k u.1 u.2 hp H1 locs1 ls (by rw [← ht]; exact hB.1) hS1 hL)
theorem n_callVN3q (hC : nC K cc nL own ret rm) {b : Nat} {a1 a2 a3 : Value}  {rt : FieldType} {post : Option Nat → nA → nH → Prop} (hM : nM y bytes maxL (some rt) rm2 [.ref b, a1, a2, a3] na h (nQq post) mc ms) (hd : nMd y bytes maxL (some rt) 3) {host : String} (hq : (own, idx, y, host) ∈ nWM) (hdg : decode cc pc = .ok (.invokevirtual idx, 3)) {kk ci : Nat} {fs : List Value} {rC : vw_C} (hk : na kk = b) (he : h kk = some (.inr (ci, fs))) (hc : nCl[ci]? = some rC) (hcl : rC.1 = y.cls) (hfit : nFit rm2 rm maxL mc ms) (hLn : L.length = nL) (hst : (st.map fun v => v.category).sum ≤ 8) (hce : cells + mc ≤ rm.cells) (hsl : slots + ms ≤ rm.slots)
    (k : ∀ (r : Option Nat) (na2 : nA) (h2 : nH), post r na2 h2 → WN K na2 h2 (cells + mc) (slots + ms) Q (pc + 3) L (va_rf r :: st)) : WN K na h cells slots Q pc L (a3 :: a2 :: a1 :: .ref b :: st) := by
  obtain ⟨p, l, e, R, s, m, args, below, meth, c, G, sz⟩ := K
  obtain ⟨hx, hb, hml, hown, hts, hK, hX, hZ, hsz, hlk, hrt, hRm, hl⟩ := hC
  intro H locs ls hR hS hL
  subst hk
  subst hRm
  have cw9 := n_cn (rm2 := rm2) (R := R) (mc := mc) (ms := ms) 3 hts hd.2.2.2.1 hd.2.2.1 (nX.nest hX hq) hd.2.2.2.2 hfit
  exact va_callq (va_runVN (As := [a1, a2, a3]) (rest := st) ⟨hx, hb, hml, hown, hts⟩ (hM l hl G sz) ⟨cw9, hts _ hd.1, hts _ hd.2.1⟩ ⟨fun a U g mk q => ⟨q.1, nU.blind g mk a q.2⟩, by rw [← hcl]; exact va_recv hK (hR.P1 he) hc (q0 := 0) rfl, fun U hU hW => ⟨rfl, nU.call hR hS hK hX hZ hsz hU hW⟩⟩ rfl rfl (hL.1.trans hLn) rfl (lv_room hst) hdg ⟨hce, hsl⟩) hS (fun q _ h => h) (fun q h => h) (fun r u t H1 locs1 ht hvm hp hB hz hk1 hS1 => k r u.1 u.2 hp H1 locs1 ls (by rw [← ht]; exact hB.1) hS1 hL)
theorem n_callVN4i (hC : nC K cc nL own ret rm) {b : Nat} {a1 a2 a3 a4 : Value}  {post : Int32 → nA → nH → Prop} (hM : nM y bytes maxL (some .int) rm2 [.ref b, a1, a2, a3, a4] na h (nQi post) mc ms) (hd : nMd y bytes maxL (some .int) 4) {host : String} (hq : (own, idx, y, host) ∈ nWM) (hdg : decode cc pc = .ok (.invokevirtual idx, 3)) {kk ci : Nat} {fs : List Value} {rC : vw_C} (hk : na kk = b) (he : h kk = some (.inr (ci, fs))) (hc : nCl[ci]? = some rC) (hcl : rC.1 = y.cls) (hfit : nFit rm2 rm maxL mc ms) (hLn : L.length = nL) (hst : (st.map fun v => v.category).sum ≤ 8) (hce : cells + mc ≤ rm.cells) (hsl : slots + ms ≤ rm.slots)
    (k : ∀ (r : Int32) (na2 : nA) (h2 : nH), post r na2 h2 → WN K na2 h2 (cells + mc) (slots + ms) Q (pc + 3) L (.int r :: st)) : WN K na h cells slots Q pc L (a4 :: a3 :: a2 :: a1 :: .ref b :: st) := by
  obtain ⟨p, l, e, R, s, m, args, below, meth, c, G, sz⟩ := K
  obtain ⟨hx, hb, hml, hown, hts, hK, hX, hZ, hsz, hlk, hrt, hRm, hl⟩ := hC
  intro H locs ls hR hS hL
  subst hk
  subst hRm
  have cw9 := n_cn (rm2 := rm2) (R := R) (mc := mc) (ms := ms) 4 hts hd.2.2.2.1 hd.2.2.1 (nX.nest hX hq) hd.2.2.2.2 hfit
  exact va_calli (va_runVN (As := [a1, a2, a3, a4]) (rest := st) ⟨hx, hb, hml, hown, hts⟩ (hM l hl G sz) ⟨cw9, hts _ hd.1, hts _ hd.2.1⟩ ⟨fun a U g mk q => ⟨q.1, nU.blind g mk a q.2⟩, by rw [← hcl]; exact va_recv hK (hR.P1 he) hc (q0 := 0) rfl, fun U hU hW => ⟨rfl, nU.call hR hS hK hX hZ hsz hU hW⟩⟩ rfl rfl (hL.1.trans hLn) rfl (lv_room hst) hdg ⟨hce, hsl⟩) hS (fun q _ h => h) (fun q h => h) (fun r u t H1 locs1 ht hvm hp hB hz hk1 hS1 => k r u.1 u.2 hp H1 locs1 ls (by rw [← ht]; exact hB.1) hS1 hL)
theorem n_callVN4z (hC : nC K cc nL own ret rm) {b : Nat} {a1 a2 a3 a4 : Value}  {post : Int32 → nA → nH → Prop} (hM : nM y bytes maxL (some .boolean) rm2 [.ref b, a1, a2, a3, a4] na h (nQi post) mc ms) (hd : nMd y bytes maxL (some .boolean) 4) {host : String} (hq : (own, idx, y, host) ∈ nWM) (hdg : decode cc pc = .ok (.invokevirtual idx, 3)) {kk ci : Nat} {fs : List Value} {rC : vw_C} (hk : na kk = b) (he : h kk = some (.inr (ci, fs))) (hc : nCl[ci]? = some rC) (hcl : rC.1 = y.cls) (hfit : nFit rm2 rm maxL mc ms) (hLn : L.length = nL) (hst : (st.map fun v => v.category).sum ≤ 8) (hce : cells + mc ≤ rm.cells) (hsl : slots + ms ≤ rm.slots)
    (k : ∀ (r : Int32) (na2 : nA) (h2 : nH), post r na2 h2 → WN K na2 h2 (cells + mc) (slots + ms) Q (pc + 3) L (.int r :: st)) : WN K na h cells slots Q pc L (a4 :: a3 :: a2 :: a1 :: .ref b :: st) := by
  obtain ⟨p, l, e, R, s, m, args, below, meth, c, G, sz⟩ := K
  obtain ⟨hx, hb, hml, hown, hts, hK, hX, hZ, hsz, hlk, hrt, hRm, hl⟩ := hC
  intro H locs ls hR hS hL
  subst hk
  subst hRm
  have cw9 := n_cn (rm2 := rm2) (R := R) (mc := mc) (ms := ms) 4 hts hd.2.2.2.1 hd.2.2.1 (nX.nest hX hq) hd.2.2.2.2 hfit
  exact va_calli (va_runVN (As := [a1, a2, a3, a4]) (rest := st) ⟨hx, hb, hml, hown, hts⟩ (hM l hl G sz) ⟨cw9, hts _ hd.1, hts _ hd.2.1⟩ ⟨fun a U g mk q => ⟨q.1, nU.blind g mk a q.2⟩, by rw [← hcl]; exact va_recv hK (hR.P1 he) hc (q0 := 0) rfl, fun U hU hW => ⟨rfl, nU.call hR hS hK hX hZ hsz hU hW⟩⟩ rfl rfl (hL.1.trans hLn) rfl (lv_room hst) hdg ⟨hce, hsl⟩) hS (fun q _ h => h) (fun q h => h) (fun r u t H1 locs1 ht hvm hp hB hz hk1 hS1 => k r u.1 u.2 hp H1 locs1 ls (by rw [← ht]; exact hB.1) hS1 hL)
theorem n_callVN4v (hC : nC K cc nL own ret rm) {b : Nat} {a1 a2 a3 a4 : Value}  {post : nA → nH → Prop} (hM : nM y bytes maxL none rm2 [.ref b, a1, a2, a3, a4] na h (nQv post) mc ms) (hd : nMd y bytes maxL none 4) {host : String} (hq : (own, idx, y, host) ∈ nWM) (hdg : decode cc pc = .ok (.invokevirtual idx, 3)) {kk ci : Nat} {fs : List Value} {rC : vw_C} (hk : na kk = b) (he : h kk = some (.inr (ci, fs))) (hc : nCl[ci]? = some rC) (hcl : rC.1 = y.cls) (hfit : nFit rm2 rm maxL mc ms) (hLn : L.length = nL) (hst : (st.map fun v => v.category).sum ≤ 8) (hce : cells + mc ≤ rm.cells) (hsl : slots + ms ≤ rm.slots)
    (k : ∀ (na2 : nA) (h2 : nH), post na2 h2 → WN K na2 h2 (cells + mc) (slots + ms) Q (pc + 3) L st) : WN K na h cells slots Q pc L (a4 :: a3 :: a2 :: a1 :: .ref b :: st) := by
  obtain ⟨p, l, e, R, s, m, args, below, meth, c, G, sz⟩ := K
  obtain ⟨hx, hb, hml, hown, hts, hK, hX, hZ, hsz, hlk, hrt, hRm, hl⟩ := hC
  intro H locs ls hR hS hL
  subst hk
  subst hRm
  have cw9 := n_cn (rm2 := rm2) (R := R) (mc := mc) (ms := ms) 4 hts hd.2.2.2.1 hd.2.2.1 (nX.nest hX hq) hd.2.2.2.2 hfit
  exact va_callv (va_runVN (As := [a1, a2, a3, a4]) (rest := st) ⟨hx, hb, hml, hown, hts⟩ (hM l hl G sz) ⟨cw9, hts _ hd.1, hts _ hd.2.1⟩ ⟨fun a U g mk q => ⟨q.1, nU.blind g mk a q.2⟩, by rw [← hcl]; exact va_recv hK (hR.P1 he) hc (q0 := 0) rfl, fun U hU hW => ⟨rfl, nU.call hR hS hK hX hZ hsz hU hW⟩⟩ rfl rfl (hL.1.trans hLn) rfl (lv_room hst) hdg ⟨hce, hsl⟩) hS (fun q _ h => h) (fun q h => h) (fun u t H1 locs1 ht hvm hp hB hz hk1 hS1 => k u.1 u.2 hp H1 locs1 ls (by rw [← ht]; exact hB.1) hS1 hL)
theorem n_callVN4q (hC : nC K cc nL own ret rm) {b : Nat} {a1 a2 a3 a4 : Value}  {rt : FieldType} {post : Option Nat → nA → nH → Prop} (hM : nM y bytes maxL (some rt) rm2 [.ref b, a1, a2, a3, a4] na h (nQq post) mc ms) (hd : nMd y bytes maxL (some rt) 4) {host : String} (hq : (own, idx, y, host) ∈ nWM) (hdg : decode cc pc = .ok (.invokevirtual idx, 3)) {kk ci : Nat} {fs : List Value} {rC : vw_C} (hk : na kk = b) (he : h kk = some (.inr (ci, fs))) (hc : nCl[ci]? = some rC) (hcl : rC.1 = y.cls) (hfit : nFit rm2 rm maxL mc ms) (hLn : L.length = nL) (hst : (st.map fun v => v.category).sum ≤ 8) (hce : cells + mc ≤ rm.cells) (hsl : slots + ms ≤ rm.slots)
    (k : ∀ (r : Option Nat) (na2 : nA) (h2 : nH), post r na2 h2 → WN K na2 h2 (cells + mc) (slots + ms) Q (pc + 3) L (va_rf r :: st)) : WN K na h cells slots Q pc L (a4 :: a3 :: a2 :: a1 :: .ref b :: st) := by
  obtain ⟨p, l, e, R, s, m, args, below, meth, c, G, sz⟩ := K
  obtain ⟨hx, hb, hml, hown, hts, hK, hX, hZ, hsz, hlk, hrt, hRm, hl⟩ := hC
  intro H locs ls hR hS hL
  subst hk
  subst hRm
  have cw9 := n_cn (rm2 := rm2) (R := R) (mc := mc) (ms := ms) 4 hts hd.2.2.2.1 hd.2.2.1 (nX.nest hX hq) hd.2.2.2.2 hfit
  exact va_callq (va_runVN (As := [a1, a2, a3, a4]) (rest := st) ⟨hx, hb, hml, hown, hts⟩ (hM l hl G sz) ⟨cw9, hts _ hd.1, hts _ hd.2.1⟩ ⟨fun a U g mk q => ⟨q.1, nU.blind g mk a q.2⟩, by rw [← hcl]; exact va_recv hK (hR.P1 he) hc (q0 := 0) rfl, fun U hU hW => ⟨rfl, nU.call hR hS hK hX hZ hsz hU hW⟩⟩ rfl rfl (hL.1.trans hLn) rfl (lv_room hst) hdg ⟨hce, hsl⟩) hS (fun q _ h => h) (fun q h => h) (fun r u t H1 locs1 ht hvm hp hB hz hk1 hS1 => k r u.1 u.2 hp H1 locs1 ls (by rw [← ht]; exact hB.1) hS1 hL)
theorem n_callVN5i (hC : nC K cc nL own ret rm) {b : Nat} {a1 a2 a3 a4 a5 : Value}  {post : Int32 → nA → nH → Prop} (hM : nM y bytes maxL (some .int) rm2 [.ref b, a1, a2, a3, a4, a5] na h (nQi post) mc ms) (hd : nMd y bytes maxL (some .int) 5) {host : String} (hq : (own, idx, y, host) ∈ nWM) (hdg : decode cc pc = .ok (.invokevirtual idx, 3)) {kk ci : Nat} {fs : List Value} {rC : vw_C} (hk : na kk = b) (he : h kk = some (.inr (ci, fs))) (hc : nCl[ci]? = some rC) (hcl : rC.1 = y.cls) (hfit : nFit rm2 rm maxL mc ms) (hLn : L.length = nL) (hst : (st.map fun v => v.category).sum ≤ 8) (hce : cells + mc ≤ rm.cells) (hsl : slots + ms ≤ rm.slots)
    (k : ∀ (r : Int32) (na2 : nA) (h2 : nH), post r na2 h2 → WN K na2 h2 (cells + mc) (slots + ms) Q (pc + 3) L (.int r :: st)) : WN K na h cells slots Q pc L (a5 :: a4 :: a3 :: a2 :: a1 :: .ref b :: st) := by
  obtain ⟨p, l, e, R, s, m, args, below, meth, c, G, sz⟩ := K
  obtain ⟨hx, hb, hml, hown, hts, hK, hX, hZ, hsz, hlk, hrt, hRm, hl⟩ := hC
  intro H locs ls hR hS hL
  subst hk
  subst hRm
  have cw9 := n_cn (rm2 := rm2) (R := R) (mc := mc) (ms := ms) 5 hts hd.2.2.2.1 hd.2.2.1 (nX.nest hX hq) hd.2.2.2.2 hfit
  exact va_calli (va_runVN (As := [a1, a2, a3, a4, a5]) (rest := st) ⟨hx, hb, hml, hown, hts⟩ (hM l hl G sz) ⟨cw9, hts _ hd.1, hts _ hd.2.1⟩ ⟨fun a U g mk q => ⟨q.1, nU.blind g mk a q.2⟩, by rw [← hcl]; exact va_recv hK (hR.P1 he) hc (q0 := 0) rfl, fun U hU hW => ⟨rfl, nU.call hR hS hK hX hZ hsz hU hW⟩⟩ rfl rfl (hL.1.trans hLn) rfl (lv_room hst) hdg ⟨hce, hsl⟩) hS (fun q _ h => h) (fun q h => h) (fun r u t H1 locs1 ht hvm hp hB hz hk1 hS1 => k r u.1 u.2 hp H1 locs1 ls (by rw [← ht]; exact hB.1) hS1 hL)
theorem n_callVN5z (hC : nC K cc nL own ret rm) {b : Nat} {a1 a2 a3 a4 a5 : Value}  {post : Int32 → nA → nH → Prop} (hM : nM y bytes maxL (some .boolean) rm2 [.ref b, a1, a2, a3, a4, a5] na h (nQi post) mc ms) (hd : nMd y bytes maxL (some .boolean) 5) {host : String} (hq : (own, idx, y, host) ∈ nWM) (hdg : decode cc pc = .ok (.invokevirtual idx, 3)) {kk ci : Nat} {fs : List Value} {rC : vw_C} (hk : na kk = b) (he : h kk = some (.inr (ci, fs))) (hc : nCl[ci]? = some rC) (hcl : rC.1 = y.cls) (hfit : nFit rm2 rm maxL mc ms) (hLn : L.length = nL) (hst : (st.map fun v => v.category).sum ≤ 8) (hce : cells + mc ≤ rm.cells) (hsl : slots + ms ≤ rm.slots)
    (k : ∀ (r : Int32) (na2 : nA) (h2 : nH), post r na2 h2 → WN K na2 h2 (cells + mc) (slots + ms) Q (pc + 3) L (.int r :: st)) : WN K na h cells slots Q pc L (a5 :: a4 :: a3 :: a2 :: a1 :: .ref b :: st) := by
  obtain ⟨p, l, e, R, s, m, args, below, meth, c, G, sz⟩ := K
  obtain ⟨hx, hb, hml, hown, hts, hK, hX, hZ, hsz, hlk, hrt, hRm, hl⟩ := hC
  intro H locs ls hR hS hL
  subst hk
  subst hRm
  have cw9 := n_cn (rm2 := rm2) (R := R) (mc := mc) (ms := ms) 5 hts hd.2.2.2.1 hd.2.2.1 (nX.nest hX hq) hd.2.2.2.2 hfit
  exact va_calli (va_runVN (As := [a1, a2, a3, a4, a5]) (rest := st) ⟨hx, hb, hml, hown, hts⟩ (hM l hl G sz) ⟨cw9, hts _ hd.1, hts _ hd.2.1⟩ ⟨fun a U g mk q => ⟨q.1, nU.blind g mk a q.2⟩, by rw [← hcl]; exact va_recv hK (hR.P1 he) hc (q0 := 0) rfl, fun U hU hW => ⟨rfl, nU.call hR hS hK hX hZ hsz hU hW⟩⟩ rfl rfl (hL.1.trans hLn) rfl (lv_room hst) hdg ⟨hce, hsl⟩) hS (fun q _ h => h) (fun q h => h) (fun r u t H1 locs1 ht hvm hp hB hz hk1 hS1 => k r u.1 u.2 hp H1 locs1 ls (by rw [← ht]; exact hB.1) hS1 hL)
theorem n_callVN5v (hC : nC K cc nL own ret rm) {b : Nat} {a1 a2 a3 a4 a5 : Value}  {post : nA → nH → Prop} (hM : nM y bytes maxL none rm2 [.ref b, a1, a2, a3, a4, a5] na h (nQv post) mc ms) (hd : nMd y bytes maxL none 5) {host : String} (hq : (own, idx, y, host) ∈ nWM) (hdg : decode cc pc = .ok (.invokevirtual idx, 3)) {kk ci : Nat} {fs : List Value} {rC : vw_C} (hk : na kk = b) (he : h kk = some (.inr (ci, fs))) (hc : nCl[ci]? = some rC) (hcl : rC.1 = y.cls) (hfit : nFit rm2 rm maxL mc ms) (hLn : L.length = nL) (hst : (st.map fun v => v.category).sum ≤ 8) (hce : cells + mc ≤ rm.cells) (hsl : slots + ms ≤ rm.slots)
    (k : ∀ (na2 : nA) (h2 : nH), post na2 h2 → WN K na2 h2 (cells + mc) (slots + ms) Q (pc + 3) L st) : WN K na h cells slots Q pc L (a5 :: a4 :: a3 :: a2 :: a1 :: .ref b :: st) := by
  obtain ⟨p, l, e, R, s, m, args, below, meth, c, G, sz⟩ := K
  obtain ⟨hx, hb, hml, hown, hts, hK, hX, hZ, hsz, hlk, hrt, hRm, hl⟩ := hC
  intro H locs ls hR hS hL
  subst hk
  subst hRm
  have cw9 := n_cn (rm2 := rm2) (R := R) (mc := mc) (ms := ms) 5 hts hd.2.2.2.1 hd.2.2.1 (nX.nest hX hq) hd.2.2.2.2 hfit
  exact va_callv (va_runVN (As := [a1, a2, a3, a4, a5]) (rest := st) ⟨hx, hb, hml, hown, hts⟩ (hM l hl G sz) ⟨cw9, hts _ hd.1, hts _ hd.2.1⟩ ⟨fun a U g mk q => ⟨q.1, nU.blind g mk a q.2⟩, by rw [← hcl]; exact va_recv hK (hR.P1 he) hc (q0 := 0) rfl, fun U hU hW => ⟨rfl, nU.call hR hS hK hX hZ hsz hU hW⟩⟩ rfl rfl (hL.1.trans hLn) rfl (lv_room hst) hdg ⟨hce, hsl⟩) hS (fun q _ h => h) (fun q h => h) (fun u t H1 locs1 ht hvm hp hB hz hk1 hS1 => k u.1 u.2 hp H1 locs1 ls (by rw [← ht]; exact hB.1) hS1 hL)
theorem n_callVN5q (hC : nC K cc nL own ret rm) {b : Nat} {a1 a2 a3 a4 a5 : Value}  {rt : FieldType} {post : Option Nat → nA → nH → Prop} (hM : nM y bytes maxL (some rt) rm2 [.ref b, a1, a2, a3, a4, a5] na h (nQq post) mc ms) (hd : nMd y bytes maxL (some rt) 5) {host : String} (hq : (own, idx, y, host) ∈ nWM) (hdg : decode cc pc = .ok (.invokevirtual idx, 3)) {kk ci : Nat} {fs : List Value} {rC : vw_C} (hk : na kk = b) (he : h kk = some (.inr (ci, fs))) (hc : nCl[ci]? = some rC) (hcl : rC.1 = y.cls) (hfit : nFit rm2 rm maxL mc ms) (hLn : L.length = nL) (hst : (st.map fun v => v.category).sum ≤ 8) (hce : cells + mc ≤ rm.cells) (hsl : slots + ms ≤ rm.slots)
    (k : ∀ (r : Option Nat) (na2 : nA) (h2 : nH), post r na2 h2 → WN K na2 h2 (cells + mc) (slots + ms) Q (pc + 3) L (va_rf r :: st)) : WN K na h cells slots Q pc L (a5 :: a4 :: a3 :: a2 :: a1 :: .ref b :: st) := by
  obtain ⟨p, l, e, R, s, m, args, below, meth, c, G, sz⟩ := K
  obtain ⟨hx, hb, hml, hown, hts, hK, hX, hZ, hsz, hlk, hrt, hRm, hl⟩ := hC
  intro H locs ls hR hS hL
  subst hk
  subst hRm
  have cw9 := n_cn (rm2 := rm2) (R := R) (mc := mc) (ms := ms) 5 hts hd.2.2.2.1 hd.2.2.1 (nX.nest hX hq) hd.2.2.2.2 hfit
  exact va_callq (va_runVN (As := [a1, a2, a3, a4, a5]) (rest := st) ⟨hx, hb, hml, hown, hts⟩ (hM l hl G sz) ⟨cw9, hts _ hd.1, hts _ hd.2.1⟩ ⟨fun a U g mk q => ⟨q.1, nU.blind g mk a q.2⟩, by rw [← hcl]; exact va_recv hK (hR.P1 he) hc (q0 := 0) rfl, fun U hU hW => ⟨rfl, nU.call hR hS hK hX hZ hsz hU hW⟩⟩ rfl rfl (hL.1.trans hLn) rfl (lv_room hst) hdg ⟨hce, hsl⟩) hS (fun q _ h => h) (fun q h => h) (fun r u t H1 locs1 ht hvm hp hB hz hk1 hS1 => k r u.1 u.2 hp H1 locs1 ls (by rw [← ht]; exact hB.1) hS1 hL)
theorem n_callSN0i (hC : nC K cc nL own ret rm)  {post : Int32 → nA → nH → Prop} (hM : nM y bytes maxL (some .int) rm2 [] na h (nQi post) mc ms) (hd : nMs y bytes maxL (some .int) 0) {host : String} (hq : (own, idx, y, host) ∈ nWM) (hdg : decode cc pc = .ok (.invokestatic idx, 3)) (hfit : nFit rm2 rm maxL mc ms) (hLn : L.length = nL) (hst : (st.map fun v => v.category).sum ≤ 8) (hce : cells + mc ≤ rm.cells) (hsl : slots + ms ≤ rm.slots)
    (k : ∀ (r : Int32) (na2 : nA) (h2 : nH), post r na2 h2 → WN K na2 h2 (cells + mc) (slots + ms) Q (pc + 3) L (.int r :: st)) : WN K na h cells slots Q pc L (st) := by
  obtain ⟨p, l, e, R, s, m, args, below, meth, c, G, sz⟩ := K
  obtain ⟨hx, hb, hml, hown, hts, hK, hX, hZ, hsz, hlk, hrt, hRm, hl⟩ := hC
  intro H locs ls hR hS hL
  subst hRm
  have cw9 := n_cn (rm2 := rm2) (R := R) (mc := mc) (ms := ms) 0 hts hd.2.2.1 hd.2.1 (nX.nest hX hq) hd.2.2.2 hfit
  exact va_calli (va_runSN (As := []) (rest := st) ⟨hx, hb, hml, hown, hts⟩ (hM l hl G sz) ⟨cw9, hts _ hd.1, trivial⟩ ⟨fun a U g mk q => ⟨q.1, nU.blind g mk a q.2⟩, fun U hU hW => ⟨rfl, nU.call hR hS hK hX hZ hsz hU hW⟩⟩ rfl rfl (hL.1.trans hLn) rfl (lv_room hst) hdg ⟨hce, hsl⟩) hS (fun q _ h => h) (fun q h => h) (fun r u t H1 locs1 ht hvm hp hB hz hk1 hS1 => k r u.1 u.2 hp H1 locs1 ls (by rw [← ht]; exact hB.1) hS1 hL)
theorem n_callSN0z (hC : nC K cc nL own ret rm)  {post : Int32 → nA → nH → Prop} (hM : nM y bytes maxL (some .boolean) rm2 [] na h (nQi post) mc ms) (hd : nMs y bytes maxL (some .boolean) 0) {host : String} (hq : (own, idx, y, host) ∈ nWM) (hdg : decode cc pc = .ok (.invokestatic idx, 3)) (hfit : nFit rm2 rm maxL mc ms) (hLn : L.length = nL) (hst : (st.map fun v => v.category).sum ≤ 8) (hce : cells + mc ≤ rm.cells) (hsl : slots + ms ≤ rm.slots)
    (k : ∀ (r : Int32) (na2 : nA) (h2 : nH), post r na2 h2 → WN K na2 h2 (cells + mc) (slots + ms) Q (pc + 3) L (.int r :: st)) : WN K na h cells slots Q pc L (st) := by
  obtain ⟨p, l, e, R, s, m, args, below, meth, c, G, sz⟩ := K
  obtain ⟨hx, hb, hml, hown, hts, hK, hX, hZ, hsz, hlk, hrt, hRm, hl⟩ := hC
  intro H locs ls hR hS hL
  subst hRm
  have cw9 := n_cn (rm2 := rm2) (R := R) (mc := mc) (ms := ms) 0 hts hd.2.2.1 hd.2.1 (nX.nest hX hq) hd.2.2.2 hfit
  exact va_calli (va_runSN (As := []) (rest := st) ⟨hx, hb, hml, hown, hts⟩ (hM l hl G sz) ⟨cw9, hts _ hd.1, trivial⟩ ⟨fun a U g mk q => ⟨q.1, nU.blind g mk a q.2⟩, fun U hU hW => ⟨rfl, nU.call hR hS hK hX hZ hsz hU hW⟩⟩ rfl rfl (hL.1.trans hLn) rfl (lv_room hst) hdg ⟨hce, hsl⟩) hS (fun q _ h => h) (fun q h => h) (fun r u t H1 locs1 ht hvm hp hB hz hk1 hS1 => k r u.1 u.2 hp H1 locs1 ls (by rw [← ht]; exact hB.1) hS1 hL)
theorem n_callSN0v (hC : nC K cc nL own ret rm)  {post : nA → nH → Prop} (hM : nM y bytes maxL none rm2 [] na h (nQv post) mc ms) (hd : nMs y bytes maxL none 0) {host : String} (hq : (own, idx, y, host) ∈ nWM) (hdg : decode cc pc = .ok (.invokestatic idx, 3)) (hfit : nFit rm2 rm maxL mc ms) (hLn : L.length = nL) (hst : (st.map fun v => v.category).sum ≤ 8) (hce : cells + mc ≤ rm.cells) (hsl : slots + ms ≤ rm.slots)
    (k : ∀ (na2 : nA) (h2 : nH), post na2 h2 → WN K na2 h2 (cells + mc) (slots + ms) Q (pc + 3) L st) : WN K na h cells slots Q pc L (st) := by
  obtain ⟨p, l, e, R, s, m, args, below, meth, c, G, sz⟩ := K
  obtain ⟨hx, hb, hml, hown, hts, hK, hX, hZ, hsz, hlk, hrt, hRm, hl⟩ := hC
  intro H locs ls hR hS hL
  subst hRm
  have cw9 := n_cn (rm2 := rm2) (R := R) (mc := mc) (ms := ms) 0 hts hd.2.2.1 hd.2.1 (nX.nest hX hq) hd.2.2.2 hfit
  exact va_callv (va_runSN (As := []) (rest := st) ⟨hx, hb, hml, hown, hts⟩ (hM l hl G sz) ⟨cw9, hts _ hd.1, trivial⟩ ⟨fun a U g mk q => ⟨q.1, nU.blind g mk a q.2⟩, fun U hU hW => ⟨rfl, nU.call hR hS hK hX hZ hsz hU hW⟩⟩ rfl rfl (hL.1.trans hLn) rfl (lv_room hst) hdg ⟨hce, hsl⟩) hS (fun q _ h => h) (fun q h => h) (fun u t H1 locs1 ht hvm hp hB hz hk1 hS1 => k u.1 u.2 hp H1 locs1 ls (by rw [← ht]; exact hB.1) hS1 hL)
theorem n_callSN0q (hC : nC K cc nL own ret rm)  {rt : FieldType} {post : Option Nat → nA → nH → Prop} (hM : nM y bytes maxL (some rt) rm2 [] na h (nQq post) mc ms) (hd : nMs y bytes maxL (some rt) 0) {host : String} (hq : (own, idx, y, host) ∈ nWM) (hdg : decode cc pc = .ok (.invokestatic idx, 3)) (hfit : nFit rm2 rm maxL mc ms) (hLn : L.length = nL) (hst : (st.map fun v => v.category).sum ≤ 8) (hce : cells + mc ≤ rm.cells) (hsl : slots + ms ≤ rm.slots)
    (k : ∀ (r : Option Nat) (na2 : nA) (h2 : nH), post r na2 h2 → WN K na2 h2 (cells + mc) (slots + ms) Q (pc + 3) L (va_rf r :: st)) : WN K na h cells slots Q pc L (st) := by
  obtain ⟨p, l, e, R, s, m, args, below, meth, c, G, sz⟩ := K
  obtain ⟨hx, hb, hml, hown, hts, hK, hX, hZ, hsz, hlk, hrt, hRm, hl⟩ := hC
  intro H locs ls hR hS hL
  subst hRm
  have cw9 := n_cn (rm2 := rm2) (R := R) (mc := mc) (ms := ms) 0 hts hd.2.2.1 hd.2.1 (nX.nest hX hq) hd.2.2.2 hfit
  exact va_callq (va_runSN (As := []) (rest := st) ⟨hx, hb, hml, hown, hts⟩ (hM l hl G sz) ⟨cw9, hts _ hd.1, trivial⟩ ⟨fun a U g mk q => ⟨q.1, nU.blind g mk a q.2⟩, fun U hU hW => ⟨rfl, nU.call hR hS hK hX hZ hsz hU hW⟩⟩ rfl rfl (hL.1.trans hLn) rfl (lv_room hst) hdg ⟨hce, hsl⟩) hS (fun q _ h => h) (fun q h => h) (fun r u t H1 locs1 ht hvm hp hB hz hk1 hS1 => k r u.1 u.2 hp H1 locs1 ls (by rw [← ht]; exact hB.1) hS1 hL)
theorem n_callSN1i (hC : nC K cc nL own ret rm) {a1 : Value}  {post : Int32 → nA → nH → Prop} (hM : nM y bytes maxL (some .int) rm2 [a1] na h (nQi post) mc ms) (hd : nMs y bytes maxL (some .int) 1) {host : String} (hq : (own, idx, y, host) ∈ nWM) (hdg : decode cc pc = .ok (.invokestatic idx, 3)) (hfit : nFit rm2 rm maxL mc ms) (hLn : L.length = nL) (hst : (st.map fun v => v.category).sum ≤ 8) (hce : cells + mc ≤ rm.cells) (hsl : slots + ms ≤ rm.slots)
    (k : ∀ (r : Int32) (na2 : nA) (h2 : nH), post r na2 h2 → WN K na2 h2 (cells + mc) (slots + ms) Q (pc + 3) L (.int r :: st)) : WN K na h cells slots Q pc L (a1 :: st) := by
  obtain ⟨p, l, e, R, s, m, args, below, meth, c, G, sz⟩ := K
  obtain ⟨hx, hb, hml, hown, hts, hK, hX, hZ, hsz, hlk, hrt, hRm, hl⟩ := hC
  intro H locs ls hR hS hL
  subst hRm
  have cw9 := n_cn (rm2 := rm2) (R := R) (mc := mc) (ms := ms) 1 hts hd.2.2.1 hd.2.1 (nX.nest hX hq) hd.2.2.2 hfit
  exact va_calli (va_runSN (As := [a1]) (rest := st) ⟨hx, hb, hml, hown, hts⟩ (hM l hl G sz) ⟨cw9, hts _ hd.1, trivial⟩ ⟨fun a U g mk q => ⟨q.1, nU.blind g mk a q.2⟩, fun U hU hW => ⟨rfl, nU.call hR hS hK hX hZ hsz hU hW⟩⟩ rfl rfl (hL.1.trans hLn) rfl (lv_room hst) hdg ⟨hce, hsl⟩) hS (fun q _ h => h) (fun q h => h) (fun r u t H1 locs1 ht hvm hp hB hz hk1 hS1 => k r u.1 u.2 hp H1 locs1 ls (by rw [← ht]; exact hB.1) hS1 hL)
theorem n_callSN1z (hC : nC K cc nL own ret rm) {a1 : Value}  {post : Int32 → nA → nH → Prop} (hM : nM y bytes maxL (some .boolean) rm2 [a1] na h (nQi post) mc ms) (hd : nMs y bytes maxL (some .boolean) 1) {host : String} (hq : (own, idx, y, host) ∈ nWM) (hdg : decode cc pc = .ok (.invokestatic idx, 3)) (hfit : nFit rm2 rm maxL mc ms) (hLn : L.length = nL) (hst : (st.map fun v => v.category).sum ≤ 8) (hce : cells + mc ≤ rm.cells) (hsl : slots + ms ≤ rm.slots)
    (k : ∀ (r : Int32) (na2 : nA) (h2 : nH), post r na2 h2 → WN K na2 h2 (cells + mc) (slots + ms) Q (pc + 3) L (.int r :: st)) : WN K na h cells slots Q pc L (a1 :: st) := by
  obtain ⟨p, l, e, R, s, m, args, below, meth, c, G, sz⟩ := K
  obtain ⟨hx, hb, hml, hown, hts, hK, hX, hZ, hsz, hlk, hrt, hRm, hl⟩ := hC
  intro H locs ls hR hS hL
  subst hRm
  have cw9 := n_cn (rm2 := rm2) (R := R) (mc := mc) (ms := ms) 1 hts hd.2.2.1 hd.2.1 (nX.nest hX hq) hd.2.2.2 hfit
  exact va_calli (va_runSN (As := [a1]) (rest := st) ⟨hx, hb, hml, hown, hts⟩ (hM l hl G sz) ⟨cw9, hts _ hd.1, trivial⟩ ⟨fun a U g mk q => ⟨q.1, nU.blind g mk a q.2⟩, fun U hU hW => ⟨rfl, nU.call hR hS hK hX hZ hsz hU hW⟩⟩ rfl rfl (hL.1.trans hLn) rfl (lv_room hst) hdg ⟨hce, hsl⟩) hS (fun q _ h => h) (fun q h => h) (fun r u t H1 locs1 ht hvm hp hB hz hk1 hS1 => k r u.1 u.2 hp H1 locs1 ls (by rw [← ht]; exact hB.1) hS1 hL)
theorem n_callSN1v (hC : nC K cc nL own ret rm) {a1 : Value}  {post : nA → nH → Prop} (hM : nM y bytes maxL none rm2 [a1] na h (nQv post) mc ms) (hd : nMs y bytes maxL none 1) {host : String} (hq : (own, idx, y, host) ∈ nWM) (hdg : decode cc pc = .ok (.invokestatic idx, 3)) (hfit : nFit rm2 rm maxL mc ms) (hLn : L.length = nL) (hst : (st.map fun v => v.category).sum ≤ 8) (hce : cells + mc ≤ rm.cells) (hsl : slots + ms ≤ rm.slots)
    (k : ∀ (na2 : nA) (h2 : nH), post na2 h2 → WN K na2 h2 (cells + mc) (slots + ms) Q (pc + 3) L st) : WN K na h cells slots Q pc L (a1 :: st) := by
  obtain ⟨p, l, e, R, s, m, args, below, meth, c, G, sz⟩ := K
  obtain ⟨hx, hb, hml, hown, hts, hK, hX, hZ, hsz, hlk, hrt, hRm, hl⟩ := hC
  intro H locs ls hR hS hL
  subst hRm
  have cw9 := n_cn (rm2 := rm2) (R := R) (mc := mc) (ms := ms) 1 hts hd.2.2.1 hd.2.1 (nX.nest hX hq) hd.2.2.2 hfit
  exact va_callv (va_runSN (As := [a1]) (rest := st) ⟨hx, hb, hml, hown, hts⟩ (hM l hl G sz) ⟨cw9, hts _ hd.1, trivial⟩ ⟨fun a U g mk q => ⟨q.1, nU.blind g mk a q.2⟩, fun U hU hW => ⟨rfl, nU.call hR hS hK hX hZ hsz hU hW⟩⟩ rfl rfl (hL.1.trans hLn) rfl (lv_room hst) hdg ⟨hce, hsl⟩) hS (fun q _ h => h) (fun q h => h) (fun u t H1 locs1 ht hvm hp hB hz hk1 hS1 => k u.1 u.2 hp H1 locs1 ls (by rw [← ht]; exact hB.1) hS1 hL)
theorem n_callSN1q (hC : nC K cc nL own ret rm) {a1 : Value}  {rt : FieldType} {post : Option Nat → nA → nH → Prop} (hM : nM y bytes maxL (some rt) rm2 [a1] na h (nQq post) mc ms) (hd : nMs y bytes maxL (some rt) 1) {host : String} (hq : (own, idx, y, host) ∈ nWM) (hdg : decode cc pc = .ok (.invokestatic idx, 3)) (hfit : nFit rm2 rm maxL mc ms) (hLn : L.length = nL) (hst : (st.map fun v => v.category).sum ≤ 8) (hce : cells + mc ≤ rm.cells) (hsl : slots + ms ≤ rm.slots)
    (k : ∀ (r : Option Nat) (na2 : nA) (h2 : nH), post r na2 h2 → WN K na2 h2 (cells + mc) (slots + ms) Q (pc + 3) L (va_rf r :: st)) : WN K na h cells slots Q pc L (a1 :: st) := by
  obtain ⟨p, l, e, R, s, m, args, below, meth, c, G, sz⟩ := K
  obtain ⟨hx, hb, hml, hown, hts, hK, hX, hZ, hsz, hlk, hrt, hRm, hl⟩ := hC
  intro H locs ls hR hS hL
  subst hRm
  have cw9 := n_cn (rm2 := rm2) (R := R) (mc := mc) (ms := ms) 1 hts hd.2.2.1 hd.2.1 (nX.nest hX hq) hd.2.2.2 hfit
  exact va_callq (va_runSN (As := [a1]) (rest := st) ⟨hx, hb, hml, hown, hts⟩ (hM l hl G sz) ⟨cw9, hts _ hd.1, trivial⟩ ⟨fun a U g mk q => ⟨q.1, nU.blind g mk a q.2⟩, fun U hU hW => ⟨rfl, nU.call hR hS hK hX hZ hsz hU hW⟩⟩ rfl rfl (hL.1.trans hLn) rfl (lv_room hst) hdg ⟨hce, hsl⟩) hS (fun q _ h => h) (fun q h => h) (fun r u t H1 locs1 ht hvm hp hB hz hk1 hS1 => k r u.1 u.2 hp H1 locs1 ls (by rw [← ht]; exact hB.1) hS1 hL)
theorem n_callSN2i (hC : nC K cc nL own ret rm) {a1 a2 : Value}  {post : Int32 → nA → nH → Prop} (hM : nM y bytes maxL (some .int) rm2 [a1, a2] na h (nQi post) mc ms) (hd : nMs y bytes maxL (some .int) 2) {host : String} (hq : (own, idx, y, host) ∈ nWM) (hdg : decode cc pc = .ok (.invokestatic idx, 3)) (hfit : nFit rm2 rm maxL mc ms) (hLn : L.length = nL) (hst : (st.map fun v => v.category).sum ≤ 8) (hce : cells + mc ≤ rm.cells) (hsl : slots + ms ≤ rm.slots)
    (k : ∀ (r : Int32) (na2 : nA) (h2 : nH), post r na2 h2 → WN K na2 h2 (cells + mc) (slots + ms) Q (pc + 3) L (.int r :: st)) : WN K na h cells slots Q pc L (a2 :: a1 :: st) := by
  obtain ⟨p, l, e, R, s, m, args, below, meth, c, G, sz⟩ := K
  obtain ⟨hx, hb, hml, hown, hts, hK, hX, hZ, hsz, hlk, hrt, hRm, hl⟩ := hC
  intro H locs ls hR hS hL
  subst hRm
  have cw9 := n_cn (rm2 := rm2) (R := R) (mc := mc) (ms := ms) 2 hts hd.2.2.1 hd.2.1 (nX.nest hX hq) hd.2.2.2 hfit
  exact va_calli (va_runSN (As := [a1, a2]) (rest := st) ⟨hx, hb, hml, hown, hts⟩ (hM l hl G sz) ⟨cw9, hts _ hd.1, trivial⟩ ⟨fun a U g mk q => ⟨q.1, nU.blind g mk a q.2⟩, fun U hU hW => ⟨rfl, nU.call hR hS hK hX hZ hsz hU hW⟩⟩ rfl rfl (hL.1.trans hLn) rfl (lv_room hst) hdg ⟨hce, hsl⟩) hS (fun q _ h => h) (fun q h => h) (fun r u t H1 locs1 ht hvm hp hB hz hk1 hS1 => k r u.1 u.2 hp H1 locs1 ls (by rw [← ht]; exact hB.1) hS1 hL)
theorem n_callSN2z (hC : nC K cc nL own ret rm) {a1 a2 : Value}  {post : Int32 → nA → nH → Prop} (hM : nM y bytes maxL (some .boolean) rm2 [a1, a2] na h (nQi post) mc ms) (hd : nMs y bytes maxL (some .boolean) 2) {host : String} (hq : (own, idx, y, host) ∈ nWM) (hdg : decode cc pc = .ok (.invokestatic idx, 3)) (hfit : nFit rm2 rm maxL mc ms) (hLn : L.length = nL) (hst : (st.map fun v => v.category).sum ≤ 8) (hce : cells + mc ≤ rm.cells) (hsl : slots + ms ≤ rm.slots)
    (k : ∀ (r : Int32) (na2 : nA) (h2 : nH), post r na2 h2 → WN K na2 h2 (cells + mc) (slots + ms) Q (pc + 3) L (.int r :: st)) : WN K na h cells slots Q pc L (a2 :: a1 :: st) := by
  obtain ⟨p, l, e, R, s, m, args, below, meth, c, G, sz⟩ := K
  obtain ⟨hx, hb, hml, hown, hts, hK, hX, hZ, hsz, hlk, hrt, hRm, hl⟩ := hC
  intro H locs ls hR hS hL
  subst hRm
  have cw9 := n_cn (rm2 := rm2) (R := R) (mc := mc) (ms := ms) 2 hts hd.2.2.1 hd.2.1 (nX.nest hX hq) hd.2.2.2 hfit
  exact va_calli (va_runSN (As := [a1, a2]) (rest := st) ⟨hx, hb, hml, hown, hts⟩ (hM l hl G sz) ⟨cw9, hts _ hd.1, trivial⟩ ⟨fun a U g mk q => ⟨q.1, nU.blind g mk a q.2⟩, fun U hU hW => ⟨rfl, nU.call hR hS hK hX hZ hsz hU hW⟩⟩ rfl rfl (hL.1.trans hLn) rfl (lv_room hst) hdg ⟨hce, hsl⟩) hS (fun q _ h => h) (fun q h => h) (fun r u t H1 locs1 ht hvm hp hB hz hk1 hS1 => k r u.1 u.2 hp H1 locs1 ls (by rw [← ht]; exact hB.1) hS1 hL)
theorem n_callSN2v (hC : nC K cc nL own ret rm) {a1 a2 : Value}  {post : nA → nH → Prop} (hM : nM y bytes maxL none rm2 [a1, a2] na h (nQv post) mc ms) (hd : nMs y bytes maxL none 2) {host : String} (hq : (own, idx, y, host) ∈ nWM) (hdg : decode cc pc = .ok (.invokestatic idx, 3)) (hfit : nFit rm2 rm maxL mc ms) (hLn : L.length = nL) (hst : (st.map fun v => v.category).sum ≤ 8) (hce : cells + mc ≤ rm.cells) (hsl : slots + ms ≤ rm.slots)
    (k : ∀ (na2 : nA) (h2 : nH), post na2 h2 → WN K na2 h2 (cells + mc) (slots + ms) Q (pc + 3) L st) : WN K na h cells slots Q pc L (a2 :: a1 :: st) := by
  obtain ⟨p, l, e, R, s, m, args, below, meth, c, G, sz⟩ := K
  obtain ⟨hx, hb, hml, hown, hts, hK, hX, hZ, hsz, hlk, hrt, hRm, hl⟩ := hC
  intro H locs ls hR hS hL
  subst hRm
  have cw9 := n_cn (rm2 := rm2) (R := R) (mc := mc) (ms := ms) 2 hts hd.2.2.1 hd.2.1 (nX.nest hX hq) hd.2.2.2 hfit
  exact va_callv (va_runSN (As := [a1, a2]) (rest := st) ⟨hx, hb, hml, hown, hts⟩ (hM l hl G sz) ⟨cw9, hts _ hd.1, trivial⟩ ⟨fun a U g mk q => ⟨q.1, nU.blind g mk a q.2⟩, fun U hU hW => ⟨rfl, nU.call hR hS hK hX hZ hsz hU hW⟩⟩ rfl rfl (hL.1.trans hLn) rfl (lv_room hst) hdg ⟨hce, hsl⟩) hS (fun q _ h => h) (fun q h => h) (fun u t H1 locs1 ht hvm hp hB hz hk1 hS1 => k u.1 u.2 hp H1 locs1 ls (by rw [← ht]; exact hB.1) hS1 hL)
theorem n_callSN2q (hC : nC K cc nL own ret rm) {a1 a2 : Value}  {rt : FieldType} {post : Option Nat → nA → nH → Prop} (hM : nM y bytes maxL (some rt) rm2 [a1, a2] na h (nQq post) mc ms) (hd : nMs y bytes maxL (some rt) 2) {host : String} (hq : (own, idx, y, host) ∈ nWM) (hdg : decode cc pc = .ok (.invokestatic idx, 3)) (hfit : nFit rm2 rm maxL mc ms) (hLn : L.length = nL) (hst : (st.map fun v => v.category).sum ≤ 8) (hce : cells + mc ≤ rm.cells) (hsl : slots + ms ≤ rm.slots)
    (k : ∀ (r : Option Nat) (na2 : nA) (h2 : nH), post r na2 h2 → WN K na2 h2 (cells + mc) (slots + ms) Q (pc + 3) L (va_rf r :: st)) : WN K na h cells slots Q pc L (a2 :: a1 :: st) := by
  obtain ⟨p, l, e, R, s, m, args, below, meth, c, G, sz⟩ := K
  obtain ⟨hx, hb, hml, hown, hts, hK, hX, hZ, hsz, hlk, hrt, hRm, hl⟩ := hC
  intro H locs ls hR hS hL
  subst hRm
  have cw9 := n_cn (rm2 := rm2) (R := R) (mc := mc) (ms := ms) 2 hts hd.2.2.1 hd.2.1 (nX.nest hX hq) hd.2.2.2 hfit
  exact va_callq (va_runSN (As := [a1, a2]) (rest := st) ⟨hx, hb, hml, hown, hts⟩ (hM l hl G sz) ⟨cw9, hts _ hd.1, trivial⟩ ⟨fun a U g mk q => ⟨q.1, nU.blind g mk a q.2⟩, fun U hU hW => ⟨rfl, nU.call hR hS hK hX hZ hsz hU hW⟩⟩ rfl rfl (hL.1.trans hLn) rfl (lv_room hst) hdg ⟨hce, hsl⟩) hS (fun q _ h => h) (fun q h => h) (fun r u t H1 locs1 ht hvm hp hB hz hk1 hS1 => k r u.1 u.2 hp H1 locs1 ls (by rw [← ht]; exact hB.1) hS1 hL)
theorem n_callSN3i (hC : nC K cc nL own ret rm) {a1 a2 a3 : Value}  {post : Int32 → nA → nH → Prop} (hM : nM y bytes maxL (some .int) rm2 [a1, a2, a3] na h (nQi post) mc ms) (hd : nMs y bytes maxL (some .int) 3) {host : String} (hq : (own, idx, y, host) ∈ nWM) (hdg : decode cc pc = .ok (.invokestatic idx, 3)) (hfit : nFit rm2 rm maxL mc ms) (hLn : L.length = nL) (hst : (st.map fun v => v.category).sum ≤ 8) (hce : cells + mc ≤ rm.cells) (hsl : slots + ms ≤ rm.slots)
    (k : ∀ (r : Int32) (na2 : nA) (h2 : nH), post r na2 h2 → WN K na2 h2 (cells + mc) (slots + ms) Q (pc + 3) L (.int r :: st)) : WN K na h cells slots Q pc L (a3 :: a2 :: a1 :: st) := by
  obtain ⟨p, l, e, R, s, m, args, below, meth, c, G, sz⟩ := K
  obtain ⟨hx, hb, hml, hown, hts, hK, hX, hZ, hsz, hlk, hrt, hRm, hl⟩ := hC
  intro H locs ls hR hS hL
  subst hRm
  have cw9 := n_cn (rm2 := rm2) (R := R) (mc := mc) (ms := ms) 3 hts hd.2.2.1 hd.2.1 (nX.nest hX hq) hd.2.2.2 hfit
  exact va_calli (va_runSN (As := [a1, a2, a3]) (rest := st) ⟨hx, hb, hml, hown, hts⟩ (hM l hl G sz) ⟨cw9, hts _ hd.1, trivial⟩ ⟨fun a U g mk q => ⟨q.1, nU.blind g mk a q.2⟩, fun U hU hW => ⟨rfl, nU.call hR hS hK hX hZ hsz hU hW⟩⟩ rfl rfl (hL.1.trans hLn) rfl (lv_room hst) hdg ⟨hce, hsl⟩) hS (fun q _ h => h) (fun q h => h) (fun r u t H1 locs1 ht hvm hp hB hz hk1 hS1 => k r u.1 u.2 hp H1 locs1 ls (by rw [← ht]; exact hB.1) hS1 hL)
theorem n_callSN3z (hC : nC K cc nL own ret rm) {a1 a2 a3 : Value}  {post : Int32 → nA → nH → Prop} (hM : nM y bytes maxL (some .boolean) rm2 [a1, a2, a3] na h (nQi post) mc ms) (hd : nMs y bytes maxL (some .boolean) 3) {host : String} (hq : (own, idx, y, host) ∈ nWM) (hdg : decode cc pc = .ok (.invokestatic idx, 3)) (hfit : nFit rm2 rm maxL mc ms) (hLn : L.length = nL) (hst : (st.map fun v => v.category).sum ≤ 8) (hce : cells + mc ≤ rm.cells) (hsl : slots + ms ≤ rm.slots)
    (k : ∀ (r : Int32) (na2 : nA) (h2 : nH), post r na2 h2 → WN K na2 h2 (cells + mc) (slots + ms) Q (pc + 3) L (.int r :: st)) : WN K na h cells slots Q pc L (a3 :: a2 :: a1 :: st) := by
  obtain ⟨p, l, e, R, s, m, args, below, meth, c, G, sz⟩ := K
  obtain ⟨hx, hb, hml, hown, hts, hK, hX, hZ, hsz, hlk, hrt, hRm, hl⟩ := hC
  intro H locs ls hR hS hL
  subst hRm
  have cw9 := n_cn (rm2 := rm2) (R := R) (mc := mc) (ms := ms) 3 hts hd.2.2.1 hd.2.1 (nX.nest hX hq) hd.2.2.2 hfit
  exact va_calli (va_runSN (As := [a1, a2, a3]) (rest := st) ⟨hx, hb, hml, hown, hts⟩ (hM l hl G sz) ⟨cw9, hts _ hd.1, trivial⟩ ⟨fun a U g mk q => ⟨q.1, nU.blind g mk a q.2⟩, fun U hU hW => ⟨rfl, nU.call hR hS hK hX hZ hsz hU hW⟩⟩ rfl rfl (hL.1.trans hLn) rfl (lv_room hst) hdg ⟨hce, hsl⟩) hS (fun q _ h => h) (fun q h => h) (fun r u t H1 locs1 ht hvm hp hB hz hk1 hS1 => k r u.1 u.2 hp H1 locs1 ls (by rw [← ht]; exact hB.1) hS1 hL)
theorem n_callSN3v (hC : nC K cc nL own ret rm) {a1 a2 a3 : Value}  {post : nA → nH → Prop} (hM : nM y bytes maxL none rm2 [a1, a2, a3] na h (nQv post) mc ms) (hd : nMs y bytes maxL none 3) {host : String} (hq : (own, idx, y, host) ∈ nWM) (hdg : decode cc pc = .ok (.invokestatic idx, 3)) (hfit : nFit rm2 rm maxL mc ms) (hLn : L.length = nL) (hst : (st.map fun v => v.category).sum ≤ 8) (hce : cells + mc ≤ rm.cells) (hsl : slots + ms ≤ rm.slots)
    (k : ∀ (na2 : nA) (h2 : nH), post na2 h2 → WN K na2 h2 (cells + mc) (slots + ms) Q (pc + 3) L st) : WN K na h cells slots Q pc L (a3 :: a2 :: a1 :: st) := by
  obtain ⟨p, l, e, R, s, m, args, below, meth, c, G, sz⟩ := K
  obtain ⟨hx, hb, hml, hown, hts, hK, hX, hZ, hsz, hlk, hrt, hRm, hl⟩ := hC
  intro H locs ls hR hS hL
  subst hRm
  have cw9 := n_cn (rm2 := rm2) (R := R) (mc := mc) (ms := ms) 3 hts hd.2.2.1 hd.2.1 (nX.nest hX hq) hd.2.2.2 hfit
  exact va_callv (va_runSN (As := [a1, a2, a3]) (rest := st) ⟨hx, hb, hml, hown, hts⟩ (hM l hl G sz) ⟨cw9, hts _ hd.1, trivial⟩ ⟨fun a U g mk q => ⟨q.1, nU.blind g mk a q.2⟩, fun U hU hW => ⟨rfl, nU.call hR hS hK hX hZ hsz hU hW⟩⟩ rfl rfl (hL.1.trans hLn) rfl (lv_room hst) hdg ⟨hce, hsl⟩) hS (fun q _ h => h) (fun q h => h) (fun u t H1 locs1 ht hvm hp hB hz hk1 hS1 => k u.1 u.2 hp H1 locs1 ls (by rw [← ht]; exact hB.1) hS1 hL)
theorem n_callSN3q (hC : nC K cc nL own ret rm) {a1 a2 a3 : Value}  {rt : FieldType} {post : Option Nat → nA → nH → Prop} (hM : nM y bytes maxL (some rt) rm2 [a1, a2, a3] na h (nQq post) mc ms) (hd : nMs y bytes maxL (some rt) 3) {host : String} (hq : (own, idx, y, host) ∈ nWM) (hdg : decode cc pc = .ok (.invokestatic idx, 3)) (hfit : nFit rm2 rm maxL mc ms) (hLn : L.length = nL) (hst : (st.map fun v => v.category).sum ≤ 8) (hce : cells + mc ≤ rm.cells) (hsl : slots + ms ≤ rm.slots)
    (k : ∀ (r : Option Nat) (na2 : nA) (h2 : nH), post r na2 h2 → WN K na2 h2 (cells + mc) (slots + ms) Q (pc + 3) L (va_rf r :: st)) : WN K na h cells slots Q pc L (a3 :: a2 :: a1 :: st) := by
  obtain ⟨p, l, e, R, s, m, args, below, meth, c, G, sz⟩ := K
  obtain ⟨hx, hb, hml, hown, hts, hK, hX, hZ, hsz, hlk, hrt, hRm, hl⟩ := hC
  intro H locs ls hR hS hL
  subst hRm
  have cw9 := n_cn (rm2 := rm2) (R := R) (mc := mc) (ms := ms) 3 hts hd.2.2.1 hd.2.1 (nX.nest hX hq) hd.2.2.2 hfit
  exact va_callq (va_runSN (As := [a1, a2, a3]) (rest := st) ⟨hx, hb, hml, hown, hts⟩ (hM l hl G sz) ⟨cw9, hts _ hd.1, trivial⟩ ⟨fun a U g mk q => ⟨q.1, nU.blind g mk a q.2⟩, fun U hU hW => ⟨rfl, nU.call hR hS hK hX hZ hsz hU hW⟩⟩ rfl rfl (hL.1.trans hLn) rfl (lv_room hst) hdg ⟨hce, hsl⟩) hS (fun q _ h => h) (fun q h => h) (fun r u t H1 locs1 ht hvm hp hB hz hk1 hS1 => k r u.1 u.2 hp H1 locs1 ls (by rw [← ht]; exact hB.1) hS1 hL)
theorem n_callSN4i (hC : nC K cc nL own ret rm) {a1 a2 a3 a4 : Value}  {post : Int32 → nA → nH → Prop} (hM : nM y bytes maxL (some .int) rm2 [a1, a2, a3, a4] na h (nQi post) mc ms) (hd : nMs y bytes maxL (some .int) 4) {host : String} (hq : (own, idx, y, host) ∈ nWM) (hdg : decode cc pc = .ok (.invokestatic idx, 3)) (hfit : nFit rm2 rm maxL mc ms) (hLn : L.length = nL) (hst : (st.map fun v => v.category).sum ≤ 8) (hce : cells + mc ≤ rm.cells) (hsl : slots + ms ≤ rm.slots)
    (k : ∀ (r : Int32) (na2 : nA) (h2 : nH), post r na2 h2 → WN K na2 h2 (cells + mc) (slots + ms) Q (pc + 3) L (.int r :: st)) : WN K na h cells slots Q pc L (a4 :: a3 :: a2 :: a1 :: st) := by
  obtain ⟨p, l, e, R, s, m, args, below, meth, c, G, sz⟩ := K
  obtain ⟨hx, hb, hml, hown, hts, hK, hX, hZ, hsz, hlk, hrt, hRm, hl⟩ := hC
  intro H locs ls hR hS hL
  subst hRm
  have cw9 := n_cn (rm2 := rm2) (R := R) (mc := mc) (ms := ms) 4 hts hd.2.2.1 hd.2.1 (nX.nest hX hq) hd.2.2.2 hfit
  exact va_calli (va_runSN (As := [a1, a2, a3, a4]) (rest := st) ⟨hx, hb, hml, hown, hts⟩ (hM l hl G sz) ⟨cw9, hts _ hd.1, trivial⟩ ⟨fun a U g mk q => ⟨q.1, nU.blind g mk a q.2⟩, fun U hU hW => ⟨rfl, nU.call hR hS hK hX hZ hsz hU hW⟩⟩ rfl rfl (hL.1.trans hLn) rfl (lv_room hst) hdg ⟨hce, hsl⟩) hS (fun q _ h => h) (fun q h => h) (fun r u t H1 locs1 ht hvm hp hB hz hk1 hS1 => k r u.1 u.2 hp H1 locs1 ls (by rw [← ht]; exact hB.1) hS1 hL)
theorem n_callSN4z (hC : nC K cc nL own ret rm) {a1 a2 a3 a4 : Value}  {post : Int32 → nA → nH → Prop} (hM : nM y bytes maxL (some .boolean) rm2 [a1, a2, a3, a4] na h (nQi post) mc ms) (hd : nMs y bytes maxL (some .boolean) 4) {host : String} (hq : (own, idx, y, host) ∈ nWM) (hdg : decode cc pc = .ok (.invokestatic idx, 3)) (hfit : nFit rm2 rm maxL mc ms) (hLn : L.length = nL) (hst : (st.map fun v => v.category).sum ≤ 8) (hce : cells + mc ≤ rm.cells) (hsl : slots + ms ≤ rm.slots)
    (k : ∀ (r : Int32) (na2 : nA) (h2 : nH), post r na2 h2 → WN K na2 h2 (cells + mc) (slots + ms) Q (pc + 3) L (.int r :: st)) : WN K na h cells slots Q pc L (a4 :: a3 :: a2 :: a1 :: st) := by
  obtain ⟨p, l, e, R, s, m, args, below, meth, c, G, sz⟩ := K
  obtain ⟨hx, hb, hml, hown, hts, hK, hX, hZ, hsz, hlk, hrt, hRm, hl⟩ := hC
  intro H locs ls hR hS hL
  subst hRm
  have cw9 := n_cn (rm2 := rm2) (R := R) (mc := mc) (ms := ms) 4 hts hd.2.2.1 hd.2.1 (nX.nest hX hq) hd.2.2.2 hfit
  exact va_calli (va_runSN (As := [a1, a2, a3, a4]) (rest := st) ⟨hx, hb, hml, hown, hts⟩ (hM l hl G sz) ⟨cw9, hts _ hd.1, trivial⟩ ⟨fun a U g mk q => ⟨q.1, nU.blind g mk a q.2⟩, fun U hU hW => ⟨rfl, nU.call hR hS hK hX hZ hsz hU hW⟩⟩ rfl rfl (hL.1.trans hLn) rfl (lv_room hst) hdg ⟨hce, hsl⟩) hS (fun q _ h => h) (fun q h => h) (fun r u t H1 locs1 ht hvm hp hB hz hk1 hS1 => k r u.1 u.2 hp H1 locs1 ls (by rw [← ht]; exact hB.1) hS1 hL)
theorem n_callSN4v (hC : nC K cc nL own ret rm) {a1 a2 a3 a4 : Value}  {post : nA → nH → Prop} (hM : nM y bytes maxL none rm2 [a1, a2, a3, a4] na h (nQv post) mc ms) (hd : nMs y bytes maxL none 4) {host : String} (hq : (own, idx, y, host) ∈ nWM) (hdg : decode cc pc = .ok (.invokestatic idx, 3)) (hfit : nFit rm2 rm maxL mc ms) (hLn : L.length = nL) (hst : (st.map fun v => v.category).sum ≤ 8) (hce : cells + mc ≤ rm.cells) (hsl : slots + ms ≤ rm.slots)
    (k : ∀ (na2 : nA) (h2 : nH), post na2 h2 → WN K na2 h2 (cells + mc) (slots + ms) Q (pc + 3) L st) : WN K na h cells slots Q pc L (a4 :: a3 :: a2 :: a1 :: st) := by
  obtain ⟨p, l, e, R, s, m, args, below, meth, c, G, sz⟩ := K
  obtain ⟨hx, hb, hml, hown, hts, hK, hX, hZ, hsz, hlk, hrt, hRm, hl⟩ := hC
  intro H locs ls hR hS hL
  subst hRm
  have cw9 := n_cn (rm2 := rm2) (R := R) (mc := mc) (ms := ms) 4 hts hd.2.2.1 hd.2.1 (nX.nest hX hq) hd.2.2.2 hfit
  exact va_callv (va_runSN (As := [a1, a2, a3, a4]) (rest := st) ⟨hx, hb, hml, hown, hts⟩ (hM l hl G sz) ⟨cw9, hts _ hd.1, trivial⟩ ⟨fun a U g mk q => ⟨q.1, nU.blind g mk a q.2⟩, fun U hU hW => ⟨rfl, nU.call hR hS hK hX hZ hsz hU hW⟩⟩ rfl rfl (hL.1.trans hLn) rfl (lv_room hst) hdg ⟨hce, hsl⟩) hS (fun q _ h => h) (fun q h => h) (fun u t H1 locs1 ht hvm hp hB hz hk1 hS1 => k u.1 u.2 hp H1 locs1 ls (by rw [← ht]; exact hB.1) hS1 hL)
theorem n_callSN4q (hC : nC K cc nL own ret rm) {a1 a2 a3 a4 : Value}  {rt : FieldType} {post : Option Nat → nA → nH → Prop} (hM : nM y bytes maxL (some rt) rm2 [a1, a2, a3, a4] na h (nQq post) mc ms) (hd : nMs y bytes maxL (some rt) 4) {host : String} (hq : (own, idx, y, host) ∈ nWM) (hdg : decode cc pc = .ok (.invokestatic idx, 3)) (hfit : nFit rm2 rm maxL mc ms) (hLn : L.length = nL) (hst : (st.map fun v => v.category).sum ≤ 8) (hce : cells + mc ≤ rm.cells) (hsl : slots + ms ≤ rm.slots)
    (k : ∀ (r : Option Nat) (na2 : nA) (h2 : nH), post r na2 h2 → WN K na2 h2 (cells + mc) (slots + ms) Q (pc + 3) L (va_rf r :: st)) : WN K na h cells slots Q pc L (a4 :: a3 :: a2 :: a1 :: st) := by
  obtain ⟨p, l, e, R, s, m, args, below, meth, c, G, sz⟩ := K
  obtain ⟨hx, hb, hml, hown, hts, hK, hX, hZ, hsz, hlk, hrt, hRm, hl⟩ := hC
  intro H locs ls hR hS hL
  subst hRm
  have cw9 := n_cn (rm2 := rm2) (R := R) (mc := mc) (ms := ms) 4 hts hd.2.2.1 hd.2.1 (nX.nest hX hq) hd.2.2.2 hfit
  exact va_callq (va_runSN (As := [a1, a2, a3, a4]) (rest := st) ⟨hx, hb, hml, hown, hts⟩ (hM l hl G sz) ⟨cw9, hts _ hd.1, trivial⟩ ⟨fun a U g mk q => ⟨q.1, nU.blind g mk a q.2⟩, fun U hU hW => ⟨rfl, nU.call hR hS hK hX hZ hsz hU hW⟩⟩ rfl rfl (hL.1.trans hLn) rfl (lv_room hst) hdg ⟨hce, hsl⟩) hS (fun q _ h => h) (fun q h => h) (fun r u t H1 locs1 ht hvm hp hB hz hk1 hS1 => k r u.1 u.2 hp H1 locs1 ls (by rw [← ht]; exact hB.1) hS1 hL)
theorem n_callSN5i (hC : nC K cc nL own ret rm) {a1 a2 a3 a4 a5 : Value}  {post : Int32 → nA → nH → Prop} (hM : nM y bytes maxL (some .int) rm2 [a1, a2, a3, a4, a5] na h (nQi post) mc ms) (hd : nMs y bytes maxL (some .int) 5) {host : String} (hq : (own, idx, y, host) ∈ nWM) (hdg : decode cc pc = .ok (.invokestatic idx, 3)) (hfit : nFit rm2 rm maxL mc ms) (hLn : L.length = nL) (hst : (st.map fun v => v.category).sum ≤ 8) (hce : cells + mc ≤ rm.cells) (hsl : slots + ms ≤ rm.slots)
    (k : ∀ (r : Int32) (na2 : nA) (h2 : nH), post r na2 h2 → WN K na2 h2 (cells + mc) (slots + ms) Q (pc + 3) L (.int r :: st)) : WN K na h cells slots Q pc L (a5 :: a4 :: a3 :: a2 :: a1 :: st) := by
  obtain ⟨p, l, e, R, s, m, args, below, meth, c, G, sz⟩ := K
  obtain ⟨hx, hb, hml, hown, hts, hK, hX, hZ, hsz, hlk, hrt, hRm, hl⟩ := hC
  intro H locs ls hR hS hL
  subst hRm
  have cw9 := n_cn (rm2 := rm2) (R := R) (mc := mc) (ms := ms) 5 hts hd.2.2.1 hd.2.1 (nX.nest hX hq) hd.2.2.2 hfit
  exact va_calli (va_runSN (As := [a1, a2, a3, a4, a5]) (rest := st) ⟨hx, hb, hml, hown, hts⟩ (hM l hl G sz) ⟨cw9, hts _ hd.1, trivial⟩ ⟨fun a U g mk q => ⟨q.1, nU.blind g mk a q.2⟩, fun U hU hW => ⟨rfl, nU.call hR hS hK hX hZ hsz hU hW⟩⟩ rfl rfl (hL.1.trans hLn) rfl (lv_room hst) hdg ⟨hce, hsl⟩) hS (fun q _ h => h) (fun q h => h) (fun r u t H1 locs1 ht hvm hp hB hz hk1 hS1 => k r u.1 u.2 hp H1 locs1 ls (by rw [← ht]; exact hB.1) hS1 hL)
theorem n_callSN5z (hC : nC K cc nL own ret rm) {a1 a2 a3 a4 a5 : Value}  {post : Int32 → nA → nH → Prop} (hM : nM y bytes maxL (some .boolean) rm2 [a1, a2, a3, a4, a5] na h (nQi post) mc ms) (hd : nMs y bytes maxL (some .boolean) 5) {host : String} (hq : (own, idx, y, host) ∈ nWM) (hdg : decode cc pc = .ok (.invokestatic idx, 3)) (hfit : nFit rm2 rm maxL mc ms) (hLn : L.length = nL) (hst : (st.map fun v => v.category).sum ≤ 8) (hce : cells + mc ≤ rm.cells) (hsl : slots + ms ≤ rm.slots)
    (k : ∀ (r : Int32) (na2 : nA) (h2 : nH), post r na2 h2 → WN K na2 h2 (cells + mc) (slots + ms) Q (pc + 3) L (.int r :: st)) : WN K na h cells slots Q pc L (a5 :: a4 :: a3 :: a2 :: a1 :: st) := by
  obtain ⟨p, l, e, R, s, m, args, below, meth, c, G, sz⟩ := K
  obtain ⟨hx, hb, hml, hown, hts, hK, hX, hZ, hsz, hlk, hrt, hRm, hl⟩ := hC
  intro H locs ls hR hS hL
  subst hRm
  have cw9 := n_cn (rm2 := rm2) (R := R) (mc := mc) (ms := ms) 5 hts hd.2.2.1 hd.2.1 (nX.nest hX hq) hd.2.2.2 hfit
  exact va_calli (va_runSN (As := [a1, a2, a3, a4, a5]) (rest := st) ⟨hx, hb, hml, hown, hts⟩ (hM l hl G sz) ⟨cw9, hts _ hd.1, trivial⟩ ⟨fun a U g mk q => ⟨q.1, nU.blind g mk a q.2⟩, fun U hU hW => ⟨rfl, nU.call hR hS hK hX hZ hsz hU hW⟩⟩ rfl rfl (hL.1.trans hLn) rfl (lv_room hst) hdg ⟨hce, hsl⟩) hS (fun q _ h => h) (fun q h => h) (fun r u t H1 locs1 ht hvm hp hB hz hk1 hS1 => k r u.1 u.2 hp H1 locs1 ls (by rw [← ht]; exact hB.1) hS1 hL)
theorem n_callSN5v (hC : nC K cc nL own ret rm) {a1 a2 a3 a4 a5 : Value}  {post : nA → nH → Prop} (hM : nM y bytes maxL none rm2 [a1, a2, a3, a4, a5] na h (nQv post) mc ms) (hd : nMs y bytes maxL none 5) {host : String} (hq : (own, idx, y, host) ∈ nWM) (hdg : decode cc pc = .ok (.invokestatic idx, 3)) (hfit : nFit rm2 rm maxL mc ms) (hLn : L.length = nL) (hst : (st.map fun v => v.category).sum ≤ 8) (hce : cells + mc ≤ rm.cells) (hsl : slots + ms ≤ rm.slots)
    (k : ∀ (na2 : nA) (h2 : nH), post na2 h2 → WN K na2 h2 (cells + mc) (slots + ms) Q (pc + 3) L st) : WN K na h cells slots Q pc L (a5 :: a4 :: a3 :: a2 :: a1 :: st) := by
  obtain ⟨p, l, e, R, s, m, args, below, meth, c, G, sz⟩ := K
  obtain ⟨hx, hb, hml, hown, hts, hK, hX, hZ, hsz, hlk, hrt, hRm, hl⟩ := hC
  intro H locs ls hR hS hL
  subst hRm
  have cw9 := n_cn (rm2 := rm2) (R := R) (mc := mc) (ms := ms) 5 hts hd.2.2.1 hd.2.1 (nX.nest hX hq) hd.2.2.2 hfit
  exact va_callv (va_runSN (As := [a1, a2, a3, a4, a5]) (rest := st) ⟨hx, hb, hml, hown, hts⟩ (hM l hl G sz) ⟨cw9, hts _ hd.1, trivial⟩ ⟨fun a U g mk q => ⟨q.1, nU.blind g mk a q.2⟩, fun U hU hW => ⟨rfl, nU.call hR hS hK hX hZ hsz hU hW⟩⟩ rfl rfl (hL.1.trans hLn) rfl (lv_room hst) hdg ⟨hce, hsl⟩) hS (fun q _ h => h) (fun q h => h) (fun u t H1 locs1 ht hvm hp hB hz hk1 hS1 => k u.1 u.2 hp H1 locs1 ls (by rw [← ht]; exact hB.1) hS1 hL)
theorem n_callSN5q (hC : nC K cc nL own ret rm) {a1 a2 a3 a4 a5 : Value}  {rt : FieldType} {post : Option Nat → nA → nH → Prop} (hM : nM y bytes maxL (some rt) rm2 [a1, a2, a3, a4, a5] na h (nQq post) mc ms) (hd : nMs y bytes maxL (some rt) 5) {host : String} (hq : (own, idx, y, host) ∈ nWM) (hdg : decode cc pc = .ok (.invokestatic idx, 3)) (hfit : nFit rm2 rm maxL mc ms) (hLn : L.length = nL) (hst : (st.map fun v => v.category).sum ≤ 8) (hce : cells + mc ≤ rm.cells) (hsl : slots + ms ≤ rm.slots)
    (k : ∀ (r : Option Nat) (na2 : nA) (h2 : nH), post r na2 h2 → WN K na2 h2 (cells + mc) (slots + ms) Q (pc + 3) L (va_rf r :: st)) : WN K na h cells slots Q pc L (a5 :: a4 :: a3 :: a2 :: a1 :: st) := by
  obtain ⟨p, l, e, R, s, m, args, below, meth, c, G, sz⟩ := K
  obtain ⟨hx, hb, hml, hown, hts, hK, hX, hZ, hsz, hlk, hrt, hRm, hl⟩ := hC
  intro H locs ls hR hS hL
  subst hRm
  have cw9 := n_cn (rm2 := rm2) (R := R) (mc := mc) (ms := ms) 5 hts hd.2.2.1 hd.2.1 (nX.nest hX hq) hd.2.2.2 hfit
  exact va_callq (va_runSN (As := [a1, a2, a3, a4, a5]) (rest := st) ⟨hx, hb, hml, hown, hts⟩ (hM l hl G sz) ⟨cw9, hts _ hd.1, trivial⟩ ⟨fun a U g mk q => ⟨q.1, nU.blind g mk a q.2⟩, fun U hU hW => ⟨rfl, nU.call hR hS hK hX hZ hsz hU hW⟩⟩ rfl rfl (hL.1.trans hLn) rfl (lv_room hst) hdg ⟨hce, hsl⟩) hS (fun q _ h => h) (fun q h => h) (fun r u t H1 locs1 ht hvm hp hB hz hk1 hS1 => k r u.1 u.2 hp H1 locs1 ls (by rw [← ht]; exact hB.1) hS1 hL)
theorem n_callIN0v (hC : nC K cc nL own ret rm) {b : Nat}  {post : nA → nH → Prop} (hM : nM y bytes maxL none rm2 [.ref b] na h (nQv post) mc ms) (hd : nMi y bytes maxL 0) {host : String} (hq : (own, idx, y, host) ∈ nWM) (hdg : decode cc pc = .ok (.invokespecial idx, 3)) (hfit : nFit rm2 rm maxL mc ms) (hLn : L.length = nL) (hst : (st.map fun v => v.category).sum ≤ 8) (hce : cells + mc ≤ rm.cells) (hsl : slots + ms ≤ rm.slots)
    (k : ∀ (na2 : nA) (h2 : nH), post na2 h2 → WN K na2 h2 (cells + mc) (slots + ms) Q (pc + 3) L st) : WN K na h cells slots Q pc L (.ref b :: st) := by
  obtain ⟨p, l, e, R, s, m, args, below, meth, c, G, sz⟩ := K
  obtain ⟨hx, hb, hml, hown, hts, hK, hX, hZ, hsz, hlk, hrt, hRm, hl⟩ := hC
  intro H locs ls hR hS hL
  subst hRm
  have cw9 := n_cn (rm2 := rm2) (R := R) (mc := mc) (ms := ms) 0 hts hd.2.2.1 hd.2.1 (nX.nest hX hq) hd.2.2.2.2 hfit
  exact va_callv (va_runIN (As := []) (rest := st) ⟨hx, hb, hml, hown, hts⟩ (hM l hl G sz) ⟨cw9, hd.2.2.2.1, hts _ hd.1⟩ ⟨fun a U g mk q => ⟨q.1, nU.blind g mk a q.2⟩, fun U hU hW => ⟨rfl, nU.call hR hS hK hX hZ hsz hU hW⟩⟩ rfl rfl (hL.1.trans hLn) rfl (lv_room hst) hdg ⟨hce, hsl⟩) hS (fun q _ h => h) (fun q h => h) (fun u t H1 locs1 ht hvm hp hB hz hk1 hS1 => k u.1 u.2 hp H1 locs1 ls (by rw [← ht]; exact hB.1) hS1 hL)
theorem n_callIN1v (hC : nC K cc nL own ret rm) {b : Nat} {a1 : Value}  {post : nA → nH → Prop} (hM : nM y bytes maxL none rm2 [.ref b, a1] na h (nQv post) mc ms) (hd : nMi y bytes maxL 1) {host : String} (hq : (own, idx, y, host) ∈ nWM) (hdg : decode cc pc = .ok (.invokespecial idx, 3)) (hfit : nFit rm2 rm maxL mc ms) (hLn : L.length = nL) (hst : (st.map fun v => v.category).sum ≤ 8) (hce : cells + mc ≤ rm.cells) (hsl : slots + ms ≤ rm.slots)
    (k : ∀ (na2 : nA) (h2 : nH), post na2 h2 → WN K na2 h2 (cells + mc) (slots + ms) Q (pc + 3) L st) : WN K na h cells slots Q pc L (a1 :: .ref b :: st) := by
  obtain ⟨p, l, e, R, s, m, args, below, meth, c, G, sz⟩ := K
  obtain ⟨hx, hb, hml, hown, hts, hK, hX, hZ, hsz, hlk, hrt, hRm, hl⟩ := hC
  intro H locs ls hR hS hL
  subst hRm
  have cw9 := n_cn (rm2 := rm2) (R := R) (mc := mc) (ms := ms) 1 hts hd.2.2.1 hd.2.1 (nX.nest hX hq) hd.2.2.2.2 hfit
  exact va_callv (va_runIN (As := [a1]) (rest := st) ⟨hx, hb, hml, hown, hts⟩ (hM l hl G sz) ⟨cw9, hd.2.2.2.1, hts _ hd.1⟩ ⟨fun a U g mk q => ⟨q.1, nU.blind g mk a q.2⟩, fun U hU hW => ⟨rfl, nU.call hR hS hK hX hZ hsz hU hW⟩⟩ rfl rfl (hL.1.trans hLn) rfl (lv_room hst) hdg ⟨hce, hsl⟩) hS (fun q _ h => h) (fun q h => h) (fun u t H1 locs1 ht hvm hp hB hz hk1 hS1 => k u.1 u.2 hp H1 locs1 ls (by rw [← ht]; exact hB.1) hS1 hL)
theorem n_callIN2v (hC : nC K cc nL own ret rm) {b : Nat} {a1 a2 : Value}  {post : nA → nH → Prop} (hM : nM y bytes maxL none rm2 [.ref b, a1, a2] na h (nQv post) mc ms) (hd : nMi y bytes maxL 2) {host : String} (hq : (own, idx, y, host) ∈ nWM) (hdg : decode cc pc = .ok (.invokespecial idx, 3)) (hfit : nFit rm2 rm maxL mc ms) (hLn : L.length = nL) (hst : (st.map fun v => v.category).sum ≤ 8) (hce : cells + mc ≤ rm.cells) (hsl : slots + ms ≤ rm.slots)
    (k : ∀ (na2 : nA) (h2 : nH), post na2 h2 → WN K na2 h2 (cells + mc) (slots + ms) Q (pc + 3) L st) : WN K na h cells slots Q pc L (a2 :: a1 :: .ref b :: st) := by
  obtain ⟨p, l, e, R, s, m, args, below, meth, c, G, sz⟩ := K
  obtain ⟨hx, hb, hml, hown, hts, hK, hX, hZ, hsz, hlk, hrt, hRm, hl⟩ := hC
  intro H locs ls hR hS hL
  subst hRm
  have cw9 := n_cn (rm2 := rm2) (R := R) (mc := mc) (ms := ms) 2 hts hd.2.2.1 hd.2.1 (nX.nest hX hq) hd.2.2.2.2 hfit
  exact va_callv (va_runIN (As := [a1, a2]) (rest := st) ⟨hx, hb, hml, hown, hts⟩ (hM l hl G sz) ⟨cw9, hd.2.2.2.1, hts _ hd.1⟩ ⟨fun a U g mk q => ⟨q.1, nU.blind g mk a q.2⟩, fun U hU hW => ⟨rfl, nU.call hR hS hK hX hZ hsz hU hW⟩⟩ rfl rfl (hL.1.trans hLn) rfl (lv_room hst) hdg ⟨hce, hsl⟩) hS (fun q _ h => h) (fun q h => h) (fun u t H1 locs1 ht hvm hp hB hz hk1 hS1 => k u.1 u.2 hp H1 locs1 ls (by rw [← ht]; exact hB.1) hS1 hL)
theorem n_callIN3v (hC : nC K cc nL own ret rm) {b : Nat} {a1 a2 a3 : Value}  {post : nA → nH → Prop} (hM : nM y bytes maxL none rm2 [.ref b, a1, a2, a3] na h (nQv post) mc ms) (hd : nMi y bytes maxL 3) {host : String} (hq : (own, idx, y, host) ∈ nWM) (hdg : decode cc pc = .ok (.invokespecial idx, 3)) (hfit : nFit rm2 rm maxL mc ms) (hLn : L.length = nL) (hst : (st.map fun v => v.category).sum ≤ 8) (hce : cells + mc ≤ rm.cells) (hsl : slots + ms ≤ rm.slots)
    (k : ∀ (na2 : nA) (h2 : nH), post na2 h2 → WN K na2 h2 (cells + mc) (slots + ms) Q (pc + 3) L st) : WN K na h cells slots Q pc L (a3 :: a2 :: a1 :: .ref b :: st) := by
  obtain ⟨p, l, e, R, s, m, args, below, meth, c, G, sz⟩ := K
  obtain ⟨hx, hb, hml, hown, hts, hK, hX, hZ, hsz, hlk, hrt, hRm, hl⟩ := hC
  intro H locs ls hR hS hL
  subst hRm
  have cw9 := n_cn (rm2 := rm2) (R := R) (mc := mc) (ms := ms) 3 hts hd.2.2.1 hd.2.1 (nX.nest hX hq) hd.2.2.2.2 hfit
  exact va_callv (va_runIN (As := [a1, a2, a3]) (rest := st) ⟨hx, hb, hml, hown, hts⟩ (hM l hl G sz) ⟨cw9, hd.2.2.2.1, hts _ hd.1⟩ ⟨fun a U g mk q => ⟨q.1, nU.blind g mk a q.2⟩, fun U hU hW => ⟨rfl, nU.call hR hS hK hX hZ hsz hU hW⟩⟩ rfl rfl (hL.1.trans hLn) rfl (lv_room hst) hdg ⟨hce, hsl⟩) hS (fun q _ h => h) (fun q h => h) (fun u t H1 locs1 ht hvm hp hB hz hk1 hS1 => k u.1 u.2 hp H1 locs1 ls (by rw [← ht]; exact hB.1) hS1 hL)
theorem n_callIN4v (hC : nC K cc nL own ret rm) {b : Nat} {a1 a2 a3 a4 : Value}  {post : nA → nH → Prop} (hM : nM y bytes maxL none rm2 [.ref b, a1, a2, a3, a4] na h (nQv post) mc ms) (hd : nMi y bytes maxL 4) {host : String} (hq : (own, idx, y, host) ∈ nWM) (hdg : decode cc pc = .ok (.invokespecial idx, 3)) (hfit : nFit rm2 rm maxL mc ms) (hLn : L.length = nL) (hst : (st.map fun v => v.category).sum ≤ 8) (hce : cells + mc ≤ rm.cells) (hsl : slots + ms ≤ rm.slots)
    (k : ∀ (na2 : nA) (h2 : nH), post na2 h2 → WN K na2 h2 (cells + mc) (slots + ms) Q (pc + 3) L st) : WN K na h cells slots Q pc L (a4 :: a3 :: a2 :: a1 :: .ref b :: st) := by
  obtain ⟨p, l, e, R, s, m, args, below, meth, c, G, sz⟩ := K
  obtain ⟨hx, hb, hml, hown, hts, hK, hX, hZ, hsz, hlk, hrt, hRm, hl⟩ := hC
  intro H locs ls hR hS hL
  subst hRm
  have cw9 := n_cn (rm2 := rm2) (R := R) (mc := mc) (ms := ms) 4 hts hd.2.2.1 hd.2.1 (nX.nest hX hq) hd.2.2.2.2 hfit
  exact va_callv (va_runIN (As := [a1, a2, a3, a4]) (rest := st) ⟨hx, hb, hml, hown, hts⟩ (hM l hl G sz) ⟨cw9, hd.2.2.2.1, hts _ hd.1⟩ ⟨fun a U g mk q => ⟨q.1, nU.blind g mk a q.2⟩, fun U hU hW => ⟨rfl, nU.call hR hS hK hX hZ hsz hU hW⟩⟩ rfl rfl (hL.1.trans hLn) rfl (lv_room hst) hdg ⟨hce, hsl⟩) hS (fun q _ h => h) (fun q h => h) (fun u t H1 locs1 ht hvm hp hB hz hk1 hS1 => k u.1 u.2 hp H1 locs1 ls (by rw [← ht]; exact hB.1) hS1 hL)
end NCALL
