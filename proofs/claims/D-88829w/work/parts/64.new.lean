/-! ===== NEW BLOCKS in the class's world ===== -/
set_option maxRecDepth 100000
theorem x_newX {na : nA} {h : nH} {C : nMem} {B : Nat → nMem} {P : Nat → Nat × Nat} {I : Nat → Nat} {c : Nat × Nat} {R : nMem} (hc : c.1 ≠ 0 ∧ c.1 < 6) : gPut (shOf c) (bB (I 200)) na (xPut na h (C, B, P, I)) R = xPut na h (C, bset B (I 200) R, pset P (I 200) c, iset I 200 (I 200 + 1)) := x_new (X := (C, B, P, I)) hc
section NEWB
variable {K : nK} {na : nA} {h : nH} {C : nMem} {B : Nat → nMem} {P : Nat → Nat × Nat} {I : Nat → Nat} {cells slots : Nat} {Q : State → Prop} {cc : ByteArray} {nL pc index : Nat} {own Cn : String} {T : u_T} {ty0 : Nat → FieldType} {ret : Option FieldType} {rm : Room} {L : List (Option Value)} {st : List Value}
theorem x_newB (hC : nC K cc nL own ret rm) {c : Nat × Nat} {k0 : Nat} (gw : gW (shOf c) Cn T ty0) (hk : ∀ j, j < k0 → (shOf c).2.2.1 j = 0) (hk4 : k0 ≤ 4) (h1 : Cond.classLink own index Cn ∈ lw_all) (h2 : Cond.instantiable Cn (shOf c).2.1 ∈ lw_all) (h3 : Cond.initialized Cn ∈ lw_all) (hdg : decode cc pc = .ok (.new index, 3)) (hw : xWf (C, B, P, I)) (hfs : ∀ j, j < (shOf c).2.1 → defaultValue (ty0 j) = if (shOf c).2.2.1 j = 0 then .int 0 else .null) (hce : cells + 1 ≤ rm.cells) (hsl : slots + (shOf c).2.1 ≤ rm.slots)
    (kt : ∀ na1 : nA, (∀ x, x ≠ bB (I 200) + 9 → na1 x = na x) → WN K na1 (gK (shOf c) (bB (I 200)) na1 (xPut na1 h (C, B, P, I)) (fun _ _ => 0) k0) (cells + 1) (slots + (shOf c).2.1) Q (pc + 3) L (.ref (na1 (bB (I 200) + 9)) :: st)) : WN K na (xPut na h (C, B, P, I)) cells slots Q pc L st := by
  refine n_new hC (fs := gKfs (shOf c) (bB (I 200)) na (fun _ _ => 0) k0) gw.2.1 ty0 gw.2.2.2.1 h1 h2 h3 hdg (bB (I 200) + 9) (x_none (X := (C, B, P, I)) hw (by decide)) gw.1 (fun j hj => ?_) hce hsl (fun q => ?_)
  · rw [hfs j hj]
    have e := gKfs_at (sh := shOf c) (b := bB (I 200)) (na := na) (R := fun _ _ => 0) (k := k0) hj
    unfold vp_V
    by_cases z : (shOf c).2.2.1 j = 0
    · rw [if_pos z] at e ⊢
      simp [e]
    · have hjk : ¬ j < k0 := fun w => z (hk j w)
      rw [if_neg z, if_neg hjk] at e
      rw [if_neg z]
      simp [e]
  · have ho : ∀ x, x ≠ bB (I 200) + 9 → nua na (bB (I 200) + 9) q x = na x := fun x hx => nua_n hx
    have e1 : xPut na h (C, B, P, I) = xPut (nua na (bB (I 200) + 9) q) h (C, B, P, I) := x_fresh hw fun k _ hk2 => (ho k (by intro z; have hk3 : k < bB (I 200) := hk2; omega)).symm
    have e2 : gKfs (shOf c) (bB (I 200)) na (fun _ _ => 0) k0 = gKfs (shOf c) (bB (I 200)) (nua na (bB (I 200) + 9) q) (fun _ _ => 0) k0 := List.map_congr_left fun j hj => by
      by_cases z : (shOf c).2.2.1 j = 0
      · rw [if_pos z, if_pos z]
      · rw [if_neg z, if_neg z, if_neg (fun w => z (hk j w)), if_neg (fun w => z (hk j w))]
    have e3 := gK_0 (sh := shOf c) (b := bB (I 200)) (na := nua na (bB (I 200) + 9) q) (h := xPut (nua na (bB (I 200) + 9) q) h (C, B, P, I)) (k := k0) hk hk4 (fun j hj w => by have := w.2; omega) (fun i hi _ => x_none (X := (C, B, P, I)) hw hi)
    have e4 := kt _ ho
    rw [← e3, ← e2, ← e1, nua_s] at e4
    exact e4
end NEWB
/-- what of the relation speaks of blocks, but for the rounds -/
def xB4 (C : nMem) (B : Nat → nMem) (P : Nat → Nat × Nat) (I : Nat → Nat) (M : nMem) : Prop := xWf (C, B, P, I) ∧ xgFi C B P I M ∧ xgTr B P M ∧ xgTp B P I M ∧ xgOr B P I
theorem xB4.new {C : nMem} {B : Nat → nMem} {P : Nat → Nat × Nat} {I : Nat → Nat} {M R : nMem} {c : Nat × Nat} (h : xB4 C B P I M) : xB4 C (bset B (I 200) R) (pset P (I 200) c) (iset I 200 (I 200 + 1)) M := by
  obtain ⟨hw, gFi, gTr, gTp, gOr⟩ := h
  have hw2 : xWf (C, bset B (I 200) R, pset P (I 200) c, iset I 200 (I 200 + 1)) := xNew_wf (X := (C, B, P, I)) hw
  obtain ⟨w0, wP, wI⟩ := hw
  have w0 : 0 < I 200 := w0
  have wI : ∀ j, j < 200 → I j < I 200 := wI
  refine ⟨hw2, ⟨gFi.1, fun f hf => ?_⟩, ⟨?_, ?_⟩, fun t ht => ?_, ?_⟩
  · obtain ⟨a1, a2, a3⟩ := gFi.2 f hf
    by_cases f9 : f < 100
    · have := wI (100 + f) (by omega)
      rw [iset_n (by omega), pset_n (by omega), bset_n (by omega)]
      exact ⟨a1, a2, a3⟩
    · by_cases f10 : f = 100
      · exfalso
        rw [f10] at a2
        have : P (I 200) = (0, 0) := wP _ (Nat.le_refl _)
        rw [this] at a2
        exact absurd a2 (by decide)
      · rw [iset_n (by omega)]
        have hne : I (100 + f) ≠ I 200 := fun z => by
          rw [z, show P (I 200) = (0, 0) from wP _ (Nat.le_refl _)] at a2
          exact absurd a2 (by decide)
        rw [pset_n hne, bset_n hne]
        exact ⟨a1, a2, a3⟩
  · rw [pset_n (by omega)]; exact gTr.1
  · rw [bset_n (by omega)]; exact gTr.2
  · have h9 : ∀ u, u < 6 → iset I 200 (I 200 + 1) (120 + u) = I (120 + u) ∧ I (120 + u) < I 200 := fun u hu => ⟨iset_n (by omega), wI _ (by omega)⟩
    rw [(h9 t ht).1]
    have := (h9 t ht).2
    refine ⟨(gTp t ht).1, fun k hk e => ?_⟩
    obtain ⟨a1, a2, a3, a4, a5⟩ := (gTp t ht).2 k hk e
    rw [pset_n (by omega), bset_n (by omega)]
    exact ⟨a1, a2, a3, fun u hu hne => by rw [(h9 u hu).1]; exact a4 u hu hne, a5⟩
  · have := wI 26 (by decide)
    unfold xgOr
    rw [iset_n (by decide)]
    rcases gOr with z | ⟨n, a1, a2, a3, a4⟩
    · exact Or.inl z
    · refine Or.inr ⟨n, a1, a2, ?_, ?_⟩
      · rw [pset_n (by omega)]; exact a3
      · rw [bset_n (by omega)]; exact a4
/-- an index below 100, but that of the orders, changed -/
theorem xB4.idx {C : nMem} {B : Nat → nMem} {P : Nat → Nat × Nat} {I : Nat → Nat} {M : nMem} {j i : Nat} (h : xB4 C B P I M) (hj : j < 100) (hj2 : j ≠ 26) (hi : i < I 200) : xB4 C B P (iset I j i) M := by
  obtain ⟨hw, gFi, gTr, gTp, gOr⟩ := h
  have e : ∀ k, 100 ≤ k → iset I j i k = I k := fun k hk => iset_n (by omega)
  refine ⟨⟨?_, ?_, fun k hk => ?_⟩, ⟨gFi.1, fun f hf => ?_⟩, gTr, fun t ht => ?_, ?_⟩
  · show 0 < iset I j i 200
    rw [e _ (by decide)]; exact hw.1
  · show ∀ k, iset I j i 200 ≤ k → P k = (0, 0)
    rw [e _ (by decide)]; exact hw.2.1
  · show iset I j i k < iset I j i 200
    rw [e 200 (by decide)]
    by_cases q : k = j
    · rw [q, iset_s]; exact hi
    · rw [iset_n q]; exact hw.2.2 k hk
  · rw [e _ (by omega)]; exact gFi.2 f hf
  · rw [e _ (by omega)]
    refine ⟨(gTp t ht).1, fun k hk w => ?_⟩
    obtain ⟨a1, a2, a3, a4, a5⟩ := (gTp t ht).2 k hk w
    exact ⟨a1, a2, a3, fun u hu hne => by rw [e _ (by omega)]; exact a4 u hu hne, a5⟩
  · unfold xgOr
    rw [iset_n (fun z => hj2 z.symm)]
    exact gOr
theorem xB4.c {C C2 : nMem} {B : Nat → nMem} {P : Nat → Nat × Nat} {I : Nat → Nat} {M : nMem} (h : xB4 C B P I M) (e : C2 14 = C 14) : xB4 C2 B P I M := ⟨h.1, by unfold xgFi; rw [e]; exact h.2.1, h.2.2.1, h.2.2.2.1, h.2.2.2.2⟩
