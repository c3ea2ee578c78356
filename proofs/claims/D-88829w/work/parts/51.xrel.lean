/-! ===== THE RELATION of the class's state (C, B, P, I) and the reference's memory M ===== -/
set_option maxRecDepth 100000
def xgPe (C M : nMem) : Prop := C 1 0 = M 0 0 ∧ (∀ p, p < mN M 0 → C 30 p = nI (4 + mA M 2 p) ∧ C 31 p = M 3 p ∧ C 32 p = M 4 p ∧ C 33 p ≠ 0) ∧ ∀ p, mN M 0 ≤ p → C 30 p = 0 ∧ C 33 p = 0
def xgRi (C M : nMem) : Prop := C 2 0 = M 1 0 ∧ (∀ p, p < mN M 1 → C 3 p = M 5 p) ∧ C 6 0 = M 11 0 ∧ (mB M 11 = false → ∀ p, p < mN M 1 → C 4 p = M 7 p ∧ C 5 p = M 8 p)
def xgCl (C M : nMem) : Prop := (mB M 11 = true ∨ mN M 15 ≠ 0 → ∀ p, p < mN M 1 → C 9 p = M 10 p) ∧ (mB M 11 = true → ∀ p, p < mN M 1 → C 10 p = M 9 p ∧ M 7 p = M 10 p)
def xgSt (C M : nMem) : Prop := C 12 0 = M 14 0 ∧ ∀ i, i < mN M 14 → C 11 i = M 16 i
def xgTh (C M : nMem) : Prop := C 23 0 = M 20 0 ∧ ∀ k, k < mN M 20 → C 20 k = M 21 k ∧ C 21 k = M 22 k ∧ C 22 k = M 23 k
def xgFi (C : nMem) (B : Nat → nMem) (P : Nat → Nat × Nat) (I : Nat → Nat) (M : nMem) : Prop := C 14 0 = M 26 0 ∧ ∀ f, f < mN M 26 → I (100 + f) ≠ 0 ∧ P (I (100 + f)) = (3, 0) ∧ fgR (B (I (100 + f))) (mFs M f) false
def xgTx (C M : nMem) : Prop := C 16 0 = M 27 0 ∧ ∀ i, i < mN M 27 → C 15 i = M 30 i
def xgTr (B : Nat → nMem) (P : Nat → Nat × Nat) (M : nMem) : Prop := P 0 = (1, 0) ∧ B 0 1 0 = M 55 0 ∧ ∀ i, i < 20 → i < mN M 55 → B 0 0 i = M 56 i
def xgTp (B : Nat → nMem) (P : Nat → Nat × Nat) (I : Nat → Nat) (M : nMem) : Prop := ∀ t, t < 6 → (M 57 t = -1 → I (120 + t) = 0) ∧ ∀ c, c ≤ 4 → M 57 t = nI c →
  I (120 + t) ≠ 0 ∧ P (I (120 + t)) = (6 + c, mA M 58 t) ∧ (∀ i, i < mA M 58 t → B (I (120 + t)) 0 i = M 59 (60 * t + i)) ∧ (∀ u, u < 6 → u ≠ t → I (120 + u) ≠ I (120 + t)) ∧ (c = 3 → ∀ i, i < mA M 58 t → M 59 (60 * t + i) = 0 ∨ M 59 (60 * t + i) = 1)
def rdRel (R M : nMem) : Prop := R 0 0 = nI (mN M 1) ∧ R 6 0 = nI (mN M 15) ∧ (∀ r p, r < mN M 15 → p < mN M 1 → R (20 + r) p = M 18 (9 * r + p) ∧ R (120 + r) p = M 19 (9 * r + p)) ∧ (mB M 11 = true → R 7 0 = nI (mN M 14) ∧ ∀ p, p < mN M 1 → R 1 p = M 6 p ∧ R 2 p = M 8 p ∧ R 3 p = M 17 p)
def xgRd (B : Nat → nMem) (P : Nat → Nat × Nat) (I : Nat → Nat) (M : nMem) : Prop := (mN M 1 = 0 → I 7 = 0 ∧ I 8 = 0) ∧ (mN M 1 ≠ 0 → I 7 ≠ 0 ∧ I 8 ≠ 0 ∧ I 7 ≠ I 8 ∧ P (I 7) = (2, 0) ∧ P (I 8) = (2, 0) ∧ rdRel (B (I 7)) M ∧ B (I 8) 0 0 = nI (mN M 1))
def xgOr (B : Nat → nMem) (P : Nat → Nat × Nat) (I : Nat → Nat) : Prop := I 26 = 0 ∨ ∃ n, 1 ≤ n ∧ n ≤ 7 ∧ P (I 26) = (5, n) ∧ B (I 26) 0 0 = nI n
def xRel (X : xX) (M : nMem) : Prop := xWf X ∧ xgPe X.1 M ∧ xgRi X.1 M ∧ xgCl X.1 M ∧ xgSt X.1 M ∧ xgTh X.1 M ∧ xgFi X.1 X.2.1 X.2.2.1 X.2.2.2 M ∧ xgTx X.1 M ∧ xgTr X.2.1 X.2.2.1 M ∧ xgTp X.2.1 X.2.2.1 X.2.2.2 M ∧ xgRd X.2.1 X.2.2.1 X.2.2.2 M ∧ xgOr X.2.1 X.2.2.1 X.2.2.2
/-- a call of the class that answers and leaves what o says of the reference -/
def xOp (na : nA) (h : nH) (o : Int32 × nMem) : Int32 → nA → nH → Prop := fun r na' h' => o.1 = r ∧ (∀ k, k < 131 → na' k = na k) ∧ ∃ X, xPut na' h X = h' ∧ xRel X o.2
theorem xOp.mk {na : nA} {h : nH} {o : Int32 × nMem} {r : Int32} {M2 : nMem} {X : xX} (e : o = (r, M2)) (hR : xRel X M2) : xOp na h o r na (xPut na h X) := ⟨by rw [e], fun _ _ => rfl, X, rfl, by rw [e]; exact hR⟩
theorem xOp.mkn {na na' : nA} {h : nH} {o : Int32 × nMem} {r : Int32} {M2 : nMem} {X : xX} (e : o = (r, M2)) (hn : ∀ k, k < 131 → na' k = na k) (hR : xRel X M2) : xOp na h o r na' (xPut na' h X) := ⟨by rw [e], hn, X, rfl, by rw [e]; exact hR⟩
/-- what a block holds when another block than all that matter is changed -/
theorem upd_s (f : Nat → Int32) (i : Nat) (v : Int32) : upd f i v i = v := by unfold upd; rw [if_pos rfl]
theorem upd_n {f : Nat → Int32} {i j : Nat} {v : Int32} (h : j ≠ i) : upd f i v j = f j := by unfold upd; rw [if_neg h]
theorem xgFi.bs {C : nMem} {B : Nat → nMem} {P : Nat → Nat × Nat} {I : Nat → Nat} {M R : nMem} {i : Nat} (h : xgFi C B P I M) (hi : P i ≠ (3, 0)) : xgFi C (bset B i R) P I M :=
  ⟨h.1, fun f hf => ⟨(h.2 f hf).1, (h.2 f hf).2.1, by rw [bset_n (fun z => hi (by rw [← z]; exact (h.2 f hf).2.1))]; exact (h.2 f hf).2.2⟩⟩
theorem xgTr.bs {B : Nat → nMem} {P : Nat → Nat × Nat} {M R : nMem} {i : Nat} (h : xgTr B P M) (hi : P i ≠ (1, 0)) : xgTr (bset B i R) P M := by
  have e : (0 : Nat) ≠ i := fun z => hi (by rw [← z]; exact h.1)
  refine ⟨h.1, ?_⟩
  rw [bset_n e]
  exact h.2
theorem xgTp.bs {B : Nat → nMem} {P : Nat → Nat × Nat} {I : Nat → Nat} {M R : nMem} {i : Nat} (h : xgTp B P I M) (hi : (P i).1 < 6) : xgTp (bset B i R) P I M := fun t ht => ⟨(h t ht).1, fun c hc e => by
  obtain ⟨a1, a2, a3, a4, a5⟩ := (h t ht).2 c hc e
  refine ⟨a1, a2, ?_, a4, a5⟩
  rw [bset_n (fun z => by rw [← z, a2] at hi; dsimp only at hi; omega)]
  exact a3⟩
theorem xgOr.bs {B : Nat → nMem} {P : Nat → Nat × Nat} {I : Nat → Nat} {R : nMem} {i : Nat} (h : xgOr B P I) (hi : (P i).1 ≠ 5) : xgOr (bset B i R) P I := by
  rcases h with a | ⟨n, a1, a2, a3, a4⟩
  · exact Or.inl a
  · refine Or.inr ⟨n, a1, a2, a3, ?_⟩
    rw [bset_n (fun z => hi (by rw [← z, a3]))]
    exact a4
theorem xgRd.bs {B : Nat → nMem} {P : Nat → Nat × Nat} {I : Nat → Nat} {M R : nMem} {i : Nat} (h : xgRd B P I M) (hi : (P i).1 ≠ 2) : xgRd (bset B i R) P I M := ⟨h.1, fun hn => by
  obtain ⟨a1, a2, a3, a4, a5, a6, a7⟩ := h.2 hn
  refine ⟨a1, a2, a3, a4, a5, ?_, ?_⟩
  · rw [bset_n (fun z => hi (by rw [← z, a4]))]; exact a6
  · rw [bset_n (fun z => hi (by rw [← z, a5]))]; exact a7⟩
/-- the round at hand changed -/
theorem xRel.round {C : nMem} {B : Nat → nMem} {P : Nat → Nat × Nat} {I : Nat → Nat} {M M2 R : nMem} (hw : xWf (C, B, P, I)) (gRd : xgRd B P I M) (gOr : xgOr B P I) (hn : mN M 1 ≠ 0) (hFi : xgFi C B P I M2) (hTr : xgTr B P M2) (hTp : xgTp B P I M2) (hPe : xgPe C M2) (hRi : xgRi C M2) (hCl : xgCl C M2) (hSt : xgSt C M2) (hTh : xgTh C M2) (hTx : xgTx C M2) (h1 : mN M2 1 = mN M 1) (hR : rdRel R M2) : xRel (C, bset B (I 7) R, P, I) M2 := by
  obtain ⟨a1, a2, a3, a4, a5, a6, a7⟩ := gRd.2 hn
  refine ⟨hw, hPe, hRi, hCl, hSt, hTh, hFi.bs (by rw [a4]; decide), hTx, hTr.bs (by rw [a4]; decide), hTp.bs (by rw [a4]; decide), ⟨fun z => absurd (h1.symm.trans z) hn, fun _ => ⟨a1, a2, a3, a4, a5, ?_, ?_⟩⟩, gOr.bs (by rw [a4]; decide)⟩
  · dsimp only
    rw [bset_s]; exact hR
  · dsimp only
    rw [bset_n (Ne.symm a3), h1]; exact a7
/-! groups along frames of C -/
theorem xgPe.c {C C2 M : nMem} {S : List Nat} (h : xgPe C M) (hF : mFr S C C2) (hS : 1 ∉ S ∧ 30 ∉ S ∧ 31 ∉ S ∧ 32 ∉ S ∧ 33 ∉ S) : xgPe C2 M := by
  unfold xgPe
  rw [hF 1 hS.1, hF 30 hS.2.1, hF 31 hS.2.2.1, hF 32 hS.2.2.2.1, hF 33 hS.2.2.2.2]
  exact h
theorem xgRi.c {C C2 M : nMem} {S : List Nat} (h : xgRi C M) (hF : mFr S C C2) (hS : 2 ∉ S ∧ 3 ∉ S ∧ 6 ∉ S ∧ 4 ∉ S ∧ 5 ∉ S) : xgRi C2 M := by
  unfold xgRi
  rw [hF 2 hS.1, hF 3 hS.2.1, hF 6 hS.2.2.1, hF 4 hS.2.2.2.1, hF 5 hS.2.2.2.2]
  exact h
theorem xgCl.c {C C2 M : nMem} {S : List Nat} (h : xgCl C M) (hF : mFr S C C2) (hS : 9 ∉ S ∧ 10 ∉ S) : xgCl C2 M := by
  unfold xgCl
  rw [hF 9 hS.1, hF 10 hS.2]
  exact h
theorem xgSt.c {C C2 M : nMem} {S : List Nat} (h : xgSt C M) (hF : mFr S C C2) (hS : 12 ∉ S ∧ 11 ∉ S) : xgSt C2 M := by
  unfold xgSt
  rw [hF 12 hS.1, hF 11 hS.2]
  exact h
theorem xgTh.c {C C2 M : nMem} {S : List Nat} (h : xgTh C M) (hF : mFr S C C2) (hS : 23 ∉ S ∧ 20 ∉ S ∧ 21 ∉ S ∧ 22 ∉ S) : xgTh C2 M := by
  unfold xgTh
  rw [hF 23 hS.1, hF 20 hS.2.1, hF 21 hS.2.2.1, hF 22 hS.2.2.2]
  exact h
theorem xgFi.c {C C2 M : nMem} {B : Nat → nMem} {P : Nat → Nat × Nat} {I : Nat → Nat} {S : List Nat} (h : xgFi C B P I M) (hF : mFr S C C2) (hS : 14 ∉ S) : xgFi C2 B P I M := by
  unfold xgFi
  rw [hF 14 hS]
  exact h
theorem xgTx.c {C C2 M : nMem} {S : List Nat} (h : xgTx C M) (hF : mFr S C C2) (hS : 16 ∉ S ∧ 15 ∉ S) : xgTx C2 M := by
  unfold xgTx
  rw [hF 16 hS.1, hF 15 hS.2]
  exact h
theorem xRel.c {C C2 M : nMem} {B : Nat → nMem} {P : Nat → Nat × Nat} {I : Nat → Nat} {S : List Nat} (h : xRel (C, B, P, I) M) (hF : mFr S C C2) (hS : ∀ k ∈ S, k ∈ [19, 24, 25, 27, 28, 29]) : xRel (C2, B, P, I) M := by
  obtain ⟨hw, gPe, gRi, gCl, gSt, gTh, gFi, gTx, gTr, gTp, gRd, gOr⟩ := h
  have n : ∀ k, k ∉ [19, 24, 25, 27, 28, 29] → k ∉ S := fun k a b => a (hS k b)
  exact ⟨hw, gPe.c hF ⟨n _ (by decide), n _ (by decide), n _ (by decide), n _ (by decide), n _ (by decide)⟩, gRi.c hF ⟨n _ (by decide), n _ (by decide), n _ (by decide), n _ (by decide), n _ (by decide)⟩, gCl.c hF ⟨n _ (by decide), n _ (by decide)⟩, gSt.c hF ⟨n _ (by decide), n _ (by decide)⟩,
    gTh.c hF ⟨n _ (by decide), n _ (by decide), n _ (by decide), n _ (by decide)⟩, gFi.c hF (n _ (by decide)), gTx.c hF ⟨n _ (by decide), n _ (by decide)⟩, gTr, gTp, gRd, gOr⟩
theorem upd_in {f g : Nat → Int32} {n k : Nat} {v : Int32} (h : ∀ x, x < n → f x = g x) (hk : k < n + 1) : upd f n v k = upd g n v k := by
  by_cases e : k = n
  · rw [e, upd_s, upd_s]
  · rw [upd_n e, upd_n e, h k (by omega)]
theorem blk_cg {f g w : Nat → Int32} {m z i : Nat} (h : ∀ x, x < m → f x = g x) (hi : i < m + z) : blk f m z w i = blk g m z w i := by
  by_cases e : m ≤ i
  · have e9 : i = m + (i - m) := by omega
    rw [e9, blk_in (by omega), blk_in (by omega)]
  · rw [blk_out (by omega), blk_out (by omega), h i (by omega)]
theorem xr_fig {C M : nMem} {B : Nat → nMem} {P : Nat → Nat × Nat} {I : Nat → Nat} (h : xgFi C B P I M) {f : Nat} (hf : f < mN M 26) : I (100 + f) ≠ 0 ∧ P (I (100 + f)) = (3, 0) ∧ B (I (100 + f)) 1 0 = nI (mA M 28 f) ∧ B (I (100 + f)) 2 0 = nbo false ∧ ∀ k, k < mA M 28 f → B (I (100 + f)) 0 k = nI (mA M 29 (300 * f + k)) := by
  obtain ⟨a1, a2, a3, a4, a5, a6⟩ := h.2 f hf
  rw [mFs_len] at a3
  refine ⟨a1, a2, a3, a5, fun k hk => ?_⟩
  rw [a6 k (by rw [mFs_len]; exact hk), mFs_get hk]
/-- memories of the reference that answers can't tell apart -/
theorem xRel.mEq {X : xX} {M M2 : nMem} (h : xRel X M) (b26 : mN M 26 ≤ 10) (e : mEq M M2) : xRel X M2 := by
  obtain ⟨hw, gPe, gRi, gCl, gSt, gTh, gFi, gTx, gTr, gTp, gRd, gOr⟩ := h
  obtain ⟨ea, es, e28, e29⟩ := e
  have n : ∀ k, k ∉ mScr → mN M2 k = mN M k := fun k hk => by unfold mN; rw [es k hk]
  have b : mB M2 11 = mB M 11 := by unfold mB; rw [es 11 (by decide)]
  have a : ∀ k, k ∉ mScr → k ≠ 28 → k ≠ 29 → mIsA k = true → M2 k = M k := fun k h1 h2 h3 h4 => (ea k h1 h2 h3 h4).symm
  have s : ∀ k, k ∉ mScr → M2 k 0 = M k 0 := fun k hk => (es k hk).symm
  have A : ∀ k i, k ∉ mScr → k ≠ 28 → k ≠ 29 → mIsA k = true → mA M2 k i = mA M k i := fun k i h1 h2 h3 h4 => by unfold mA; rw [a k h1 h2 h3 h4]
  refine ⟨hw, ?_, ?_, ?_, ?_, ?_, ?_, ?_, ?_, ?_, ?_, gOr⟩
  · unfold xgPe
    rw [n 0 (by decide), s 0 (by decide), a 3 (by decide) (by decide) (by decide) rfl, a 4 (by decide) (by decide) (by decide) rfl]
    refine ⟨gPe.1, fun p hp => ?_, gPe.2.2⟩
    rw [A 2 p (by decide) (by decide) (by decide) rfl]
    exact gPe.2.1 p hp
  · unfold xgRi
    rw [n 1 (by decide), s 1 (by decide), s 11 (by decide), b, a 5 (by decide) (by decide) (by decide) rfl, a 7 (by decide) (by decide) (by decide) rfl, a 8 (by decide) (by decide) (by decide) rfl]
    exact gRi
  · unfold xgCl
    rw [n 1 (by decide), n 15 (by decide), b, a 10 (by decide) (by decide) (by decide) rfl, a 9 (by decide) (by decide) (by decide) rfl, a 7 (by decide) (by decide) (by decide) rfl]
    exact gCl
  · unfold xgSt
    rw [n 14 (by decide), s 14 (by decide), a 16 (by decide) (by decide) (by decide) rfl]
    exact gSt
  · unfold xgTh
    rw [n 20 (by decide), s 20 (by decide), a 21 (by decide) (by decide) (by decide) rfl, a 22 (by decide) (by decide) (by decide) rfl, a 23 (by decide) (by decide) (by decide) rfl]
    exact gTh
  · unfold xgFi
    rw [n 26 (by decide), s 26 (by decide)]
    refine ⟨gFi.1, fun f hf => ?_⟩
    have h28 : mA M2 28 f = mA M 28 f := by unfold mA; rw [e28 f (by omega)]
    have hl : mA M 28 f ≤ 300 := by rw [← mFs_len]; exact (gFi.2 f hf).2.2.2.1
    have e9 : mFs M2 f = mFs M f := by
      unfold mFs
      rw [h28]
      exact List.map_congr_left fun k hk => by have := List.mem_range.mp hk; unfold mA; rw [e29 (300 * f + k) (by omega)]
    rw [e9]
    exact gFi.2 f hf
  · unfold xgTx
    rw [n 27 (by decide), s 27 (by decide), a 30 (by decide) (by decide) (by decide) rfl]
    exact gTx
  · unfold xgTr
    rw [n 55 (by decide), s 55 (by decide), a 56 (by decide) (by decide) (by decide) rfl]
    exact gTr
  · unfold xgTp
    rw [a 57 (by decide) (by decide) (by decide) rfl, a 59 (by decide) (by decide) (by decide) rfl]
    intro t ht
    rw [A 58 t (by decide) (by decide) (by decide) rfl]
    exact gTp t ht
  · unfold xgRd rdRel
    rw [n 1 (by decide), n 14 (by decide), n 15 (by decide), b, a 18 (by decide) (by decide) (by decide) rfl, a 19 (by decide) (by decide) (by decide) rfl, a 6 (by decide) (by decide) (by decide) rfl, a 8 (by decide) (by decide) (by decide) rfl, a 17 (by decide) (by decide) (by decide) rfl]
    exact gRd
/-- between dances: what the dance alone uses may change -/
theorem xgRd.idle {B : Nat → nMem} {P : Nat → Nat × Nat} {I : Nat → Nat} {M M2 : nMem} (h : xgRd B P I M) (hd : mB M2 11 = false) (e1 : mN M2 1 = mN M 1) (e15 : mN M2 15 = mN M 15) (e18 : M2 18 = M 18) (e19 : M2 19 = M 19) : xgRd B P I M2 := by
  refine ⟨fun z => h.1 (e1.symm.trans z), fun z => ?_⟩
  obtain ⟨r1, r2, r3, r4, r5, r6, r7⟩ := h.2 (fun w => z (e1.trans w))
  refine ⟨r1, r2, r3, r4, r5, ⟨?_, ?_, ?_, fun w => absurd (hd.symm.trans w) (by decide)⟩, ?_⟩
  · rw [e1]; exact r6.1
  · rw [e15]; exact r6.2.1
  · rw [e15, e1, e18, e19]; exact r6.2.2.1
  · rw [e1]; exact r7
theorem lst2_b {w : Nat → Nat} {b c : Nat} (h1 : w 0 < b) (h2 : w 0 < c) : ∀ {k : Nat}, 1 ≤ k → lst2 w b k = lst2 w c k
  | 0, h => absurd h (by decide)
  | 1, _ => by
    unfold lst2
    rw [if_pos (show w 0 < (lst2 w b 0).1 from h1), if_pos (show w 0 < (lst2 w c 0).1 from h2)]
  | k + 2, _ => by
    have e := lst2_b h1 h2 (k := k + 1) (by omega)
    conv => lhs; unfold lst2
    conv => rhs; unfold lst2
    rw [e]
def o_girth (M : nMem) : Int32 × nMem := (nI (10 + mN M 15 / 3), M)
def o_rows (M : nMem) : Int32 × nMem := (nI (mN M 15), M)
theorem nar_b (x : Int32) : vp_nar .byte (x.toInt8.toInt32) = x.toInt8.toInt32 := by
  show ((x.toInt8.toInt32).toInt8).toInt32 = _
  rw [Int8.toInt8_toInt32]
theorem nrg_out {x : Int32} {n : Nat} (h : x.toInt < 0 ∨ (n : Int) < x.toInt) : nrg x (nI 0) (nI n) = false := by
  unfold nrg
  refine decide_eq_false fun z => ?_
  rw [nI_toInt (by decide)] at z
  by_cases q : n < 2 ^ 31
  · rw [nI_toInt q] at z; omega
  · have := Int32.toInt_lt x; omega
