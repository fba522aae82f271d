set_option maxRecDepth 100000
/-! what couples the worlds of both sides, after j rounds -/
def InvW (ad : Nat → Nat) (cA : Nat → ClassId) (ad8 : Nat → Nat) (cA8 : Nat → ClassId) (j : Nat) (w0 w8 : va_W) : Prop := ∃ (sA : Nat → Nat) (ta : Nat → Nat) (ba : Nat → Nat) (na : Nat → Nat) (gi : Nat → Option Nat) (rh : Option Nat) (rt : Option Nat) (y_lies : Int64) (a_nums : Nat → Nat → Int64) (pl : va_W) (F1 : Nat → (Nat → Int32)) (F2 : Nat → (Nat → Int64)) (F3 : Nat → Int32) (G1 : Nat → (Nat → Int32)) (G2 : Nat → (Nat → Int64)) (G3 : Nat → Int32) (T : Nat → Nat) (M : Nat → Nat) (V : Nat → BvT) (t : Nat → Int32) (im : Nat → Option ImT) (tp : Nat) (mk : Nat) (bk : Nat), w0 = cW ad cA sA ta ba na gi rh rt (F3 0) (F3 1) (F3 2) (F3 3) (F3 4) (F3 5) (F1 0) (F1 1) (F1 2) (F1 3) (F1 4) (F1 5) (F1 6) (F1 7) (F1 8) (F1 9) (F2 0) (F2 1) (F1 10) (F2 2) (F2 3) (F1 11) (F1 12) (F1 13) (F1 14) (F1 15) (F1 16) (F1 17) (nI tp) (F3 6) (F3 7) (F3 8) (F3 9) (F3 10) (F3 11) (F3 12) nM (F3 13) (F3 14) (F3 15) (F3 16) (F3 17) (F3 18) (F3 19) y_lies (F1 18) (F1 19) a_nums pl ∧ w8 = mW ad8 cA8 (G1 0) (G1 1) (G1 2) (G1 3) (nI tp) (G3 0) (G3 1) (G3 2) (G3 3) (G3 4) (G3 5) (G3 6) (G3 7) (G3 8) (F3 6) (F3 7) (G1 4) (G1 5) (G3 9) (G1 6) nM (G3 10) (G3 11) (G1 7) (G1 8) (G1 9) (G2 0) (G1 10) (G1 11) (G1 12) (G1 13) (G1 14) (F3 11) (G3 12) (G3 13) (nI mk) (nI bk) (G3 14) (G2 1) (G3 15) (G1 15) (G1 16) (G1 17) (G2 2) ∧ Cur T M V (G1 0) t y_lies (F1 16) (F1 17) (F3 19) ∧ (t 378 = t 78 ∧ t 379 = t 79) ∧ PO cA pl ta ba t (nI (T 114)) V ∧ ImsOk cA pl gi im ∧ (∀ i, i < 2 → ImC (G1 0) (G1 1) i (im i)) ∧ NumC (F1 18) (F1 19) a_nums (G1 16) (G1 17) (G2 2) ∧ TapeR (F1 0) (G1 2) ∧ tp ≤ 400 ∧ TabC (F2 0) (F2 1) (F1 10) (F2 2) (F2 3) (F1 11) (F3 17) (F3 18) ∧ TabM (G2 0) (G1 10) (G1 11) (G1 12) (G1 13) (G1 14) (G2 1) mk bk ∧ mk ≤ 1400000 * j ∧ bk ≤ 1400000 * j
/-- what stands in the pool doesn't speak of the numbers 78 and 79 -/
theorem PO.cong {cA : Nat → ClassId} {pl : va_W} {ta ba : Nat → Nat} {t t2 : Nat → Int32} {nb : Int32} {bv : Nat → BvT} {T M : Nat → Nat} {V : Nat → BvT} {all ca la : Nat → Int32} {lies : Int64} {year : Int32} (h : PO cA pl ta ba t nb bv) (hC : Cur T M V all t2 lies ca la year) (e : ∀ k, k ≠ 78 → k ≠ 79 → t2 k = t k) : PO cA pl ta ba t2 nb bv := by
  obtain ⟨⟨hW, -⟩, -, ht, -⟩ := hC
  have h0 : t2 0 = nI (T 0) := ht 0 (by omega)
  have h6 : t2 6 = nI (T 6) := ht 6 (by omega)
  have h56 : t2 56 = nI (T 56) := ht 56 (by omega)
  obtain ⟨w1, w2, w3, -⟩ := hW.1
  have c0 : (t 0).toNatClampNeg ≤ 5 := by rw [← e 0 (by omega) (by omega), h0, cl_n (by omega)]; exact w1
  have c6 : (t 6).toNatClampNeg ≤ 8 := by rw [← e 6 (by omega) (by omega), h6, cl_n (by omega)]; exact w2
  have c56 : (t 56).toNatClampNeg ≤ 6 := by rw [← e 56 (by omega) (by omega), h56, cl_n (by omega)]; exact w3
  obtain ⟨⟨a1, a2, a3, a4, a5, a6, a7⟩, hb⟩ := h
  refine ⟨⟨?_, ?_, ?_, ?_, fun i hi => ?_, fun i hi => ?_, fun i hi => ?_⟩, hb⟩
  · rw [e 75 (by omega) (by omega), e 76 (by omega) (by omega), e 379 (by omega) (by omega), e 77 (by omega) (by omega), e 378 (by omega) (by omega)]; exact a1
  · rw [e 0 (by omega) (by omega)]; exact a2
  · rw [e 6 (by omega) (by omega)]; exact a3
  · rw [e 56 (by omega) (by omega)]; exact a4
  · rw [e 0 (by omega) (by omega)] at hi
    obtain ⟨b1, f, b2, b3⟩ := a5 i hi
    rw [e (1 + i) (by omega) (by omega), e (31 + i) (by omega) (by omega), e (36 + i) (by omega) (by omega), e (210 + i) (by omega) (by omega)]
    exact ⟨b1, f, b2, fun j hj => (b3 j hj).trans (e (41 + 3 * i + j) (by omega) (by omega)).symm⟩
  · rw [e 6 (by omega) (by omega)] at hi
    rw [e (7 + i) (by omega) (by omega), e (15 + i) (by omega) (by omega), e (200 + i) (by omega) (by omega), e (23 + i) (by omega) (by omega)]
    exact a6 i hi
  · rw [e 56 (by omega) (by omega)] at hi
    rw [e (57 + i) (by omega) (by omega), e (63 + i) (by omega) (by omega), e (69 + i) (by omega) (by omega)]
    exact a7 i hi
def EvAll (l : Launch) (E : EvT) (ks vs : Nat → Nat) (fo mi ak av fo8 : Nat) : Prop := EvX E ∧ EvR E ks vs fo mi ∧ EvM E ak av fo8 ∧ l.stackTraces = false
theorem MX.mono {l : Launch} {y : MethodName} {ws : List Cond} {rm : Room} {D : va_G} {cl : List vw_C} {tys : List (ClassId × FieldType)} {E : EvT} {As : List Value} {w : va_W} {W1 W2 : va_W → Prop} {vo : Option Value} (h : MX l y ws rm D cl tys E As w W1 vo) (k : ∀ z, W1 z → W2 z) : MX l y ws rm D cl tys E As w W2 vo := fun sz =>
  MetFree.mono (h sz) (fun _ _ h => h) (fun _ _ _ _ _ h => h) (fun a s o t _ hq => by
    obtain ⟨⟨⟨e, w2, h1, h2⟩, h3⟩, h4⟩ := hq
    exact ⟨⟨⟨e, w2, k _ h1, h2⟩, h3⟩, h4⟩)

