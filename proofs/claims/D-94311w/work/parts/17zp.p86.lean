set_option maxRecDepth 100000
/-! bars: a fact -/
section P86
variable {n : Nat} {a0 a8 : Nat → Int32}
theorem ask_end (hT : TapeR a0 a8) (hn : n ≤ 400) {w a st op m : Nat} {lo hi : Int32} {l h : Int} {F : Nat → Int32} {r8 : R8T} {s z : S6} (hw : w < 6) (hl : lo.toInt = l) (hh : hi.toInt = h) (h0 : 0 ≤ l) (h99 : h < 100) (hst : 2 * st ≤ a) (hm : a + 2 ≤ m) (han : a ≤ n) (hR : RL n a0 m s z) : ∃ o s' z' F' k x', FX9_fact_n (nI n) a0 (nI w) lo hi s.1 s.2.1 s.2.2.1 s.2.2.2.1 (nI op) s.2.2.2.2.1 s.2.2.2.2.2 = some (FA o s' op k) ∧ (bd7 (FX8_reads a8 z.1 z.2.1 (nI n) z.2.2.1 z.2.2.2.1 z.2.2.2.2.1 z.2.2.2.2.2 lo hi) fun x1 x2 x3 x4 x5 x6 x7 => FX8_readFact_b_j221 r8 F (nI (keyW w)) (nI op) (nI st) x1 x2 x3 x4 x5 x6 x7) = some (FB F' z' op x') ∧ FO n a0 a st k F F' o s' z' x' := by
  obtain ⟨p, q, s1, z1, e9, e8, r1, hv⟩ := L_number hT hn hl hh hR
  unfold FX9_fact_n FX8_readFact_b_j221
  rw [e9, e8, bd7_t, bd7_t]
  dsimp only
  by_cases c0 : s1.2.2.2.2.1 = 0
  · obtain ⟨-, -, v, rfl, rfl, v1, v2, -⟩ := hv c0
    obtain ⟨a1, b1, j1, k1, hO⟩ := r1.ok c0
    have z0 : z1.2.2.2.2.1 = 0 := by
      obtain ⟨x, y, w, -, rfl, -⟩ := hO
      rfl
    have an1 : a1 ≤ n := by
      obtain ⟨x, y, w, -, -, hK⟩ := hO
      have := hK.1
      omega
    have kw : keyW w < 100 := by
      unfold keyW
      repeat (first | omega | split)
    rw [if_pos z0, emit_n (by omega), bd2_s]
    have g0 : upd (upd F (131 + 2 * st) (nI (keyW w))) (131 + 2 * st + 1) (nI v) (131 + 2 * st) = nI (keyW w) := by rw [up_f (by omega), up_t rfl]
    have g1 : upd (upd F (131 + 2 * st) (nI (keyW w))) (131 + 2 * st + 1) (nI v) (131 + 2 * st + 1) = nI v := up_t rfl
    refine ⟨some (1, askB (nI w) (nI v)), s1, z1, _, 1, nI (st + 1), rfl, rfl, Or.inr ⟨a1, b1, j1, 1, askB (nI w) (nI v), hO, by omega, rfl, Nat.le_refl _, rfl, Or.inl ⟨rfl, w, hw, cT_n g0 (by omega), by rw [cT_n g1 (by omega)]; omega, by rw [cT_n g1 (by omega)]⟩, fun i hi => by rw [up_f (by omega), up_f (by omega)]⟩⟩
  · have hB := r1.bad c0
    rw [if_neg hB.wrong.2]
    exact ⟨_, s1, z1, F, 1, nI st, rfl, rfl, Or.inl ⟨hB, by omega⟩⟩
theorem ask_0 (hT : TapeR a0 a8) (hn : n ≤ 400) {a b st op : Nat} {x y w : Int32} {F : Nat → Int32} {r8 : R8T} (hK : TKp n a0 a b 19 x y) (hst : 2 * st ≤ a) : ∃ o s' z' F' k x', FX9_fact_t0 (nI n) a0 (nI b) (nI a) (tkT 19) x (nI op) 0 nM = some (FA o s' op k) ∧ FX8_readFact_b r8 a8 F (nI a) (nI b) (nI n) (nI 19) y 0 w (nI op) (nI st) = some (FB F' z' op x') ∧ FO n a0 a st k F F' o s' z' x' := by
  obtain ⟨A, B, J, X, Y, g1, g2, g3, g4⟩ := next_law hT hn hK.1.2.1 x y
  have hab := hK.1.2.2.2.2.2 (by omega)
  have hbn := hK.1.2.1
  obtain ⟨o, s', z', F', k, x', e9, e8, hR⟩ := ask_end (w := 0) (lo := 0) (hi := 7) (l := 0) (h := 7) (a := a) (st := st) (op := op) (m := b) (F := F) (r8 := r8) hT hn (by omega) (by decide) (by decide) (by omega) (by omega) hst hab (by omega) (show RL n a0 b (nI B, nI A, tkT J, X, 0, nM) (nI A, nI B, nI J, Y, 0, w) from Or.inl ⟨A, B, J, g1, X, Y, w, rfl, rfl, g4⟩)
  dsimp only at e9 e8
  refine ⟨o, s', z', F', k, x', ?_, ?_, hR⟩
  · unfold FX9_fact_t0
    rw [tk_yes (show FX9_is (nI n) a0 4 kb_262 (nI b) (nI a) (tkT 19) 0 = some true from hK.2.2 19 (by omega)), g2, bd4_s, bd5_s, if_neg (by decide)]
    unfold FX9_fact_w FX9_fact_a FX9_fact_h
    rw [if_neg (by decide), if_neg (by decide), if_pos (by decide)]
    exact e9
  · unfold FX8_readFact_b
    rw [if_pos rfl, if_neg (by decide), if_neg (by decide), if_neg (by decide), wiL (a := 19) (b := 23) (by decide) (by decide), toN (by omega), decide_eq_true (by omega), bd1_s, if_neg (by decide)]
    unfold FX8_readFact_b_j142
    rw [if_pos rfl, g3, bd4_s, if_pos (by decide)]
    exact e8
theorem ask_1 (hT : TapeR a0 a8) (hn : n ≤ 400) {a b st op : Nat} {x y w : Int32} {F : Nat → Int32} {r8 : R8T} (hK : TKp n a0 a b 2 x y) (hst : 2 * st ≤ a) : ∃ o s' z' F' k x', FX9_fact_t0 (nI n) a0 (nI b) (nI a) (tkT 2) x (nI op) 0 nM = some (FA o s' op k) ∧ FX8_readFact_b r8 a8 F (nI a) (nI b) (nI n) (nI 2) y 0 w (nI op) (nI st) = some (FB F' z' op x') ∧ FO n a0 a st k F F' o s' z' x' := by
  obtain ⟨A, B, J, X, Y, g1, g2, g3, g4⟩ := next_law hT hn hK.1.2.1 x y
  have hab := hK.1.2.2.2.2.2 (by omega)
  have hbn := hK.1.2.1
  obtain ⟨o, s', z', F', k, x', e9, e8, hR⟩ := ask_end (w := 1) (lo := 1) (hi := 9) (l := 1) (h := 9) (a := a) (st := st) (op := op) (m := b) (F := F) (r8 := r8) hT hn (by omega) (by decide) (by decide) (by omega) (by omega) hst hab (by omega) (show RL n a0 b (nI B, nI A, tkT J, X, 0, nM) (nI A, nI B, nI J, Y, 0, w) from Or.inl ⟨A, B, J, g1, X, Y, w, rfl, rfl, g4⟩)
  dsimp only at e9 e8
  refine ⟨o, s', z', F', k, x', ?_, ?_, hR⟩
  · unfold FX9_fact_t0
    rw [tk_no (show FX9_is (nI n) a0 4 kb_262 (nI b) (nI a) (tkT 2) 0 = some false from hK.2.2 19 (by omega)), bd5_s, if_pos (by decide)]
    unfold FX9_fact_t1
    rw [tk_yes (show FX9_is (nI n) a0 4 kb_179 (nI b) (nI a) (tkT 2) 0 = some true from hK.2.2 2 (by omega)), g2, bd4_s, bd5_s, if_neg (by decide)]
    unfold FX9_fact_w FX9_fact_a FX9_fact_h
    rw [if_neg (by decide), if_pos (by decide), if_neg (by decide), if_pos (by decide)]
    exact e9
  · unfold FX8_readFact_b
    rw [if_pos rfl, if_neg (by decide), if_neg (by decide), if_pos (by decide)]
    unfold FX8_readFact_b_j142
    rw [if_pos rfl, g3, bd4_s, if_neg (by decide), if_pos (by decide)]
    exact e8
theorem ask_2 (hT : TapeR a0 a8) (hn : n ≤ 400) {a b st op : Nat} {x y w : Int32} {F : Nat → Int32} {r8 : R8T} (hK : TKp n a0 a b 20 x y) (hst : 2 * st ≤ a) : ∃ o s' z' F' k x', FX9_fact_t0 (nI n) a0 (nI b) (nI a) (tkT 20) x (nI op) 0 nM = some (FA o s' op k) ∧ FX8_readFact_b r8 a8 F (nI a) (nI b) (nI n) (nI 20) y 0 w (nI op) (nI st) = some (FB F' z' op x') ∧ FO n a0 a st k F F' o s' z' x' := by
  obtain ⟨A, B, J, X, Y, g1, g2, g3, g4⟩ := next_law hT hn hK.1.2.1 x y
  have hab := hK.1.2.2.2.2.2 (by omega)
  have hbn := hK.1.2.1
  obtain ⟨o, s', z', F', k, x', e9, e8, hR⟩ := ask_end (w := 2) (lo := 0) (hi := 4) (l := 0) (h := 4) (a := a) (st := st) (op := op) (m := b) (F := F) (r8 := r8) hT hn (by omega) (by decide) (by decide) (by omega) (by omega) hst hab (by omega) (show RL n a0 b (nI B, nI A, tkT J, X, 0, nM) (nI A, nI B, nI J, Y, 0, w) from Or.inl ⟨A, B, J, g1, X, Y, w, rfl, rfl, g4⟩)
  dsimp only at e9 e8
  refine ⟨o, s', z', F', k, x', ?_, ?_, hR⟩
  · unfold FX9_fact_t0
    rw [tk_no (show FX9_is (nI n) a0 4 kb_262 (nI b) (nI a) (tkT 20) 0 = some false from hK.2.2 19 (by omega)), bd5_s, if_pos (by decide)]
    unfold FX9_fact_t1
    rw [tk_no (show FX9_is (nI n) a0 4 kb_179 (nI b) (nI a) (tkT 20) 0 = some false from hK.2.2 2 (by omega)), bd5_s, if_pos (by decide)]
    unfold FX9_fact_t2
    rw [tk_yes (show FX9_is (nI n) a0 4 kb_264 (nI b) (nI a) (tkT 20) 0 = some true from hK.2.2 20 (by omega)), g2, bd4_s, bd5_s, if_neg (by decide)]
    unfold FX9_fact_w FX9_fact_a FX9_fact_h
    rw [if_neg (by decide), if_neg (by decide), if_neg (by decide), if_neg (by decide), if_neg (by decide)]
    exact e9
  · unfold FX8_readFact_b
    rw [if_pos rfl, if_neg (by decide), if_neg (by decide), if_neg (by decide), wiL (a := 19) (b := 23) (by decide) (by decide), toN (by omega), decide_eq_true (by omega), bd1_s, if_neg (by decide)]
    unfold FX8_readFact_b_j142
    rw [if_pos rfl, g3, bd4_s, if_neg (by decide), if_neg (by decide), if_neg (by decide), if_neg (by decide)]
    exact e8
theorem ask_3 (hT : TapeR a0 a8) (hn : n ≤ 400) {a b st op : Nat} {x y w : Int32} {F : Nat → Int32} {r8 : R8T} (hK : TKp n a0 a b 21 x y) (hst : 2 * st ≤ a) : ∃ o s' z' F' k x', FX9_fact_t0 (nI n) a0 (nI b) (nI a) (tkT 21) x (nI op) 0 nM = some (FA o s' op k) ∧ FX8_readFact_b r8 a8 F (nI a) (nI b) (nI n) (nI 21) y 0 w (nI op) (nI st) = some (FB F' z' op x') ∧ FO n a0 a st k F F' o s' z' x' := by
  obtain ⟨A, B, J, X, Y, g1, g2, g3, g4⟩ := next_law hT hn hK.1.2.1 x y
  have hab := hK.1.2.2.2.2.2 (by omega)
  have hbn := hK.1.2.1
  obtain ⟨o, s', z', F', k, x', e9, e8, hR⟩ := ask_end (w := 3) (lo := 0) (hi := 4) (l := 0) (h := 4) (a := a) (st := st) (op := op) (m := b) (F := F) (r8 := r8) hT hn (by omega) (by decide) (by decide) (by omega) (by omega) hst hab (by omega) (show RL n a0 b (nI B, nI A, tkT J, X, 0, nM) (nI A, nI B, nI J, Y, 0, w) from Or.inl ⟨A, B, J, g1, X, Y, w, rfl, rfl, g4⟩)
  dsimp only at e9 e8
  refine ⟨o, s', z', F', k, x', ?_, ?_, hR⟩
  · unfold FX9_fact_t0
    rw [tk_no (show FX9_is (nI n) a0 4 kb_262 (nI b) (nI a) (tkT 21) 0 = some false from hK.2.2 19 (by omega)), bd5_s, if_pos (by decide)]
    unfold FX9_fact_t1
    rw [tk_no (show FX9_is (nI n) a0 4 kb_179 (nI b) (nI a) (tkT 21) 0 = some false from hK.2.2 2 (by omega)), bd5_s, if_pos (by decide)]
    unfold FX9_fact_t2
    rw [tk_no (show FX9_is (nI n) a0 4 kb_264 (nI b) (nI a) (tkT 21) 0 = some false from hK.2.2 20 (by omega)), bd5_s, if_pos (by decide)]
    unfold FX9_fact_t3
    rw [tk_yes (show FX9_is (nI n) a0 2 kb_266 (nI b) (nI a) (tkT 21) 0 = some true from hK.2.2 21 (by omega)), g2, bd4_s, bd5_s, if_neg (by decide)]
    unfold FX9_fact_w FX9_fact_a FX9_fact_h
    rw [if_neg (by decide), if_neg (by decide), if_neg (by decide), if_neg (by decide), if_neg (by decide)]
    exact e9
  · unfold FX8_readFact_b
    rw [if_pos rfl, if_neg (by decide), if_neg (by decide), if_neg (by decide), wiL (a := 19) (b := 23) (by decide) (by decide), toN (by omega), decide_eq_true (by omega), bd1_s, if_neg (by decide)]
    unfold FX8_readFact_b_j142
    rw [if_pos rfl, g3, bd4_s, if_neg (by decide), if_neg (by decide), if_neg (by decide), if_neg (by decide)]
    exact e8
theorem ask_4 (hT : TapeR a0 a8) (hn : n ≤ 400) {a b st op : Nat} {x y w : Int32} {F : Nat → Int32} {r8 : R8T} (hK : TKp n a0 a b 22 x y) (hst : 2 * st ≤ a) : ∃ o s' z' F' k x', FX9_fact_t0 (nI n) a0 (nI b) (nI a) (tkT 22) x (nI op) 0 nM = some (FA o s' op k) ∧ FX8_readFact_b r8 a8 F (nI a) (nI b) (nI n) (nI 22) y 0 w (nI op) (nI st) = some (FB F' z' op x') ∧ FO n a0 a st k F F' o s' z' x' := by
  obtain ⟨A, B, J, X, Y, g1, g2, g3, g4⟩ := next_law hT hn hK.1.2.1 x y
  have hab := hK.1.2.2.2.2.2 (by omega)
  have hbn := hK.1.2.1
  obtain ⟨o, s', z', F', k, x', e9, e8, hR⟩ := ask_end (w := 4) (lo := 0) (hi := 2) (l := 0) (h := 2) (a := a) (st := st) (op := op) (m := b) (F := F) (r8 := r8) hT hn (by omega) (by decide) (by decide) (by omega) (by omega) hst hab (by omega) (show RL n a0 b (nI B, nI A, tkT J, X, 0, nM) (nI A, nI B, nI J, Y, 0, w) from Or.inl ⟨A, B, J, g1, X, Y, w, rfl, rfl, g4⟩)
  dsimp only at e9 e8
  refine ⟨o, s', z', F', k, x', ?_, ?_, hR⟩
  · unfold FX9_fact_t0
    rw [tk_no (show FX9_is (nI n) a0 4 kb_262 (nI b) (nI a) (tkT 22) 0 = some false from hK.2.2 19 (by omega)), bd5_s, if_pos (by decide)]
    unfold FX9_fact_t1
    rw [tk_no (show FX9_is (nI n) a0 4 kb_179 (nI b) (nI a) (tkT 22) 0 = some false from hK.2.2 2 (by omega)), bd5_s, if_pos (by decide)]
    unfold FX9_fact_t2
    rw [tk_no (show FX9_is (nI n) a0 4 kb_264 (nI b) (nI a) (tkT 22) 0 = some false from hK.2.2 20 (by omega)), bd5_s, if_pos (by decide)]
    unfold FX9_fact_t3
    rw [tk_no (show FX9_is (nI n) a0 2 kb_266 (nI b) (nI a) (tkT 22) 0 = some false from hK.2.2 21 (by omega)), bd5_s, if_pos (by decide)]
    unfold FX9_fact_t4
    rw [tk_yes (show FX9_is (nI n) a0 4 kb_268 (nI b) (nI a) (tkT 22) 0 = some true from hK.2.2 22 (by omega)), g2, bd4_s, bd5_s, if_neg (by decide)]
    unfold FX9_fact_w FX9_fact_a FX9_fact_h
    rw [if_neg (by decide), if_neg (by decide), if_neg (by decide), if_neg (by decide), if_pos (by decide), if_pos (by decide)]
    exact e9
  · unfold FX8_readFact_b
    rw [if_pos rfl, if_neg (by decide), if_neg (by decide), if_neg (by decide), wiL (a := 19) (b := 23) (by decide) (by decide), toN (by omega), decide_eq_true (by omega), bd1_s, if_neg (by decide)]
    unfold FX8_readFact_b_j142
    rw [if_pos rfl, g3, bd4_s, if_neg (by decide), if_neg (by decide), if_pos (by decide)]
    exact e8
theorem ask_5 (hT : TapeR a0 a8) (hn : n ≤ 400) {a b st op : Nat} {x y w : Int32} {F : Nat → Int32} {r8 : R8T} (hK : TKp n a0 a b 23 x y) (hst : 2 * st ≤ a) : ∃ o s' z' F' k x', FX9_fact_t0 (nI n) a0 (nI b) (nI a) (tkT 23) x (nI op) 0 nM = some (FA o s' op k) ∧ FX8_readFact_b r8 a8 F (nI a) (nI b) (nI n) (nI 23) y 0 w (nI op) (nI st) = some (FB F' z' op x') ∧ FO n a0 a st k F F' o s' z' x' := by
  obtain ⟨A, B, J, X, Y, g1, g2, g3, g4⟩ := next_law hT hn hK.1.2.1 x y
  have hab := hK.1.2.2.2.2.2 (by omega)
  have hbn := hK.1.2.1
  obtain ⟨o, s', z', F', k, x', e9, e8, hR⟩ := ask_end (w := 5) (lo := 0) (hi := 3) (l := 0) (h := 3) (a := a) (st := st) (op := op) (m := b) (F := F) (r8 := r8) hT hn (by omega) (by decide) (by decide) (by omega) (by omega) hst hab (by omega) (show RL n a0 b (nI B, nI A, tkT J, X, 0, nM) (nI A, nI B, nI J, Y, 0, w) from Or.inl ⟨A, B, J, g1, X, Y, w, rfl, rfl, g4⟩)
  dsimp only at e9 e8
  refine ⟨o, s', z', F', k, x', ?_, ?_, hR⟩
  · unfold FX9_fact_t0
    rw [tk_no (show FX9_is (nI n) a0 4 kb_262 (nI b) (nI a) (tkT 23) 0 = some false from hK.2.2 19 (by omega)), bd5_s, if_pos (by decide)]
    unfold FX9_fact_t1
    rw [tk_no (show FX9_is (nI n) a0 4 kb_179 (nI b) (nI a) (tkT 23) 0 = some false from hK.2.2 2 (by omega)), bd5_s, if_pos (by decide)]
    unfold FX9_fact_t2
    rw [tk_no (show FX9_is (nI n) a0 4 kb_264 (nI b) (nI a) (tkT 23) 0 = some false from hK.2.2 20 (by omega)), bd5_s, if_pos (by decide)]
    unfold FX9_fact_t3
    rw [tk_no (show FX9_is (nI n) a0 2 kb_266 (nI b) (nI a) (tkT 23) 0 = some false from hK.2.2 21 (by omega)), bd5_s, if_pos (by decide)]
    unfold FX9_fact_t4
    rw [tk_no (show FX9_is (nI n) a0 4 kb_268 (nI b) (nI a) (tkT 23) 0 = some false from hK.2.2 22 (by omega)), bd5_s, if_pos (by decide)]
    unfold FX9_fact_t5
    rw [tk_yes (show FX9_is (nI n) a0 4 kb_269 (nI b) (nI a) (tkT 23) 0 = some true from hK.2.2 23 (by omega)), g2, bd4_s, bd5_s, if_neg (by decide)]
    unfold FX9_fact_w FX9_fact_a FX9_fact_h
    rw [if_neg (by decide), if_neg (by decide), if_neg (by decide), if_neg (by decide), if_pos (by decide), if_neg (by decide)]
    exact e9
  · unfold FX8_readFact_b
    rw [if_pos rfl, if_neg (by decide), if_neg (by decide), if_neg (by decide), wiL (a := 19) (b := 23) (by decide) (by decide), toN (by omega), decide_eq_true (by omega), bd1_s, if_neg (by decide)]
    unfold FX8_readFact_b_j142
    rw [if_pos rfl, g3, bd4_s, if_neg (by decide), if_neg (by decide), if_neg (by decide), if_pos (by decide)]
    exact e8
theorem ask_no (hT : TapeR a0 a8) (hn : n ≤ 400) {a b j st op : Nat} {x y w : Int32} {F : Nat → Int32} {r8 : R8T} (hK : TKp n a0 a b j x y) (h18 : j ≠ 18) (h27 : j ≠ 27) (h2 : j ≠ 2) (h19 : ¬ (19 ≤ j ∧ j ≤ 23)) : ∃ o s' z' F' k x', FX9_fact_t0 (nI n) a0 (nI b) (nI a) (tkT j) x (nI op) 0 nM = some (FA o s' op k) ∧ FX8_readFact_b r8 a8 F (nI a) (nI b) (nI n) (nI j) y 0 w (nI op) (nI st) = some (FB F' z' op x') ∧ FO n a0 a st k F F' o s' z' x' := by
  have hj := hK.1.2.2.2.1
  have hf := fk (j := j) (p := 2) (by omega) (by omega)
  have j19 : FX9_is (nI n) a0 4 kb_262 (nI b) (nI a) (tkT j) 0 = some false := (hK.2.2 19 (by omega)).trans (by rw [decide_eq_false (by omega)])
  have j2 : FX9_is (nI n) a0 4 kb_179 (nI b) (nI a) (tkT j) 0 = some false := (hK.2.2 2 (by omega)).trans (by rw [decide_eq_false (by omega)])
  have j20 : FX9_is (nI n) a0 4 kb_264 (nI b) (nI a) (tkT j) 0 = some false := (hK.2.2 20 (by omega)).trans (by rw [decide_eq_false (by omega)])
  have j21 : FX9_is (nI n) a0 2 kb_266 (nI b) (nI a) (tkT j) 0 = some false := (hK.2.2 21 (by omega)).trans (by rw [decide_eq_false (by omega)])
  have j22 : FX9_is (nI n) a0 4 kb_268 (nI b) (nI a) (tkT j) 0 = some false := (hK.2.2 22 (by omega)).trans (by rw [decide_eq_false (by omega)])
  have j23 : FX9_is (nI n) a0 4 kb_269 (nI b) (nI a) (tkT j) 0 = some false := (hK.2.2 23 (by omega)).trans (by rw [decide_eq_false (by omega)])
  have e9 : FX9_fact_t0 (nI n) a0 (nI b) (nI a) (tkT j) x (nI op) 0 nM = some (FA (some (1, askB (-1) 0)) (nI b, nI a, tkT j, x, nI (if j = 30 then 1 else 2), nI a) op 1) := by
    unfold FX9_fact_t0
    rw [tk_no j19, bd5_s, if_pos (by decide)]
    unfold FX9_fact_t1
    rw [tk_no j2, bd5_s, if_pos (by decide)]
    unfold FX9_fact_t2
    rw [tk_no j20, bd5_s, if_pos (by decide)]
    unfold FX9_fact_t3
    rw [tk_no j21, bd5_s, if_pos (by decide)]
    unfold FX9_fact_t4
    rw [tk_no j22, bd5_s, if_pos (by decide)]
    unfold FX9_fact_t5
    rw [tk_no j23, bd5_s, if_pos (by decide)]
    unfold FX9_fact_w FX9_fact_a FX9_fact_h FX9_fact_n
    rw [if_pos rfl, show (2 : Int32) = nI 2 from rfl, wr_ok hj, bd2_s, if_neg (by decide), if_neg (by decide), if_neg (by decide), if_neg (by decide), number9_bad hf, bd7_s]
    rfl
  have e8 : FX8_readFact_b r8 a8 F (nI a) (nI b) (nI n) (nI j) y 0 w (nI op) (nI st) = some (FB F (nI a, nI b, nI j, y, nI (if j = 30 then 1 else 2), nI a) op (nI st)) := by
    unfold FX8_readFact_b
    rw [if_pos rfl, if_neg (by rw [show (18 : Int32) = nI 18 from rfl, eq_f h18 (by omega) (by omega)]; exact id), if_neg (by rw [show (27 : Int32) = nI 27 from rfl, eq_f h27 (by omega) (by omega)]; exact id), if_neg (by rw [show (2 : Int32) = nI 2 from rfl, eq_f h2 (by omega) (by omega)]; exact id), wiL (a := 19) (b := 23) (by decide) (by decide), toN (by omega), decide_eq_false (by omega), bd1_s, if_pos (by decide), show (2 : Int32) = nI 2 from rfl, fl_ok hj, bd2_s]
    unfold FX8_readFact_b_j142
    rw [if_neg (nz_f hf)]
    rfl
  have han := hK.1
  exact ⟨_, _, _, F, 1, nI st, e9, e8, Or.inl ⟨⟨_, hf, rfl, rfl, rfl⟩, by omega⟩⟩
theorem op_full {a b j : Nat} {x q : Int32} (hj : j < 31) : FX9_opens (nI n) a0 (nI b) (nI a) (tkT j) x (nI 8) 0 q = some (nI b, nI a, tkT j, x, nI 9, nI (if j = 30 then 1 else 5), nI a) := by
  unfold FX9_opens FX9_opens_j14
  rw [if_pos (show nI 8 = 8 from rfl), show (5 : Int32) = nI 5 from rfl, wr_ok hj, bd2_s, if_neg (nz_f (fk (by omega) (by omega))), show nI 8 + 1 = nI 9 from n_add 8 1]
theorem op_go {op : Nat} (hop : op < 8) {b a t x q : Int32} : FX9_opens (nI n) a0 b a t x (nI op) 0 q = bd4 (FX9_next (nI n) a0 b x) fun x1 x2 x3 x4 => some (x1, x2, x3, x4, nI (op + 1), 0, q) := by
  unfold FX9_opens FX9_opens_j14
  rw [if_neg (by rw [show (8 : Int32) = nI 8 from rfl, eq_f (by omega) (by omega) (by omega)]; exact id), if_pos rfl, show nI op + 1 = nI (op + 1) from n_add op 1]
theorem op_1 (op : Nat) : nI (op + 1) - 1 = nI op := nD_succ op
theorem fact_step (hT : TapeR a0 a8) (hn : n ≤ 400) {op : Nat} (hop : op ≤ 8) {r9 : FaF} {r8 : R8T} (hP : op < 8 → FP n a0 a8 (op + 1) r9 r8) : FP n a0 a8 op (FX9_fact_b (nI n) a0 r9) (FX8_readFact_b r8) := by
  constructor
  · rintro s z a b j F st ⟨x, y, w, rfl, rfl, hK⟩ hst
    have hj := hK.1.2.2.2.1
    have hKab := hK.1
    have i18 : FX9_is (nI n) a0 3 kb_252 (nI b) (nI a) (tkT j) 0 = some (decide (j = 18)) := hK.2.2 18 (by omega)
    dsimp only
    by_cases c18 : j = 18
    · subst c18
      have hab := hKab.2.2.2.2.2 (by omega)
      unfold FX9_fact_b FX8_readFact_b FX8_readFact_b_j25
      rw [i18, bd1_s, if_neg (by decide), if_pos rfl, if_pos (show nI 18 = 18 from rfl)]
      by_cases c8 : op = 8
      · subst c8
        have hf := fk (j := 18) (p := 5) (by omega) (by omega)
        rw [op_full hj, bd7_s, if_neg (nz_f hf), if_pos (show nI 8 = 8 from rfl), show (5 : Int32) = nI 5 from rfl, fl_ok hj, bd2_s]
        unfold FX8_readFact_b_j39
        rw [if_neg (nz_f hf)]
        exact ⟨none, (_, _, _, _, _, _), (_, _, _, _, _, _), F, 0, nI st, rfl, rfl, Or.inl ⟨⟨_, hf, rfl, rfl, rfl⟩, by omega⟩⟩
      · obtain ⟨A, B, J, X, Y, g1, g2, g3, g4⟩ := next_law hT hn hKab.2.1 x y
        obtain ⟨o2, s2, z2, F2, m2, x2, r9e, r8e, hR⟩ := (hP (by omega)).1 (nI B, nI A, tkT J, X, 0, nM) (nI A, nI B, nI J, Y, 0, w) A B J F st ⟨X, Y, w, rfl, rfl, g4⟩ (by omega)
        dsimp only at r9e r8e
        rw [op_go (by omega), g2, bd4_s, bd7_s, if_pos rfl, r9e, if_neg (by rw [show (8 : Int32) = nI 8 from rfl, eq_f c8 (by omega) (by omega)]; exact id)]
        unfold FX8_readFact_b_j39
        rw [if_pos rfl, g3, bd4_s, if_pos (show nI 18 = 18 from rfl), show nI op + 1 = nI (op + 1) from n_add op 1, r8e]
        have t9 : ∀ G : FcT → Int32 → Int32 → Int32 → Int32 → Int32 → Int32 → Int32 → Nat → Option FaR, bd9 (some (FA o2 s2 (op + 1) m2)) G = G o2 s2.1 s2.2.1 s2.2.2.1 s2.2.2.2.1 (nI (op + 1)) s2.2.2.2.2.1 s2.2.2.2.2.2 m2 := fun G => rfl
        have t8 : ∀ G : (Nat → Int32) → Int32 → Int32 → Int32 → Int32 → Int32 → Int32 → Int32 → Int32 → Option R8S, bd9 (some (FB F2 z2 (op + 1) x2)) G = G F2 z2.1 z2.2.1 z2.2.2.1 z2.2.2.2.1 z2.2.2.2.2.1 z2.2.2.2.2.2 (nI (op + 1)) x2 := fun G => rfl
        rw [t9, t8, op_1]
        unfold FX8_readFact_b_j78
        rw [if_neg (by decide), op_1]
        rcases hR with ⟨hB, hk⟩ | ⟨a2, b2, j2, dp2, V2, hO2, hA2, rfl, hdp2, rfl, hPr2, hF2⟩
        · rw [if_neg hB.wrong.2]
          exact ⟨_, s2, z2, F2, 1 + m2, x2, rfl, rfl, Or.inl ⟨hB, by omega⟩⟩
        · have an2 : a2 ≤ n := by
            obtain ⟨x, y, w, -, -, hK⟩ := hO2
            have := hK.1
            omega
          have z0 : z2.2.2.2.2.1 = 0 := by
            obtain ⟨x, y, w, -, rfl, -⟩ := hO2
            rfl
          rw [if_pos z0, emit_n (by omega), bd2_s]
          have g0 : ∀ t, t < 131 + 2 * (st + m2) → upd (upd F2 (131 + 2 * (st + m2)) 18) (131 + 2 * (st + m2) + 1) 0 t = F2 t := fun t ht => by rw [up_f (by omega), up_f (by omega)]
          have g5 : upd (upd F2 (131 + 2 * (st + m2)) 18) (131 + 2 * (st + m2) + 1) 0 (131 + 2 * (st + m2)) = nI 18 := by rw [up_f (by omega), up_t rfl]; rfl
          have e1 : st + m2 + 1 = st + (1 + m2) := by omega
          refine ⟨_, s2, z2, _, 1 + m2, nI (st + m2 + 1), rfl, rfl, Or.inr ⟨a2, b2, j2, dp2 + 1, notB V2, hO2, by omega, by rw [e1], by omega, rfl, Or.inr (Or.inl ⟨st + m2, e1.symm, cT_n g5 (by omega), V2, hPr2.cong (fun t h1 h2 => cT_c (g0 t h2)), rfl⟩), fun t ht => ?_⟩⟩
          rw [up_f (by omega), up_f (by omega)]
          exact hF2 t (by omega)
    rw [decide_eq_false c18] at i18
    by_cases c27 : j = 27
    · subst c27
      have hab := hKab.2.2.2.2.1 (by omega)
      unfold FX9_fact_b FX8_readFact_b FX8_readFact_b_j25
      rw [i18, bd1_s, if_pos (by decide), if_pos rfl, if_pos (by decide), if_pos rfl, if_neg (by decide), if_pos (show nI 27 = 27 from rfl)]
      by_cases c8 : op = 8
      · subst c8
        have hf := fk (j := 27) (p := 5) (by omega) (by omega)
        rw [op_full hj, bd7_s, if_neg (nz_f hf), if_pos (show nI 8 = 8 from rfl), show (5 : Int32) = nI 5 from rfl, fl_ok hj, bd2_s]
        unfold FX8_readFact_b_j39 FX9_fact_p FX9_fact_q
        rw [if_neg (nz_f hf), if_neg (nz_f hf), if_neg (nz_f hf)]
        exact ⟨none, (_, _, _, _, _, _), (_, _, _, _, _, _), F, 0, nI st, rfl, rfl, Or.inl ⟨⟨_, hf, rfl, rfl, rfl⟩, by omega⟩⟩
      · obtain ⟨A, B, J, X, Y, g1, g2, g3, g4⟩ := next_law hT hn hKab.2.1 x y
        obtain ⟨o2, s2, z2, F2, m2, x2, r9e, r8e, hR⟩ := (FP.some hT hn (hP (by omega))).1 (nI B, nI A, tkT J, X, 0, nM) (nI A, nI B, nI J, Y, 0, w) A B J F st ⟨X, Y, w, rfl, rfl, g4⟩ (by omega)
        dsimp only at r9e r8e
        rw [op_go (by omega), g2, bd4_s, bd7_s, if_pos rfl, r9e, if_neg (by rw [show (8 : Int32) = nI 8 from rfl, eq_f c8 (by omega) (by omega)]; exact id)]
        unfold FX8_readFact_b_j39
        rw [if_pos rfl, g3, bd4_s, if_neg (by decide), show nI op + 1 = nI (op + 1) from n_add op 1, r8e]
        have t9 : ∀ G : FcT → Int32 → Int32 → Int32 → Int32 → Int32 → Int32 → Int32 → Nat → Option FaR, bd9 (some (FA o2 s2 (op + 1) m2)) G = G o2 s2.1 s2.2.1 s2.2.2.1 s2.2.2.2.1 (nI (op + 1)) s2.2.2.2.2.1 s2.2.2.2.2.2 m2 := fun G => rfl
        have t8 : ∀ G : (Nat → Int32) → Int32 → Int32 → Int32 → Int32 → Int32 → Int32 → Int32 → Int32 → Option R8S, bd9 (some (FB F2 z2 (op + 1) x2)) G = G F2 z2.1 z2.2.1 z2.2.2.1 z2.2.2.2.1 z2.2.2.2.2.1 z2.2.2.2.2.2 (nI (op + 1)) x2 := fun G => rfl
        rw [t9, t8]
        unfold FX8_readFact_b_j78 FX9_fact_p FX9_fact_q
        rw [if_pos (show nI 27 = 27 from rfl), op_1]
        rcases hR with ⟨hB, hk⟩ | ⟨a2, b2, j2, dp2, V2, ⟨X2, Y2, W2, rfl, rfl, hK2⟩, hA2, rfl, hdp2, rfl, hPr2, hF2⟩
        · obtain ⟨f, hf, q1, q2, q3⟩ := id hB
          rw [if_neg hB.wrong.1, if_neg hB.wrong.1]
          have en : FX8_needs a8 z2.1 z2.2.1 (nI n) z2.2.2.1 z2.2.2.2.1 z2.2.2.2.2.1 z2.2.2.2.2.2 28 = some z2 := by
            unfold FX8_needs
            rw [q2, ea_no (is8_bad hf), bd5_s, if_pos (by decide), fl_bad hf, bd2_s, ← q2]
          rw [en, bd6_t]
          exact ⟨_, s2, z2, F2, m2, x2, rfl, rfl, Or.inl ⟨hB, by omega⟩⟩
        · have hj2 := hK2.1.2.2.2.1
          have hab2 := hK2.1
          dsimp only
          unfold FX8_needs FX8_eats
          rw [show (28 : Int32) = nI 28 from rfl, is8 hj2 (by omega), bd1_s, if_pos rfl]
          by_cases c28 : j2 = 28
          · subst c28
            have hab3 := hab2.2.2.2.2.1 (by omega)
            obtain ⟨A3, B3, J3, X3, Y3, f1, f2, f3, f4⟩ := next_law hT hn hab2.2.1 X2 Y2
            rw [if_pos (by decide), if_pos rfl, f2, if_neg (by decide), f3]
            exact ⟨_, (_, _, _, _, _, _), (_, _, _, _, _, _), F2, m2, _, rfl, rfl, Or.inr ⟨A3, B3, J3, dp2, V2, ⟨X3, Y3, W2, rfl, rfl, f4⟩, by omega, rfl, hdp2, rfl, hPr2, hF2⟩⟩
          · have hf := fk (j := j2) (p := 2) (by omega) (by omega)
            rw [if_neg (fun h => c28 (((tk_eq j2 hj2).2.2.2.2.1).mp h)), show (2 : Int32) = nI 2 from rfl, wr_ok hj2, bd2_s, if_neg (nz_f hf), decide_eq_false c28, if_pos b2f, bd5_s, if_pos b2f, fl_ok hj2, bd2_s, bd6_s]
            exact ⟨_, (_, _, _, _, _, _), (_, _, _, _, _, _), F2, m2, _, rfl, rfl, Or.inl ⟨⟨_, hf, rfl, rfl, rfl⟩, by omega⟩⟩
    have b9 : FX9_fact_b (nI n) a0 r9 (nI b) (nI a) (tkT j) x (nI op) 0 nM = FX9_fact_t0 (nI n) a0 (nI b) (nI a) (tkT j) x (nI op) 0 nM := by
      unfold FX9_fact_b
      rw [i18, bd1_s, if_pos (by decide), if_pos rfl, if_neg (fun h => c27 (((tk_eq j hj).2.2.2.1).mp h))]
    rw [b9]
    by_cases c19 : j = 19
    · subst c19; exact ask_0 hT hn hK hst
    by_cases c2 : j = 2
    · subst c2; exact ask_1 hT hn hK hst
    by_cases c20 : j = 20
    · subst c20; exact ask_2 hT hn hK hst
    by_cases c21 : j = 21
    · subst c21; exact ask_3 hT hn hK hst
    by_cases c22 : j = 22
    · subst c22; exact ask_4 hT hn hK hst
    by_cases c23 : j = 23
    · subst c23; exact ask_5 hT hn hK hst
    exact ask_no hT hn hK c18 c27 c2 (by omega)
  · rintro s z F x ⟨f, hf, q1, q2, q3⟩
    refine ⟨some (1, askB (-1) 0), ?_, ?_⟩
    · unfold FX9_fact_b FX9_fact_t0 FX9_fact_t1 FX9_fact_t2 FX9_fact_t3 FX9_fact_t4 FX9_fact_t5 FX9_fact_w FX9_fact_a FX9_fact_h FX9_fact_n
      rw [q1, is9_bad hf, bd1_s, if_pos (by decide), if_neg (nz_f hf), takes9_bad hf, bd5_s, if_pos (by decide), takes9_bad hf, bd5_s, if_pos (by decide), takes9_bad hf, bd5_s, if_pos (by decide), takes9_bad hf, bd5_s, if_pos (by decide), takes9_bad hf, bd5_s, if_pos (by decide), takes9_bad hf, bd5_s, if_pos (by decide), if_pos rfl, wr_bad hf, bd2_s, if_neg (by decide), if_neg (by decide), if_neg (by decide), if_neg (by decide), number9_bad hf, bd7_s, ← q1]
      rfl
    · unfold FX8_readFact_b
      rw [q2, if_neg (nz_f hf), ← q2]
      rfl
theorem fact_law (hT : TapeR a0 a8) (hn : n ≤ 400) : ∀ d op, op ≤ 8 → 9 ≤ d + op → FP n a0 a8 op (FX9_fact (nI n) a0 d) (FX8_readFact d) := by
  intro d
  induction d with
  | zero => intro op h1 h2; omega
  | succ d ih => intro op h1 h2; exact fact_step hT hn h1 (fun h => ih (op + 1) (by omega) (by omega))
end P86
