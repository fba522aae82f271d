set_option maxRecDepth 100000
/-! the loops by years -/
abbrev SkS : Type := Int32 × Int32 × (Nat → Int32) × (Nat → Int32) × (Nat → Int64) × (Nat → Int64) × (Nat → Int32) × (Nat → Int64) × (Nat → Int64) × (Nat → Int32) × Int32 × Int32 × Int32 × Int32
abbrev SkX : Type := (Nat → Int32) × (Nat → Int32) × (Nat → Int64) × (Nat → Int64) × (Nat → Int32) × (Nat → Int64) × (Nat → Int64) × (Nat → Int32) × Int32 × Int32 × Int32 × Int32
abbrev SgX : Type := (Nat → Int32) × (Nat → Int32) × Int32 × (Nat → Int32) × (Nat → Int64) × (Nat → Int32) × (Nat → Int32) × (Nat → Int32) × (Nat → Int32) × (Nat → Int32) × Int32 × Int32 × Int32 × Int32 × (Nat → Int64) × Int32
noncomputable def skB (nb : Int32) (bv : Nat → BvT) (u : Nat → Int32) (p4 p5 : Int32) (s : SkS) : Option (SkS ⊕ (SkX ⊕ ((Int32 × SkX) ⊕ SkX))) := FX0_seeks_b44 nb bv u p4 p5 s.1 s.2.1 s.2.2.1 s.2.2.2.1 s.2.2.2.2.1 s.2.2.2.2.2.1 s.2.2.2.2.2.2.1 s.2.2.2.2.2.2.2.1 s.2.2.2.2.2.2.2.2.1 s.2.2.2.2.2.2.2.2.2.1 s.2.2.2.2.2.2.2.2.2.2.1 s.2.2.2.2.2.2.2.2.2.2.2.1 s.2.2.2.2.2.2.2.2.2.2.2.2.1 s.2.2.2.2.2.2.2.2.2.2.2.2.2
noncomputable def sgB (all : Nat → Int32) (as p1 bk : Int32) (s : Int32 × SgX) : Option ((Int32 × SgX) ⊕ (SgX ⊕ ((Int32 × SgX) ⊕ (SgX ⊕ SgX)))) := FX8_sought_b21 all as p1 bk s.1 s.2.1 s.2.2.1 s.2.2.2.1 s.2.2.2.2.1 s.2.2.2.2.2.1 s.2.2.2.2.2.2.1 s.2.2.2.2.2.2.2.1 s.2.2.2.2.2.2.2.2.1 s.2.2.2.2.2.2.2.2.2.1 s.2.2.2.2.2.2.2.2.2.2.1 s.2.2.2.2.2.2.2.2.2.2.2.1 s.2.2.2.2.2.2.2.2.2.2.2.2.1 s.2.2.2.2.2.2.2.2.2.2.2.2.2.1 s.2.2.2.2.2.2.2.2.2.2.2.2.2.2.1 s.2.2.2.2.2.2.2.2.2.2.2.2.2.2.2.1 s.2.2.2.2.2.2.2.2.2.2.2.2.2.2.2.2
section P63
variable {all t : Nat → Int32} {T : Nat → Nat} {V : Nat → BvT} {as1 w : Nat}
theorem yr0 (ht : TwAt t T) (hW : WT T) (h114 : T 114 ≤ 8) (has : as1 < 100) (hw : w < 100) {f n0 n : Nat} {acc : Acc} {B : Nat → St} {sK sR bK bR : Nat → Int64} {sS bS : Nat → Int32} (hY : YI T f n0 acc B) (hS : CA T sK sR sS n f acc) (hb : CT bK bR bS n0 (fun j => cdS (B j))) (y : Nat) (tA tM : Nat → Int32) (tv : Int32) :
    ∃ (a m : Nat → Int32) (v : Int32) (sK1 sR1 : Nat → Int64) (sS1 : Nat → Int32) (n1 : Nat), CA T sK1 sR1 sS1 n1 f (spS T V as1 false f 6001 0 acc) ∧
      ((spS T V as1 false f 6001 0 acc).2.2 = true → skB (nI (T 114)) V t (nD w) (nD as1) (nI y, 1, tA, tM, sK, sR, sS, bK, bR, bS, nI f, tv, nI n, nI n0) = some (.inr (.inl (a, m, sK1, sR1, sS1, bK, bR, bS, nI f, v, nI n1, nI n0)))) ∧
      ((spS T V as1 false f 6001 0 acc).2.2 = false → anyS T w (spS T V as1 false f 6001 0 acc).2.1 (spS T V as1 false f 6001 0 acc).1 0 = true → ∃ (a m : Nat → Int32) (v : Int32), skB (nI (T 114)) V t (nD w) (nD as1) (nI y, 1, tA, tM, sK, sR, sS, bK, bR, bS, nI f, tv, nI n, nI n0) = some (.inr (.inr (.inl (nI y, a, m, sK1, sR1, sS1, bK, bR, bS, nI (f + (spS T V as1 false f 6001 0 acc).1), v, nI n1, nI n0))))) ∧
      ((spS T V as1 false f 6001 0 acc).2.2 = false → anyS T w (spS T V as1 false f 6001 0 acc).2.1 (spS T V as1 false f 6001 0 acc).1 0 = false → ∃ (a m : Nat → Int32) (v : Int32) (sK2 sR2 bK2 bR2 : Nat → Int64) (sS2 bS2 : Nat → Int32) (nS nB : Nat), skB (nI (T 114)) V t (nD w) (nD as1) (nI y, 1, tA, tM, sK, sR, sS, bK, bR, bS, nI f, tv, nI n, nI n0) = some (.inl (nI (y + 1), b2i (decide (n0 < nB)), a, m, sK2, sR2, sS2, bK2, bR2, bS2, nI (f + (spS T V as1 false f 6001 0 acc).1), v, nI nS, nI nB)) ∧ NI T (f + (spS T V as1 false f 6001 0 acc).1) n0 (nxS (f + (spS T V as1 false f 6001 0 acc).1) (spS T V as1 false f 6001 0 acc).2.1 (spS T V as1 false f 6001 0 acc).1 0 ((0, (spS T V as1 false f 6001 0 acc).2.1, false), n0, B)) ∧ nS = nB - n0 ∧ CB T bK2 bR2 bS2 nB (f + (spS T V as1 false f 6001 0 acc).1) n0 (nxS (f + (spS T V as1 false f 6001 0 acc).1) (spS T V as1 false f 6001 0 acc).2.1 (spS T V as1 false f 6001 0 acc).1 0 ((0, (spS T V as1 false f 6001 0 acc).2.1, false), n0, B)) ∧ n0 ≤ nB ∧ CA T sK2 sR2 sS2 nS (f + (spS T V as1 false f 6001 0 acc).1) (nxS (f + (spS T V as1 false f 6001 0 acc).1) (spS T V as1 false f 6001 0 acc).2.1 (spS T V as1 false f 6001 0 acc).1 0 ((0, (spS T V as1 false f 6001 0 acc).2.1, false), n0, B)).1) := by
  obtain ⟨a1, m1, v1, sK1, sR1, sS1, n1, e1, e2, -⟩ := closes0 (V := V) (as1 := as1) ht hW h114 has false hS hY.1 tA tM tv
  have hge := sp_ge (T := T) (V := V) (as1 := as1) (f := f) (fl := false) 6001 0 acc
  generalize spS T V as1 false f 6001 0 acc = E at *
  have e1' : FX0_closes t tA tM sK sR sS tv (nD as1) (nI n) (nI (T 114)) V (nI f) 0 = _ := e1
  have h1 : ¬ ((1 : Int32) = 0) := by decide
  refine ⟨a1, m1, v1, sK1, sR1, sS1, n1, e2, fun hE => ?_, fun hE ha => ?_, fun hE ha => ?_⟩
  · show FX0_seeks_b44 (nI (T 114)) V t (nD w) (nD as1) (nI y) 1 tA tM sK sR sS bK bR bS (nI f) tv (nI n) (nI n0) = _
    unfold FX0_seeks_b44
    rw [if_neg h1, e1', hE, bd8_s]
    rfl
  all_goals
    obtain ⟨hn1, hf1⟩ := e2.n6 hE
    have hcs : CT sK1 sR1 sS1 n1 (fun j => cdS (E.2.1 j)) := by
      rcases e2.2 with ⟨-, -, c3⟩ | ⟨c1, -⟩
      · exact c3
      · rw [hE] at c1; exact absurd c1 Bool.false_ne_true
    obtain ⟨a2, m2, v2, e3⟩ := anyDone0 (w := w) ht hW hw (show n1 ≤ 6002 by omega) (fun j hj => e2.1.2 j (by omega)) (fun j hj => hcs.2.2.1 j hj) a1 m1 v1
    rw [hn1, ha, ← hn1] at e3
    have es : nI f + nI n1 = nI (f + E.1) := by rw [n_add, hn1]
  · refine ⟨a2, m2, v2, ?_⟩
    show FX0_seeks_b44 (nI (T 114)) V t (nD w) (nD as1) (nI y) 1 tA tM sK sR sS bK bR bS (nI f) tv (nI n) (nI n0) = _
    unfold FX0_seeks_b44
    rw [if_neg h1, e1', hE, bd8_s, if_neg (by decide), e3, bd4_s, if_neg (by decide), es]
  · obtain ⟨sK2, sR2, sS2, bK2, bR2, bS2, nS, nB, e4, e5, e6, e7, e8, e9⟩ := beginsC (f := f) (f' := f + E.1) (n := n1) (n0 := n0) (B := B) hW e2 hE (by omega) hY.2.2.2.1 (by have := hY.2.2.1; omega) hb
    rw [hn1] at e5 e7 e9
    rw [← hn1] at e5 e7 e9
    refine ⟨a2, m2, v2, sK2, sR2, bK2, bR2, sS2, bS2, nS, nB, ?_, by rw [← hn1]; exact e5, e6, by rw [← hn1]; exact e7, e8, by rw [← hn1]; exact e9⟩
    show FX0_seeks_b44 (nI (T 114)) V t (nD w) (nD as1) (nI y) 1 tA tM sK sR sS bK bR bS (nI f) tv (nI n) (nI n0) = _
    unfold FX0_seeks_b44
    rw [if_neg h1, e1', hE, bd8_s, if_neg (by decide), e3, bd4_s, if_pos (by decide), e4, bd9_s, es, show nI y + 1 = nI (y + 1) from n_add y 1]
theorem yr8 (hA : AllAt all T) (hW : WT T) (hB : BarsOK all T V) (has : as1 < 100) (hw : w < 100) {f n0 mk bk : Nat} {acc : Acc} {B : Nat → St} {lies : Nat → Int64} {mt yt ym bt bm : Nat → Int32} {bg : Nat → Int64} {sp : Int32} (hY : YI T f n0 acc B) (hM : MA T lies mt yt ym mk f acc sp) (hb : BT bt bm bg bk n0 (fun j => pk (B j).1 15)) (hmk : mk + 1 < 2147483648) (hbk : bk < 2147483648) (y : Nat) (on many : Nat → Int32) (mv : Int32) (pile : Nat → Int32) :
    ∃ (on1 many1 : Nat → Int32) (mv1 : Int32) (pile1 : Nat → Int32) (lies1 : Nat → Int64) (mt1 yt1 ym1 : Nat → Int32) (sp1 : Int32), MA T lies1 mt1 yt1 ym1 mk f (spS T V as1 false f 6001 0 acc) sp1 ∧
      ((spS T V as1 false f 6001 0 acc).2.2 = true → sgB all (nD as1) (nD w) (nI bk) (nI y, on, many, mv, pile, lies, mt, yt, ym, bt, bm, nI (f + acc.1), nI f, nI mk, nI n0, bg, sp) = some (.inr (.inl (on1, many1, mv1, pile1, lies1, mt1, yt1, ym1, bt, bm, nI (f + (spS T V as1 false f 6001 0 acc).1), nI f, nI mk, nI n0, bg, sp1)))) ∧
      ((spS T V as1 false f 6001 0 acc).2.2 = false → anyS T w (spS T V as1 false f 6001 0 acc).2.1 (spS T V as1 false f 6001 0 acc).1 0 = true → ∃ (on2 many2 : Nat → Int32) (mv2 : Int32), sgB all (nD as1) (nD w) (nI bk) (nI y, on, many, mv, pile, lies, mt, yt, ym, bt, bm, nI (f + acc.1), nI f, nI mk, nI n0, bg, sp) = some (.inr (.inr (.inl (nI y, on2, many2, mv2, pile1, lies1, mt1, yt1, ym1, bt, bm, nI (f + (spS T V as1 false f 6001 0 acc).1), nI f, nI mk, nI n0, bg, sp1))))) ∧
      ((spS T V as1 false f 6001 0 acc).2.2 = false → anyS T w (spS T V as1 false f 6001 0 acc).2.1 (spS T V as1 false f 6001 0 acc).1 0 = false → ∀ x : NA, x = nxS (f + (spS T V as1 false f 6001 0 acc).1) (spS T V as1 false f 6001 0 acc).2.1 (spS T V as1 false f 6001 0 acc).1 0 ((0, (spS T V as1 false f 6001 0 acc).2.1, false), n0, B) → ∃ (on2 many2 : Nat → Int32) (mv2 : Int32) (lies2 : Nat → Int64) (mt2 yt2 ym2 bt2 bm2 : Nat → Int32) (bg2 : Nat → Int64) (sp2 : Int32), MA T lies2 mt2 yt2 ym2 (mk + 1) (f + (spS T V as1 false f 6001 0 acc).1) x.1 sp2 ∧ BT bt2 bm2 bg2 bk x.2.1 (fun j => pk (x.2.2 j).1 15) ∧ sgB all (nD as1) (nD w) (nI bk) (nI y, on, many, mv, pile, lies, mt, yt, ym, bt, bm, nI (f + acc.1), nI f, nI mk, nI n0, bg, sp) = some (if x.1.2.2 then .inr (.inr (.inr (.inr (on2, many2, mv2, pile1, lies2, mt2, yt2, ym2, bt2, bm2, nI (f + (spS T V as1 false f 6001 0 acc).1 + x.1.1), nI (f + (spS T V as1 false f 6001 0 acc).1), nI (mk + 1), nI x.2.1, bg2, sp2)))) else if 0 < x.1.1 then .inl (nI (y + 1), on2, many2, mv2, pile1, lies2, mt2, yt2, ym2, bt2, bm2, nI (f + (spS T V as1 false f 6001 0 acc).1 + x.1.1), nI (f + (spS T V as1 false f 6001 0 acc).1), nI (mk + 1), nI x.2.1, bg2, sp2) else .inr (.inr (.inr (.inl (on2, many2, mv2, pile1, lies2, mt2, yt2, ym2, bt2, bm2, nI (f + (spS T V as1 false f 6001 0 acc).1 + x.1.1), nI (f + (spS T V as1 false f 6001 0 acc).1), nI (mk + 1), nI x.2.1, bg2, sp2)))))) := by
  obtain ⟨on1, many1, mv1, pile1, lies1, mt1, yt1, ym1, sp1, e1, e2, -⟩ := spreads8 (V := V) (as1 := as1) hA hW hB has false (show mk < 2147483648 by omega) hM on many mv pile
  have hge := sp_ge (T := T) (V := V) (as1 := as1) (f := f) (fl := false) 6001 0 acc
  generalize spS T V as1 false f 6001 0 acc = E at *
  have e1' : FX8_spreads all on many mv pile (nD as1) lies mt yt ym (nI (f + acc.1)) (nI f) (nI mk) sp 0 = _ := e1
  have hsp := e2.2.2
  refine ⟨on1, many1, mv1, pile1, lies1, mt1, yt1, ym1, sp1, e2, fun hE => ?_, fun hE ha => ?_, fun hE ha x hx => ?_⟩
  · show FX8_sought_b21 all (nD as1) (nD w) (nI bk) (nI y) on many mv pile lies mt yt ym bt bm (nI (f + acc.1)) (nI f) (nI mk) (nI n0) bg sp = _
    rw [hE] at hsp
    unfold FX8_sought_b21
    rw [e1', bd10_s, if_neg (by rw [hsp]; decide)]
  all_goals
    rw [hE, if_neg Bool.false_ne_true] at hsp
    have hr : ∀ j, j < E.1 → lies1 (f + j) = lN (pk (E.2.1 j).1 15) ∧ mt1 (f + j) = nI (E.2.1 j).2.2 := fun j hj => ⟨(e2.2.1.2.1 j hj).2.2.1, (e2.2.1.2.1 j hj).2.2.2⟩
    obtain ⟨on2, many2, mv2, e3⟩ := anyDone8 (w := w) hA hW hw e2.1.1 e2.1.2 hr E.1 0 on1 many1 mv1 (by omega)
    rw [ha] at e3
    have e3' : loopC (fun (s : Int32 × (Nat → Int32) × (Nat → Int32) × Int32) => FX8_sought_b41 all (nD w) lies1 mt1 (nI (f + E.1)) s.1 s.2.1 s.2.2.1 s.2.2.2) (nI f, on1, many1, mv1) = _ := e3
  · refine ⟨on2, many2, mv2, ?_⟩
    show FX8_sought_b21 all (nD as1) (nD w) (nI bk) (nI y) on many mv pile lies mt yt ym bt bm (nI (f + acc.1)) (nI f) (nI mk) (nI n0) bg sp = _
    unfold FX8_sought_b21
    rw [e1', bd10_s, if_pos hsp, e3']
    rfl
  · obtain ⟨lies2, mt2, yt2, ym2, bt2, bm2, bg2, sp2, e4, e5, e6, -⟩ := nextM (f := f) (f' := f + E.1) (n0 := n0) (m1 := mk) (bk := bk) hW e2 hE rfl hY.2.2.2.1 (by have := hY.2.2.1; omega) hb hmk hbk
    rw [← hx] at e4 e5 e6
    have hsp2 := e5.2.2
    refine ⟨on2, many2, mv2, lies2, mt2, yt2, ym2, bt2, bm2, bg2, sp2, e5, e6, ?_⟩
    show FX8_sought_b21 all (nD as1) (nD w) (nI bk) (nI y) on many mv pile lies mt yt ym bt bm (nI (f + acc.1)) (nI f) (nI mk) (nI n0) bg sp = _
    unfold FX8_sought_b21
    rw [e1', bd10_s, if_pos hsp, e3']
    simp only [Bool.false_eq_true, if_false, bdS2_1, un3_s]
    rw [e4, bd13_s]
    cases hs : x.1.2.2 with
    | true =>
      rw [hs] at hsp2
      rw [Bool.or_true, if_neg (by decide), if_neg (by rw [hsp2]; decide)]
      rfl
    | false =>
      rw [hs] at hsp2
      rw [Bool.or_false]
      by_cases c : 0 < x.1.1
      · rw [decide_eq_true c, if_neg (by decide), if_pos (show sp2 = 0 from hsp2), if_neg Bool.false_ne_true, if_pos c, show nI y + 1 = nI (y + 1) from n_add y 1]
      · rw [decide_eq_false c, if_pos (by decide), if_neg Bool.false_ne_true, if_neg c]
end P63
