set_option maxRecDepth 100000
abbrev S0R : Type := Int32 × (Nat → Int32) × (Nat → Int32) × (Nat → Int64) × (Nat → Int64) × (Nat → Int32) × (Nat → Int64) × (Nat → Int64) × (Nat → Int32) × Int32 × Int32 × Int32 × Int32 × Int32
abbrev S8R : Type := Int32 × (Nat → Int32) × (Nat → Int32) × Int32 × (Nat → Int32) × (Nat → Int64) × (Nat → Int32) × (Nat → Int32) × (Nat → Int32) × (Nat → Int32) × (Nat → Int32) × Int32 × Int32 × Int32 × Int32 × Int32 × (Nat → Int64) × Int32
noncomputable def skE (p5 : Int32) (o : Option (SkX ⊕ ((Int32 × SkX) ⊕ SkX))) : Option S0R := bdS3 o
  (un12 fun tA tM sK sR sS bK bR bS so tv sM bM => some ((-4), tA, tM, sK, sR, sS, bK, bR, bS, so, tv, p5, sM, bM))
  (un13 fun x tA tM sK sR sS bK bR bS so tv sM bM => some (x, tA, tM, sK, sR, sS, bK, bR, bS, so, tv, p5, sM, bM))
  (un12 fun tA tM sK sR sS bK bR bS so tv sM bM => some ((-1), tA, tM, sK, sR, sS, bK, bR, bS, so, tv, p5, sM, bM))
noncomputable def sgE (bk : Int32) (o : Option (SgX ⊕ ((Int32 × SgX) ⊕ (SgX ⊕ SgX)))) : Option S8R := bdS4 o
  (un16 fun on many mv pile lies mt yt ym bt bm fo yf mk nb bg sp => some ((-4), on, many, mv, pile, lies, mt, yt, ym, bt, bm, fo, yf, mk, bk, nb, bg, sp))
  (un17 fun x on many mv pile lies mt yt ym bt bm fo yf mk nb bg sp => some (x, on, many, mv, pile, lies, mt, yt, ym, bt, bm, fo, yf, mk, bk, nb, bg, sp))
  (un16 fun on many mv pile lies mt yt ym bt bm fo yf mk nb bg sp => some ((-1), on, many, mv, pile, lies, mt, yt, ym, bt, bm, fo, yf, mk, bk, nb, bg, sp))
  (un16 fun on many mv pile lies mt yt ym bt bm fo yf mk nb bg sp => some ((-4), on, many, mv, pile, lies, mt, yt, ym, bt, bm, fo, yf, mk, bk, nb, bg, sp))
/-- both searches answer alike, their tables are ready for the next one -/
def SO (mk bk d : Nat) (p5 : Int32) (o0 : Option S0R) (o8 : Option S8R) : Prop :=
  ∃ (r so fo : Int32) (tA tM : Nat → Int32) (sK sR : Nat → Int64) (sS : Nat → Int32) (bK bR : Nat → Int64) (bS : Nat → Int32) (tv sM bM : Int32) (on many : Nat → Int32) (mv : Int32) (pile : Nat → Int32) (lies : Nat → Int64) (mt yt ym bt bm : Nat → Int32) (yf : Int32) (mk' bk' : Nat) (nb : Int32) (bg : Nat → Int64) (sp : Int32),
    o0 = some (r, tA, tM, sK, sR, sS, bK, bR, bS, so, tv, p5, sM, bM) ∧ o8 = some (r, on, many, mv, pile, lies, mt, yt, ym, bt, bm, fo, yf, nI mk', nI bk', nb, bg, sp) ∧
    TabC sK sR sS bK bR bS sM bM ∧ TabM lies mt yt ym bt bm bg mk' bk' ∧ (r = -4 ∨ so = fo) ∧ (mk' ≤ mk + d ∧ bk' ≤ bk + d)
theorem SO.mk {mk bk d : Nat} {p5 : Int32} {o0 : Option S0R} {o8 : Option S8R} {r so fo : Int32} {tA tM : Nat → Int32} {sK sR : Nat → Int64} {sS : Nat → Int32} {bK bR : Nat → Int64} {bS : Nat → Int32} {tv sM bM : Int32} {on many : Nat → Int32} {mv : Int32} {pile : Nat → Int32} {lies : Nat → Int64} {mt yt ym bt bm : Nat → Int32} {yf : Int32} {mk' bk' : Nat} {nb : Int32} {bg : Nat → Int64} {sp : Int32}
    (h1 : o0 = some (r, tA, tM, sK, sR, sS, bK, bR, bS, so, tv, p5, sM, bM)) (h2 : o8 = some (r, on, many, mv, pile, lies, mt, yt, ym, bt, bm, fo, yf, nI mk', nI bk', nb, bg, sp)) (h3 : TabC sK sR sS bK bR bS sM bM) (h4 : TabM lies mt yt ym bt bm bg mk' bk') (h5 : r = -4 ∨ so = fo) (h6 : mk' ≤ mk + d) (h7 : bk' ≤ bk + d) : SO mk bk d p5 o0 o8 :=
  ⟨r, so, fo, tA, tM, sK, sR, sS, bK, bR, bS, tv, sM, bM, on, many, mv, pile, lies, mt, yt, ym, bt, bm, yf, mk', bk', nb, bg, sp, h1, h2, h3, h4, h5, h6, h7⟩
section P64
variable {all t : Nat → Int32} {T : Nat → Nat} {V : Nat → BvT} {as1 w : Nat}
theorem YI.sp {f n0 : Nat} {acc : Acc} {B : Nat → St} (h : YI T f n0 acc B) (hE : (spS T V as1 false f 6001 0 acc).2.2 = false) : YI T f n0 (spS T V as1 false f 6001 0 acc) B := by
  have hge := sp_ge (T := T) (V := V) (as1 := as1) (f := f) (fl := false) 6001 0 acc
  obtain ⟨h1, h2, h3, h4, h5⟩ := h
  refine ⟨hE, by omega, by omega, h4, fun z => ?_⟩
  rw [sp_Z z]
  exact h5 z
theorem yrs (ht : TwAt t T) (hA : AllAt all T) (hW : WT T) (hB : BarsOK all T V) (has : as1 < 100) (hw : w < 100) {bk : Nat} (hbk : bk < 2147483648) : ∀ d y f n0 n mk (acc : Acc) (B : Nat → St) (tA tM : Nat → Int32) (tv : Int32) (sK sR : Nat → Int64) (sS : Nat → Int32) (bK bR : Nat → Int64) (bS : Nat → Int32) (on many : Nat → Int32) (mv : Int32) (pile : Nat → Int32) (lies : Nat → Int64) (mt yt ym bt bm : Nat → Int32) (bg : Nat → Int64) (sp : Int32), 6000 ≤ f + d → YI T f n0 acc B → CA T sK sR sS n f acc → CT bK bR bS n0 (fun j => cdS (B j)) → MA T lies mt yt ym mk f acc sp → BT bt bm bg bk n0 (fun j => pk (B j).1 15) → mk + d < 2147483648 →
    SO mk bk d (nD as1) (skE (nD as1) (loopC (skB (nI (T 114)) V t (nD w) (nD as1)) (nI y, 1, tA, tM, sK, sR, sS, bK, bR, bS, nI f, tv, nI n, nI n0))) (sgE (nI bk) (loopC (sgB all (nD as1) (nD w) (nI bk)) (nI y, on, many, mv, pile, lies, mt, yt, ym, bt, bm, nI (f + acc.1), nI f, nI mk, nI n0, bg, sp))) := by
  intro d
  induction d with
  | zero =>
    intro y f n0 n mk acc B tA tM tv sK sR sS bK bR bS on many mv pile lies mt yt ym bt bm bg sp hd hY hS hcb hM hbb hmk
    have := hM.1.1
    have := hY.2.1
    omega
  | succ d ih =>
    intro y f n0 n mk acc B tA tM tv sK sR sS bK bR bS on many mv pile lies mt yt ym bt bm bg sp hd hY hS hcb hM hbb hmk
    obtain ⟨a1, m1, v1, sK1, sR1, sS1, n1, c1, c2, c3, c4⟩ := yr0 (V := V) (as1 := as1) (w := w) ht hW hB.1 has hw hY hS hcb y tA tM tv
    obtain ⟨on1, many1, mv1, pile1, lies1, mt1, yt1, ym1, sp1, d1, d2, d3, d4⟩ := yr8 (V := V) (as1 := as1) (w := w) hA hW hB has hw hY hM hbb (by omega) hbk y on many mv pile
    have hYE := hY.sp (V := V) (as1 := as1)
    have hge := sp_ge (T := T) (V := V) (as1 := as1) (f := f) (fl := false) 6001 0 acc
    generalize spS T V as1 false f 6001 0 acc = E at *
    cases hE : E.2.2 with
    | true => exact SO.mk (congrArg (skE (nD as1)) (loopC_inr (c2 hE))) (congrArg (sgE (nI bk)) (loopC_inr (d2 hE))) (TabC.of c1.ct ⟨_, hcb⟩) (TabM.of d1 hbb) (Or.inl rfl) (by omega) (by omega)
    | false =>
      cases ha : anyS T w E.2.1 E.1 0 with
      | true =>
        obtain ⟨a2, m2, v2, e2⟩ := c3 hE ha
        obtain ⟨on2, many2, mv2, f2⟩ := d3 hE ha
        exact SO.mk (congrArg (skE (nD as1)) (loopC_inr e2)) (congrArg (sgE (nI bk)) (loopC_inr f2)) (TabC.of c1.ct ⟨_, hcb⟩) (TabM.of d1 hbb) (Or.inr rfl) (by omega) (by omega)
      | false =>
        obtain ⟨a2, m2, v2, sK2, sR2, bK2, bR2, sS2, bS2, nS, nB, e2, e3, e4, e5, e6, e7⟩ := c4 hE ha
        obtain ⟨on2, many2, mv2, lies2, mt2, yt2, ym2, bt2, bm2, bg2, sp2, f3, f4, f2⟩ := d4 hE ha _ rfl
        have hYE := hYE hE
        have hf := d1.1.1
        have hz := hYE.z
        have hnx := hYE.next hf
        generalize hx : nxS (f + E.1) E.2.1 E.1 0 ((0, E.2.1, false), n0, B) = x at *
        cases ho : x.1.2.2 with
        | true =>
          have h01 : 1 ≤ T 0 := by
            by_cases c : T 0 = 0
            · have := (hz c hf).1
              rw [ho] at this
              exact absurd this.symm Bool.false_ne_true
            · omega
          have hlt : n0 < nB := by
            rcases e5 with ⟨z, -⟩ | ⟨-, z1, z2, -⟩
            · rw [ho] at z; exact absurd z.symm Bool.false_ne_true
            · omega
          rw [decide_eq_true hlt] at e2
          rw [ho, if_pos rfl] at f2
          obtain ⟨a3, m3, v3, g1⟩ := closesO (V := V) (as1 := as1) ht hW hB.1 has h01 0 e7 ho hf a2 m2 v2
          have g2 : skB (nI (T 114)) V t (nD w) (nD as1) (nI (y + 1), b2i true, a2, m2, sK2, sR2, sS2, bK2, bR2, bS2, nI (f + E.1), v2, nI nS, nI nB) = some (.inr (.inl (a3, m3, sK2, sR2, sS2, bK2, bR2, bS2, nI (f + E.1), v3, nI nS, nI nB))) := by
            show FX0_seeks_b44 (nI (T 114)) V t (nD w) (nD as1) (nI (y + 1)) (b2i true) a2 m2 sK2 sR2 sS2 bK2 bR2 bS2 (nI (f + E.1)) v2 (nI nS) (nI nB) = _
            unfold FX0_seeks_b44
            rw [if_neg (by decide), g1, bd8_s]
            rfl
          exact SO.mk (congrArg (skE (nD as1)) ((loopC_inl e2).trans (loopC_inr g2))) (congrArg (sgE (nI bk)) (loopC_inr f2)) (TabC.of e7.ct e5.ct) (TabM.of f3 f4) (Or.inl rfl) (by omega) (by omega)
        | false =>
          rw [ho, if_neg Bool.false_ne_true] at f2
          have hnB : nB = x.2.1 ∧ CT bK2 bR2 bS2 nB (fun j => cdS (x.2.2 j)) := by
            rcases e5 with ⟨-, z1, z2⟩ | ⟨z, -⟩
            · exact ⟨z1, z2⟩
            · rw [ho] at z; exact absurd z Bool.false_ne_true
          have hx1 : x.2.1 = n0 + x.1.1 := by
            rcases e3.2.2.2.2 with ⟨-, z⟩ | ⟨z, -⟩
            · exact z
            · rw [ho] at z; exact absurd z Bool.false_ne_true
          obtain ⟨rfl, hcb2⟩ := hnB
          by_cases c : 0 < x.1.1
          · rw [if_pos c] at f2
            rw [decide_eq_true (show n0 < x.2.1 by omega)] at e2
            have hih := ih (y + 1) (f + E.1) x.2.1 nS (mk + 1) x.1 x.2.2 a2 m2 v2 sK2 sR2 sS2 bK2 bR2 bS2 on2 many2 mv2 pile1 lies2 mt2 yt2 ym2 bt2 bm2 bg2 sp2 (by have := hYE.2.1; omega) (hnx x rfl e3 ho c) e7 hcb2 f3 f4 (by omega)
            rw [loopC_inl e2, loopC_inl f2]
            obtain ⟨r, so, fo, tA', tM', sK', sR', sS', bK', bR', bS', tv', sM', bM', on', many', mv', pile', lies', mt', yt', ym', bt', bm', yf', mk', bk', nb', bg', sp', q1, q2, q3, q4, q5, q6, q7⟩ := hih
            exact SO.mk q1 q2 q3 q4 q5 (by omega) (by omega)
          · rw [if_neg c] at f2
            have h0 : x.1.1 = 0 := by omega
            rw [decide_eq_false (show ¬ n0 < x.2.1 by omega)] at e2
            have g2 : skB (nI (T 114)) V t (nD w) (nD as1) (nI (y + 1), b2i false, a2, m2, sK2, sR2, sS2, bK2, bR2, bS2, nI (f + E.1), v2, nI nS, nI x.2.1) = some (.inr (.inr (.inr (a2, m2, sK2, sR2, sS2, bK2, bR2, bS2, nI (f + E.1), v2, nI nS, nI x.2.1)))) := by
              show FX0_seeks_b44 (nI (T 114)) V t (nD w) (nD as1) (nI (y + 1)) (b2i false) a2 m2 sK2 sR2 sS2 bK2 bR2 bS2 (nI (f + E.1)) v2 (nI nS) (nI x.2.1) = _
              unfold FX0_seeks_b44
              rw [if_pos (show b2i false = 0 from rfl)]
            exact SO.mk (congrArg (skE (nD as1)) ((loopC_inl e2).trans (loopC_inr g2))) (congrArg (sgE (nI bk)) (loopC_inr f2)) (TabC.of e7.ct ⟨_, hcb2⟩) (TabM.of f3 f4) (Or.inr (by rw [h0, Nat.add_zero])) (by omega) (by omega)
/-- seeks against sought, from one state -/
theorem sought_law (ht : TwAt t T) (hA : AllAt all T) (hW : WT T) (hB : BarsOK all T V) (has : as1 < 100) (hw : w < 100) {s : St} (hs : VS T s) {on many : Nat → Int32} (hon : OnAt on many s.1 s.2.1) {sK sR bK bR : Nat → Int64} {sS bS : Nat → Int32} {sM bM : Int32} (hC : TabC sK sR sS bK bR bS sM bM) {lies : Nat → Int64} {mt yt ym bt bm : Nat → Int32} {bg : Nat → Int64} {mk bk : Nat} (hT : TabM lies mt yt ym bt bm bg mk bk) (hmk : mk + 7000 < 2147483648) (hbk : bk + 7000 < 2147483648) (tA tM : Nat → Int32) (pile : Nat → Int32) (yf nb sp : Int32) :
    SO mk bk 6001 (nD as1) (FX0_seeks t tA tM sK sR sS bK bR bS sM bM (nI (T 114)) V (lN (cdS s)) (nD w) (nD as1)) (FX8_sought all on many (nI s.2.2) pile (nD as1) lies mt yt ym bt bm yf (nI mk) (nI bk) nb bg sp (nD w)) := by
  obtain ⟨n, nb0, cs, cb, h1, h2, rfl, rfl⟩ := hC
  obtain ⟨a1, m1, e1, hat⟩ := lays4 ht hW hs.1 hs.2 tA tM
  have e1' : FX4_lays t tA tM (lN (cdS s)) = some (a1, m1, nI s.2.2) := e1
  have e2 := isDone4 ht hat hW hs.1 hw
  have f2 := isDone8 hA hon hW hs.1 hw
  unfold FX0_seeks FX8_sought
  rw [e1', bd3_s, e2, bd1_s, f2, bd1_s]
  cases hd : doR T s.1 s.2.1 w (T 0) 0 with
  | true => exact SO.mk rfl rfl ⟨n, nb0, cs, cb, h1, h2, rfl, rfl⟩ hT (Or.inr rfl) (by omega) (by omega)
  | false =>
    obtain ⟨sK1, sR1, sS1, bK1, bR1, bS1, nb1, g1, g2, g3, g4⟩ := opens0 hW hs h1 h2
    obtain ⟨lies1, mt1, yt1, ym1, bt1, bm1, bg1, nb2, k1, k2, k3, k4⟩ := starts8' hW hs hon hT.1 hT.2 (by omega) (by omega)
    obtain rfl : nb2 = nb1 := by rw [k3, g3]
    have hY : YI T 0 nb2 (one1 s) (fun _ => rsS s) := by
      refine ⟨rfl, Nat.le_refl _, ?_, fun j hj => ⟨hs.rs, rfl⟩, fun z => ⟨Nat.le_refl _, Or.inl rfl⟩⟩
      show nb2 ≤ 0 + 1
      rw [g3]
      split <;> omega
    have g4' : CT bK1 bR1 bS1 nb2 (fun _ => cdS (rsS s)) := by
      by_cases c : s.2.2 = 0
      · have : cdS (rsS s) = cdS s := by unfold cdS rsS; rw [c]
        rw [this]
        exact g4
      · rw [g3, if_neg c] at g4 ⊢
        exact g4.cong (fun j hj => absurd hj (Nat.not_lt_zero j))
    rw [if_pos (show b2i false = 0 from rfl), if_pos (show b2i false = 0 from rfl), g1, bd9_s, k1, bd13_s]
    have := yrs (V := V) (as1 := as1) (w := w) ht hA hW hB has hw (show bk + 1 < 2147483648 by omega) 6000 1 0 nb2 1 (mk + 1) (one1 s) (fun _ => rsS s) a1 m1 (nI s.2.2) sK1 sR1 sS1 bK1 bR1 bS1 on many (nI s.2.2) pile lies1 mt1 yt1 ym1 bt1 bm1 bg1 0 (by omega) hY g2 g4' k2 k4 (by omega)
    obtain ⟨r, so, fo, tA', tM', sK', sR', sS', bK', bR', bS', tv', sM', bM', on', many', mv', pile', lies', mt', yt', ym', bt', bm', yf', mk', bk', nb', bg', sp', q1, q2, q3, q4, q5, q6, q7⟩ := this
    exact SO.mk (show skE (nD as1) (loopC (skB (nI (T 114)) V t (nD w) (nD as1)) (nI 1, 1, a1, m1, sK1, sR1, sS1, bK1, bR1, bS1, nI 0, nI s.2.2, nI 1, nI nb2)) = _ from q1) (show sgE (nI (bk + 1)) (loopC (sgB all (nD as1) (nD w) (nI (bk + 1))) (nI 1, on, many, nI s.2.2, pile, lies1, mt1, yt1, ym1, bt1, bm1, nI (0 + 1), nI 0, nI (mk + 1), nI nb2, bg1, 0)) = _ from q2) q3 q4 q5 (by omega) (by omega)
end P64
