set_option maxRecDepth 100000
section P66
variable {all t ca la on many tA tM pile : Nat → Int32} {T M : Nat → Nat} {V : Nat → BvT} {lies : Int64} {year : Int32} {sK sR bK bR l8 bg : Nat → Int64} {sS bS mt yt ym bt bm : Nat → Int32} {sM bM : Int32} {mk bk : Nat}
theorem canBe_law (h : Cur T M V all t lies ca la year) (hC : TabC sK sR sS bK bR bS sM bM) (hT : TabM l8 mt yt ym bt bm bg mk bk) (hmk : mk + 7000 < 2147483648) (hbk : bk + 7000 < 2147483648) (on many : Nat → Int32) (pile tA tM : Nat → Int32) (tv : Int32) {w : Nat} (hw : w < 100) : ∃ (ans so' fo' tv' sM' bM' : Int32) (tA' tM' : Nat → Int32) (sK' sR' : Nat → Int64) (sS' : Nat → Int32) (bK' bR' : Nat → Int64) (bS' : Nat → Int32) (on' many' : Nat → Int32) (mv' : Int32) (pile' : Nat → Int32) (l8' : Nat → Int64) (mt' yt' ym' bt' bm' : Nat → Int32) (yf' : Int32) (mk' bk' : Nat) (nb' : Int32) (bg' : Nat → Int64) (sp' : Int32), FX0_canBe tA tM sK sR sS bK bR bS tv sM bM lies t (nI (T 114)) V (nD w) = some (ans, tA', tM', sK', sR', sS', bK', bR', bS', so', tv', nM, sM', bM') ∧ FX8_canBe all on many pile nM l8 mt yt ym bt bm (nI mk) (nI bk) bg (nD w) = some (ans, on', many', mv', pile', l8', mt', yt', ym', bt', bm', fo', yf', nI mk', nI bk', nb', bg', sp') ∧ TabC sK' sR' sS' bK' bR' bS' sM' bM' ∧ TabM l8' mt' yt' ym' bt' bm' bg' mk' bk' ∧ mk' ≤ mk + 6001 ∧ bk' ≤ bk + 6001 ∧ (ans = 1 ∨ ans = 0 ∨ ans = -4) := by
  obtain ⟨⟨hW, hS, hm, hy, hB⟩, hA, ht, rfl, hc, hla, rfl⟩ := h
  obtain ⟨n, nb0, cs, cb, h1, h2, rfl, rfl⟩ := hC
  have hs : VS T ((fun p => T (80 + p)), M, 0) := ⟨hS, by show 0 < 256; omega⟩
  obtain ⟨o1, m1, e1, hon⟩ := looksNow8 hA hW hS on many
  have er := resting_n (O := fun p => T (80 + p)) hm
  obtain ⟨sK1, sR1, sS1, bK1, bR1, bS1, nb1, g1, g2, g3, g4⟩ := opens0 hW hs h1 h2
  obtain ⟨lies1, mt1, yt1, ym1, bt1, bm1, bg1, nb2, k1, k2, k3, k4⟩ := starts8' hW hs hon hT.1 hT.2 (by omega) (by omega)
  obtain ⟨a2, m2, v2, sK2, sR2, sS2, n2, f1, f2, -⟩ := closes0 (V := V) (as1 := 0) ht hW hB.1 (by omega) true g2 rfl tA tM tv
  obtain ⟨on3, many3, mv3, pile3, lies3, mt3, yt3, ym3, sp3, j1, j2, -⟩ := spreads8 (V := V) (as1 := 0) hA hW (hB.ok hA hW) (by omega) true (show mk + 1 < 2147483648 by omega) k2 o1 m1 0 pile
  generalize spS T V 0 true 0 6001 0 (one1 ((fun p => T (80 + p)), M, 0)) = E at *
  have hsp := j2.2.2
  have g1' : FX0_opens sK sR sS bK bR bS (nI n) (nI nb0) (lN (enc (fun p => T (80 + p)) 0)) = _ := g1
  have k1' : FX8_startsYears o1 0 l8 mt yt ym bt bm (nI mk) (nI bk) bg = _ := k1
  have f1' : FX0_closes t tA tM sK1 sR1 sS1 tv (-1) (nI 1) (nI (T 114)) V 0 1 = _ := f1
  have j1' : FX8_spreads all o1 m1 0 pile nM lies1 mt1 yt1 ym1 (nI 1) 0 (nI (mk + 1)) 0 1 = _ := j1
  cases hE : E.2.2 with
  | true =>
    rw [hE] at hsp f1'
    refine ⟨-4, 0, nI (0 + E.1), v2, nI n2, nI nb1, a2, m2, sK2, sR2, sS2, bK1, bR1, bS1, on3, many3, mv3, pile3, lies3, mt3, yt3, ym3, bt1, bm1, 0, mk + 1, bk + 1, nI nb2, bg1, sp3, ?_, ?_, TabC.of f2.ct ⟨_, g4⟩, TabM.of j2 k4, by omega, by omega, Or.inr (Or.inr rfl)⟩
    · unfold FX0_canBe
      rw [er, bd1_s, g1', bd9_s, f1', bd8_s]
      rfl
    · unfold FX8_canBe
      rw [e1, bd3_s, k1', bd13_s, j1', bd10_s, if_neg (by rw [hsp]; decide)]
  | false =>
    rw [hE] at f1'
    rw [hE, if_neg Bool.false_ne_true] at hsp
    obtain ⟨hn1, hf1⟩ := f2.n6 hE
    have hcs : CT sK2 sR2 sS2 n2 (fun j => cdS (E.2.1 j)) := by
      rcases f2.2 with ⟨-, -, c3⟩ | ⟨c1, -⟩
      · exact c3
      · rw [hE] at c1; exact absurd c1 Bool.false_ne_true
    obtain ⟨a4, m4, v4, i1⟩ := anyDone0 (w := w) ht hW hw (show n2 ≤ 6002 by omega) (fun j hj => f2.1.2 j (by omega)) (fun j hj => hcs.2.2.1 j hj) a2 m2 v2
    rw [hn1, ← hn1] at i1
    have hr : ∀ j, j < E.1 → lies3 j = lN (pk (E.2.1 j).1 15) := fun j hj => by have := (j2.2.1.2.1 j hj).2.2.1; rw [Nat.zero_add] at this; exact this
    obtain ⟨on4, many4, mv4, i2⟩ := anyDoneB8 (w := w) hA hW hw (show E.1 ≤ 6000 by omega) j2.1.2 hr E.1 0 on3 many3 mv3 (by omega)
    have i2' : loopC (fun (s : Int32 × (Nat → Int32) × (Nat → Int32) × Int32) => FX8_canBe_b30 all (nD w) lies3 (nI (0 + E.1)) s.1 s.2.1 s.2.2.1 s.2.2.2) (0, on3, many3, mv3) = some (if anyS T w E.2.1 E.1 0 = true then .inl (on4, many4, mv4) else .inr (on4, many4, mv4)) := by rw [Nat.zero_add]; exact i2
    rw [hn1] at i1
    cases hd : anyS T w E.2.1 E.1 0 with
    | true =>
      rw [hd] at i1 i2'
      refine ⟨1, 0, nI (0 + E.1), v4, nI n2, nI nb1, a4, m4, sK2, sR2, sS2, bK1, bR1, bS1, on4, many4, mv4, pile3, lies3, mt3, yt3, ym3, bt1, bm1, 0, mk + 1, bk + 1, nI nb2, bg1, sp3, ?_, ?_, TabC.of f2.ct ⟨_, g4⟩, TabM.of j2 k4, by omega, by omega, Or.inl rfl⟩
      · unfold FX0_canBe
        rw [er, bd1_s, g1', bd9_s, f1', bd8_s, if_neg (by decide), hn1, i1, bd4_s, if_neg (by decide)]
        rfl
      · unfold FX8_canBe
        rw [e1, bd3_s, k1', bd13_s, j1', bd10_s, if_pos hsp, i2']
        rfl
    | false =>
      rw [hd] at i1 i2'
      refine ⟨0, 0, nI (0 + E.1), v4, nI n2, nI nb1, a4, m4, sK2, sR2, sS2, bK1, bR1, bS1, on4, many4, mv4, pile3, lies3, mt3, yt3, ym3, bt1, bm1, 0, mk + 1, bk + 1, nI nb2, bg1, sp3, ?_, ?_, TabC.of f2.ct ⟨_, g4⟩, TabM.of j2 k4, by omega, by omega, Or.inr (Or.inl rfl)⟩
      · unfold FX0_canBe
        rw [er, bd1_s, g1', bd9_s, f1', bd8_s, if_neg (by decide), hn1, i1, bd4_s, if_pos (show b2i false = 0 from rfl)]
        rfl
      · unfold FX8_canBe
        rw [e1, bd3_s, k1', bd13_s, j1', bd10_s, if_pos hsp, i2']
        rfl
theorem can_law (h : Cur T M V all t lies ca la year) (hC : TabC sK sR sS bK bR bS sM bM) (hT : TabM l8 mt yt ym bt bm bg mk bk) (hmk : mk + 7000 < 2147483648) (hbk : bk + 7000 < 2147483648) (on many : Nat → Int32) (mv : Int32) (pile tA tM : Nat → Int32) (so tv tw fo yf nb sp p : Int32) : ∃ (ans so' fo' tv' tw' sM' bM' : Int32) (tA' tM' : Nat → Int32) (sK' sR' : Nat → Int64) (sS' : Nat → Int32) (bK' bR' : Nat → Int64) (bS' : Nat → Int32) (on' many' : Nat → Int32) (mv' : Int32) (pile' : Nat → Int32) (l8' : Nat → Int64) (mt' yt' ym' bt' bm' : Nat → Int32) (yf' : Int32) (mk' bk' : Nat) (nb' : Int32) (bg' : Nat → Int64) (sp' : Int32), FX0_can tA tM sK sR sS bK bR bS so tv tw sM bM lies t (nI (T 114)) V p = some (ans, tA', tM', sK', sR', sS', bK', bR', bS', so', tv', tw', sM', bM') ∧ FX8_can all on many mv pile nM l8 mt yt ym bt bm fo yf (nI mk) (nI bk) nb bg sp p = some (ans, on', many', mv', pile', l8', mt', yt', ym', bt', bm', fo', yf', nI mk', nI bk', nb', bg', sp') ∧ TabC sK' sR' sS' bK' bR' bS' sM' bM' ∧ TabM l8' mt' yt' ym' bt' bm' bg' mk' bk' ∧ mk' ≤ mk + 6001 ∧ bk' ≤ bk + 6001 := by
  have h0 := h
  obtain ⟨⟨hW, hS, hm, hy, hB⟩, hA, ht, hl, hc, hla, rfl⟩ := h
  rcases who p with ⟨w, hw, rfl⟩ | hp
  · obtain ⟨r, so2, fo2, tv2, sM2, bM2, tA2, tM2, sK2, sR2, sS2, bK2, bR2, bS2, on2, many2, mv2, pile2, l82, mt2, yt2, ym2, bt2, bm2, yf2, mk2, bk2, nb2, bg2, sp2, q1, q2, q3, q4, q5, q6, q7⟩ := canBe_law h0 hC hT hmk hbk on many pile tA tM tv (show w < 100 by omega)
    refine ⟨r, so2, fo2, tv2, nM, sM2, bM2, tA2, tM2, sK2, sR2, sS2, bK2, bR2, bS2, on2, many2, mv2, pile2, l82, mt2, yt2, ym2, bt2, bm2, yf2, mk2, bk2, nb2, bg2, sp2, ?_, ?_, q3, q4, q5, q6⟩
    · unfold FX0_can
      rw [isWho4, who_t hw, bd1_s, if_neg (by decide), q1, bd14_s]
    · unfold FX8_can
      rw [isWho8, who_t hw, bd1_s, if_neg (by decide), q2, bd18_s]
  · refine ⟨-2, so, fo, tv, tw, sM, bM, tA, tM, sK, sR, sS, bK, bR, bS, on, many, mv, pile, l8, mt, yt, ym, bt, bm, yf, mk, bk, nb, bg, sp, ?_, ?_, hC, hT, by omega, by omega⟩
    · unfold FX0_can
      rw [isWho4, decide_eq_false hp, bd1_s, if_pos (show b2i false = 0 from rfl)]
    · unfold FX8_can
      rw [isWho8, decide_eq_false hp, bd1_s, if_pos (show b2i false = 0 from rfl)]
theorem why_law (h : Cur T M V all t lies ca la year) (hC : TabC sK sR sS bK bR bS sM bM) (hT : TabM l8 mt yt ym bt bm bg mk bk) (hmk : mk + 7000 < 2147483648) (hbk : bk + 7000 < 2147483648) (on many : Nat → Int32) (mv : Int32) (pile tA tM : Nat → Int32) (so tv tw fo yf nb sp p : Int32) : ∃ (ans so' fo' tv' tw' sM' bM' : Int32) (tA' tM' : Nat → Int32) (sK' sR' : Nat → Int64) (sS' : Nat → Int32) (bK' bR' : Nat → Int64) (bS' : Nat → Int32) (on' many' : Nat → Int32) (mv' : Int32) (pile' : Nat → Int32) (l8' : Nat → Int64) (mt' yt' ym' bt' bm' : Nat → Int32) (yf' : Int32) (mk' bk' : Nat) (nb' : Int32) (bg' : Nat → Int64) (sp' : Int32), FX0_why tA tM sK sR sS bK bR bS so tv tw sM bM lies t (nI (T 114)) V p = some (ans, tA', tM', sK', sR', sS', bK', bR', bS', so', tv', tw', sM', bM') ∧ FX8_why all on many mv pile nM l8 mt yt ym bt bm fo yf (nI mk) (nI bk) nb bg sp p = some (ans, on', many', mv', pile', l8', mt', yt', ym', bt', bm', fo', yf', nI mk', nI bk', nb', bg', sp') ∧ TabC sK' sR' sS' bK' bR' bS' sM' bM' ∧ TabM l8' mt' yt' ym' bt' bm' bg' mk' bk' ∧ mk' ≤ mk + 6001 ∧ bk' ≤ bk + 6001 := by
  have h0 := h
  obtain ⟨⟨hW, hS, hm, hy, hB⟩, hA, ht, hl, hc, hla, rfl⟩ := h
  rcases who p with ⟨w, hw, rfl⟩ | hp
  · obtain ⟨r, so2, fo2, tv2, sM2, bM2, tA2, tM2, sK2, sR2, sS2, bK2, bR2, bS2, on2, many2, mv2, pile2, l82, mt2, yt2, ym2, bt2, bm2, yf2, mk2, bk2, nb2, bg2, sp2, q1, q2, q3, q4, q5, q6, q7⟩ := canBe_law h0 hC hT hmk hbk on many pile tA tM tv (show w < 100 by omega)
    have e1 := isLacking4 (O := fun p => T (80 + p)) (mv := T 95) ht hW hm (show w < 100 by omega)
    rw [← hl] at e1
    have e2 := areTooFew8 hA hW hS (show w < 100 by omega)
    have e3 := isAgainst4 ht hW (show w < 100 by omega)
    have e4 := breaksMust8 hA hW (show w < 100 by omega)
    by_cases c1 : r = 1
    · refine ⟨0, so2, fo2, tv2, nM, sM2, bM2, tA2, tM2, sK2, sR2, sS2, bK2, bR2, bS2, on2, many2, mv2, pile2, l82, mt2, yt2, ym2, bt2, bm2, yf2, mk2, bk2, nb2, bg2, sp2, ?_, ?_, q3, q4, q5, q6⟩
      · unfold FX0_why
        rw [isWho4, who_t hw, bd1_s, if_neg (by decide), q1, bd14_s, if_pos c1]
      · unfold FX8_why
        rw [isWho8, who_t hw, bd1_s, if_neg (by decide), q2, bd18_s, if_pos c1]
    · cases d1 : lkA T (fun p => T (80 + p)) w 8 0 with
      | true =>
        rw [d1] at e1 e2
        refine ⟨1, so2, fo2, tv2, nM, sM2, bM2, tA2, tM2, sK2, sR2, sS2, bK2, bR2, bS2, on2, many2, mv2, pile2, l82, mt2, yt2, ym2, bt2, bm2, yf2, mk2, bk2, nb2, bg2, sp2, ?_, ?_, q3, q4, q5, q6⟩
        · unfold FX0_why
          rw [isWho4, who_t hw, bd1_s, if_neg (by decide), q1, bd14_s, if_neg c1, e1, bd1_s, if_neg (by decide)]
        · unfold FX8_why
          rw [isWho8, who_t hw, bd1_s, if_neg (by decide), q2, bd18_s, if_neg c1, e2, bd1_s, if_neg (by decide)]
      | false =>
        rw [d1] at e1 e2
        cases d2 : agA T w (T 56) 0 with
        | true =>
          rw [d2] at e3 e4
          refine ⟨2, so2, fo2, tv2, nM, sM2, bM2, tA2, tM2, sK2, sR2, sS2, bK2, bR2, bS2, on2, many2, mv2, pile2, l82, mt2, yt2, ym2, bt2, bm2, yf2, mk2, bk2, nb2, bg2, sp2, ?_, ?_, q3, q4, q5, q6⟩
          · unfold FX0_why
            rw [isWho4, who_t hw, bd1_s, if_neg (by decide), q1, bd14_s, if_neg c1, e1, bd1_s, if_pos (show b2i false = 0 from rfl), e3, bd1_s, if_neg (by decide)]
          · unfold FX8_why
            rw [isWho8, who_t hw, bd1_s, if_neg (by decide), q2, bd18_s, if_neg c1, e2, bd1_s, if_pos (show b2i false = 0 from rfl), e4, bd1_s, if_neg (by decide)]
        | false =>
          rw [d2] at e3 e4
          by_cases c2 : r = 0
          · refine ⟨3, so2, fo2, tv2, nM, sM2, bM2, tA2, tM2, sK2, sR2, sS2, bK2, bR2, bS2, on2, many2, mv2, pile2, l82, mt2, yt2, ym2, bt2, bm2, yf2, mk2, bk2, nb2, bg2, sp2, ?_, ?_, q3, q4, q5, q6⟩
            · unfold FX0_why
              rw [isWho4, who_t hw, bd1_s, if_neg (by decide), q1, bd14_s, if_neg c1, e1, bd1_s, if_pos (show b2i false = 0 from rfl), e3, bd1_s, if_pos (show b2i false = 0 from rfl), if_pos c2]
            · unfold FX8_why
              rw [isWho8, who_t hw, bd1_s, if_neg (by decide), q2, bd18_s, if_neg c1, e2, bd1_s, if_pos (show b2i false = 0 from rfl), e4, bd1_s, if_pos (show b2i false = 0 from rfl), if_neg (by rw [c2]; decide)]
          · have c3 : r = -4 := by
              rcases q7 with z | z | z
              · exact absurd z c1
              · exact absurd z c2
              · exact z
            refine ⟨(-4), so2, fo2, tv2, nM, sM2, bM2, tA2, tM2, sK2, sR2, sS2, bK2, bR2, bS2, on2, many2, mv2, pile2, l82, mt2, yt2, ym2, bt2, bm2, yf2, mk2, bk2, nb2, bg2, sp2, ?_, ?_, q3, q4, q5, q6⟩
            · unfold FX0_why
              rw [isWho4, who_t hw, bd1_s, if_neg (by decide), q1, bd14_s, if_neg c1, e1, bd1_s, if_pos (show b2i false = 0 from rfl), e3, bd1_s, if_pos (show b2i false = 0 from rfl), if_neg c2]
            · unfold FX8_why
              rw [isWho8, who_t hw, bd1_s, if_neg (by decide), q2, bd18_s, if_neg c1, e2, bd1_s, if_pos (show b2i false = 0 from rfl), e4, bd1_s, if_pos (show b2i false = 0 from rfl), if_pos c3]
  · refine ⟨-2, so, fo, tv, tw, sM, bM, tA, tM, sK, sR, sS, bK, bR, bS, on, many, mv, pile, l8, mt, yt, ym, bt, bm, yf, mk, bk, nb, bg, sp, ?_, ?_, hC, hT, by omega, by omega⟩
    · unfold FX0_why
      rw [isWho4, decide_eq_false hp, bd1_s, if_pos (show b2i false = 0 from rfl)]
    · unfold FX8_why
      rw [isWho8, decide_eq_false hp, bd1_s, if_pos (show b2i false = 0 from rfl)]
end P66