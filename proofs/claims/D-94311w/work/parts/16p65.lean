set_option maxRecDepth 100000
section P65
variable {all t ca la on many tA tM pile : Nat → Int32} {T M : Nat → Nat} {V : Nat → BvT} {lies : Int64} {year : Int32} {sK sR bK bR l8 bg : Nat → Int64} {sS bS mt yt ym bt bm : Nat → Int32} {sM bM : Int32} {mk bk : Nat}
theorem Cur.vs (h : Cur T M V all t lies ca la year) : VS T ((fun p => T (80 + p)), M, T 95) := ⟨h.1.2.1, h.1.2.2.1⟩
theorem Cur.li (h : Cur T M V all t lies ca la year) : lies = lN (cdS ((fun p => T (80 + p)), M, T 95)) := h.2.2.2.1
theorem m4_ne {x : Int32} (h : x = -4) : (x = (-4 : Int32)) = True := eq_true h
theorem years_law (h : Cur T M V all t lies ca la year) (hC : TabC sK sR sS bK bR bS sM bM) (hT : TabM l8 mt yt ym bt bm bg mk bk) (hmk : mk + 7000 < 2147483648) (hbk : bk + 7000 < 2147483648) (on many : Nat → Int32) (mv : Int32) (pile tA tM : Nat → Int32) (so ls tv tw fo yf nb sp p : Int32) : ∃ (ans so' ls' fo' tv' tw' sM' bM' : Int32) (tA' tM' : Nat → Int32) (sK' sR' : Nat → Int64) (sS' : Nat → Int32) (bK' bR' : Nat → Int64) (bS' : Nat → Int32) (on' many' : Nat → Int32) (mv' : Int32) (pile' : Nat → Int32) (l8' : Nat → Int64) (mt' yt' ym' bt' bm' : Nat → Int32) (yf' : Int32) (mk' bk' : Nat) (nb' : Int32) (bg' : Nat → Int64) (sp' : Int32), FX0_years tA tM sK sR sS bK bR bS so ls tv tw sM bM lies t (nI (T 114)) V p = some (ans, tA', tM', sK', sR', sS', bK', bR', bS', so', ls', tv', tw', sM', bM') ∧ FX8_years all on many mv pile nM l8 mt yt ym bt bm ls fo yf (nI mk) (nI bk) nb bg sp p = some (ans, on', many', mv', pile', l8', mt', yt', ym', bt', bm', ls', fo', yf', nI mk', nI bk', nb', bg', sp') ∧ TabC sK' sR' sS' bK' bR' bS' sM' bM' ∧ TabM l8' mt' yt' ym' bt' bm' bg' mk' bk' ∧ mk' ≤ mk + 6001 ∧ bk' ≤ bk + 6001 := by
  have hs := h.vs
  have hl := h.li
  obtain ⟨⟨hW, hS, hm, hy, hB⟩, hA, ht, -, hc, hla, rfl⟩ := h
  rcases who p with ⟨w, hw, rfl⟩ | hp
  · obtain ⟨o1, m1, e1, hon⟩ := looksNow8 hA hW hS on many
    have q := sought_law (as1 := 0) (w := w) ht hA hW (hB.ok hA hW) (by omega) (by omega) hs hon hC hT hmk hbk tA tM pile yf nb sp
    obtain ⟨r, so2, fo2, tA2, tM2, sK2, sR2, sS2, bK2, bR2, bS2, tv2, sM2, bM2, on2, many2, mv2, pile2, l82, mt2, yt2, ym2, bt2, bm2, yf2, mk2, bk2, nb2, bg2, sp2, q1, q2, q3, q4, q5, q6, q7⟩ := q
    rw [nD_zero] at q1 q2
    have q1' : FX0_seeks t tA tM sK sR sS bK bR bS sM bM (nI (T 114)) V lies (nD w) (-1) = some (r, tA2, tM2, sK2, sR2, sS2, bK2, bR2, bS2, so2, tv2, nM, sM2, bM2) := by rw [hl]; exact q1
    by_cases c : r = -4
    · refine ⟨r, so2, ls, fo2, tv2, nM, sM2, bM2, tA2, tM2, sK2, sR2, sS2, bK2, bR2, bS2, on2, many2, mv2, pile2, l82, mt2, yt2, ym2, bt2, bm2, yf2, mk2, bk2, nb2, bg2, sp2, ?_, ?_, q3, q4, q6, q7⟩
      · unfold FX0_years
        rw [isWho4, who_t hw, bd1_s, if_neg (by decide), q1', bd14_s, if_pos c]
      · unfold FX8_years
        rw [isWho8, who_t hw, bd1_s, if_neg (by decide), e1, bd3_s, q2, bd18_s, if_pos c]
    · have hf : so2 = fo2 := q5.resolve_left c
      refine ⟨r, so2, so2, fo2, tv2, nM, sM2, bM2, tA2, tM2, sK2, sR2, sS2, bK2, bR2, bS2, on2, many2, mv2, pile2, l82, mt2, yt2, ym2, bt2, bm2, yf2, mk2, bk2, nb2, bg2, sp2, ?_, ?_, q3, q4, q6, q7⟩
      · unfold FX0_years
        rw [isWho4, who_t hw, bd1_s, if_neg (by decide), q1', bd14_s, if_neg c]
      · unfold FX8_years
        rw [isWho8, who_t hw, bd1_s, if_neg (by decide), e1, bd3_s, q2, bd18_s, if_neg c, hf]
  · refine ⟨-2, so, ls, fo, tv, tw, sM, bM, tA, tM, sK, sR, sS, bK, bR, bS, on, many, mv, pile, l8, mt, yt, ym, bt, bm, yf, mk, bk, nb, bg, sp, ?_, ?_, hC, hT, by omega, by omega⟩
    · unfold FX0_years
      rw [isWho4, decide_eq_false hp, bd1_s, if_pos (show b2i false = 0 from rfl)]
    · unfold FX8_years
      rw [isWho8, decide_eq_false hp, bd1_s, if_pos (show b2i false = 0 from rfl)]
theorem without_law (h : Cur T M V all t lies ca la year) (hC : TabC sK sR sS bK bR bS sM bM) (hT : TabM l8 mt yt ym bt bm bg mk bk) (hmk : mk + 7000 < 2147483648) (hbk : bk + 7000 < 2147483648) (on many : Nat → Int32) (mv : Int32) (pile tA tM : Nat → Int32) (so tv tw fo yf nb sp p : Int32) : ∃ (ans so' fo' tv' tw' sM' bM' : Int32) (tA' tM' : Nat → Int32) (sK' sR' : Nat → Int64) (sS' : Nat → Int32) (bK' bR' : Nat → Int64) (bS' : Nat → Int32) (on' many' : Nat → Int32) (mv' : Int32) (pile' : Nat → Int32) (l8' : Nat → Int64) (mt' yt' ym' bt' bm' : Nat → Int32) (yf' : Int32) (mk' bk' : Nat) (nb' : Int32) (bg' : Nat → Int64) (sp' : Int32), FX0_without tA tM sK sR sS bK bR bS so tv tw sM bM lies t (nI (T 114)) V p = some (ans, tA', tM', sK', sR', sS', bK', bR', bS', so', tv', tw', sM', bM') ∧ FX8_without all on many mv pile nM l8 mt yt ym bt bm fo yf (nI mk) (nI bk) nb bg sp p = some (ans, on', many', mv', pile', nM, l8', mt', yt', ym', bt', bm', fo', yf', nI mk', nI bk', nb', bg', sp') ∧ TabC sK' sR' sS' bK' bR' bS' sM' bM' ∧ TabM l8' mt' yt' ym' bt' bm' bg' mk' bk' ∧ mk' ≤ mk + 6001 ∧ bk' ≤ bk + 6001 := by
  have hs := h.vs
  have hl := h.li
  obtain ⟨⟨hW, hS, hm, hy, hB⟩, hA, ht, -, hc, hla, rfl⟩ := h
  have hb := hW.b
  have g0 := ht.n (k := 56) (by omega) (by omega)
  have g8 : rd 1593 all 56 = some (nI (T 56)) := rdn (k := 56) (by omega) (by omega) (hA.n (k := 56) (by omega) (by omega))
  have wi : ∀ x, FX0_in (Int32.toInt64 p) 0 (Int32.toInt64 (nI (T 56) - 1)) = x ↔ some (decide (0 ≤ p.toInt ∧ p.toInt ≤ (T 56 : Int) - 1)) = x := fun x => by rw [show nI (T 56) - 1 = nD (T 56) from rfl, inD (by omega)]
  have wi8 : ∀ x, FX8_within (Int32.toInt64 p) 0 (Int32.toInt64 (nI (T 56) - 1)) = x ↔ some (decide (0 ≤ p.toInt ∧ p.toInt ≤ (T 56 : Int) - 1)) = x := fun x => by rw [show nI (T 56) - 1 = nD (T 56) from rfl, wiD (by omega)]
  rcases rng p (n := T 56) (by omega) with ⟨i, hi, rfl⟩ | hp
  · have d1 := dT hi (by omega)
    obtain ⟨o1, m1, e1, hon⟩ := looksNow8 hA hW hS on many
    have q := sought_law (as1 := (i + 1)) (w := 0) ht hA hW (hB.ok hA hW) (by omega) (by omega) hs hon hC hT hmk hbk tA tM pile yf nb sp
    obtain ⟨r, so2, fo2, tA2, tM2, sK2, sR2, sS2, bK2, bR2, bS2, tv2, sM2, bM2, on2, many2, mv2, pile2, l82, mt2, yt2, ym2, bt2, bm2, yf2, mk2, bk2, nb2, bg2, sp2, q1, q2, q3, q4, q5, q6, q7⟩ := q
    rw [nD_zero, nD_succ] at q1 q2
    have q1' : FX0_seeks t tA tM sK sR sS bK bR bS sM bM (nI (T 114)) V lies (-1) (nI i) = some (r, tA2, tM2, sK2, sR2, sS2, bK2, bR2, bS2, so2, tv2, nI i, sM2, bM2) := by rw [hl]; exact q1
    have q2' : FX8_sought all o1 m1 (nI (T 95)) pile (nI i) l8 mt yt ym bt bm yf (nI mk) (nI bk) nb bg sp (-1) = some (r, on2, many2, mv2, pile2, l82, mt2, yt2, ym2, bt2, bm2, fo2, yf2, nI mk2, nI bk2, nb2, bg2, sp2) := q2
    refine ⟨r, so2, fo2, tv2, nI i, sM2, bM2, tA2, tM2, sK2, sR2, sS2, bK2, bR2, bS2, on2, many2, mv2, pile2, l82, mt2, yt2, ym2, bt2, bm2, yf2, mk2, bk2, nb2, bg2, sp2, ?_, ?_, q3, q4, q6, q7⟩
    · unfold FX0_without
      rw [g0, (wi _).mpr rfl, d1, bd1_s, if_neg (by decide), q1', bd14_s]
    · unfold FX8_without
      rw [g8, bd1_s, (wi8 _).mpr rfl, d1, bd1_s, if_neg (by decide), e1, bd3_s, q2', bd18_s]
      rfl
  · refine ⟨-2, so, fo, tv, tw, sM, bM, tA, tM, sK, sR, sS, bK, bR, bS, on, many, mv, pile, l8, mt, yt, ym, bt, bm, yf, mk, bk, nb, bg, sp, ?_, ?_, hC, hT, by omega, by omega⟩
    · unfold FX0_without
      rw [g0, (wi _).mpr rfl, decide_eq_false hp, bd1_s, if_pos (show b2i false = 0 from rfl)]
    · unfold FX8_without
      rw [g8, bd1_s, (wi8 _).mpr rfl, decide_eq_false hp, bd1_s, if_pos (show b2i false = 0 from rfl)]
theorem after_law (h : Cur T M V all t lies ca la year) (hC : TabC sK sR sS bK bR bS sM bM) (hT : TabM l8 mt yt ym bt bm bg mk bk) (hmk : mk + 7000 < 2147483648) (hbk : bk + 7000 < 2147483648) (on many hAt hMany pile tA tM : Nat → Int32) (so tv tw fo yf nb sp p q : Int32) : ∃ (ans so' fo' hv' tv' tw' sM' bM' : Int32) (hA' hM' : Nat → Int32) (tA' tM' : Nat → Int32) (sK' sR' : Nat → Int64) (sS' : Nat → Int32) (bK' bR' : Nat → Int64) (bS' : Nat → Int32) (on' many' : Nat → Int32) (mv' : Int32) (pile' : Nat → Int32) (l8' : Nat → Int64) (mt' yt' ym' bt' bm' : Nat → Int32) (yf' : Int32) (mk' bk' : Nat) (nb' : Int32) (bg' : Nat → Int64) (sp' : Int32), FX0_after hAt hMany tA tM sK sR sS bK bR bS so nM tv tw sM bM lies t (nI (T 114)) V p q = some (ans, hA', hM', tA', tM', sK', sR', sS', bK', bR', bS', so', hv', tv', tw', sM', bM') ∧ FX8_after all on many pile nM l8 mt yt ym bt bm fo yf (nI mk) (nI bk) nb bg sp p q = some (ans, on', many', mv', pile', l8', mt', yt', ym', bt', bm', fo', yf', nI mk', nI bk', nb', bg', sp') ∧ TabC sK' sR' sS' bK' bR' bS' sM' bM' ∧ TabM l8' mt' yt' ym' bt' bm' bg' mk' bk' ∧ mk' ≤ mk + 6001 ∧ bk' ≤ bk + 6001 := by
  have hs0 := h.vs
  obtain ⟨⟨hW, hS, hm, hy, hB⟩, hA, ht, rfl, hc, hla, rfl⟩ := h
  obtain ⟨a1, m1, e1, hat⟩ := lays4 ht hW hS hm hAt hMany
  obtain ⟨o2, m2, e2, hon⟩ := looksNow8 hA hW hS on many
  obtain ⟨⟨n3, m3, p3⟩, e3, hn3, hon3⟩ := may8 (as1 := 0) hA hon hW hS (hB.ok hA hW) hm (by omega) pile p q
  dsimp only at hn3 hon3
  subst hn3
  have e4 := may4 (V := V) (as1 := 0) ht hat hW hS hB.1 hm (by omega) p q
  rw [nD_zero] at e3 e4
  have hle := maS_le (T := T) (O := fun p => T (80 + p)) (M := M) (V := V) (mv := T 95) (as1 := 0) (p := p) (q := q)
  have e1' : FX4_lays t hAt hMany (lN (enc (fun p => T (80 + p)) (T 95))) = some (a1, m1, nI (T 95)) := e1
  by_cases c : maS T (fun p => T (80 + p)) M V (T 95) 0 p q = 0
  · obtain ⟨a, b, ha, hb, hab, rfl, rfl, ha0, hb0, hN, hbit⟩ := maS_0 hW c
    have hw := hW.b
    obtain ⟨a2, m4, e5, hat2⟩ := carries4 hat hW hS hm ha hb hab ha0 hb0 1 (by omega)
    obtain ⟨o3, m5, e6, hon4⟩ := carries8 hon3 hW hS hm ha hb hab ha0 hb0
    obtain ⟨s1, s2, s3⟩ := hS.st hW (show a < 5 by omega) (show M a - 1 < M a by omega)
    have hS' := hS.ca hW ha hb hab ha0 hb0
    have hvs := (VS.car (fl := false) hW hs0 (V := V) (as1 := 0) (a := a) (b := b) c (by omega) (by omega)).1
    have hcd : cdS (carS false ((fun p => T (80 + p)), M, T 95) a b) = enc (caO (fun p => T (80 + p)) M a b) (T 95 ||| 2 ^ (T (80 + (3 * a + (M a - 1))) - 1)) := rfl
    generalize hi : T (80 + (3 * a + (M a - 1))) - 1 = i at e5 e6 hcd
    have hi8 : i < 8 := by omega
    have hb100 : ∀ p, p < 15 → caO (fun p => T (80 + p)) M a b p < 100 := fun p hp => by have := hS'.1 p hp; omega
    have hm' := or_lt hm hi8
    have e10 := lies4 hat2.1 hb100 hm' (lN (enc (fun p => T (80 + p)) (T 95)))
    rw [if_neg (by decide)] at e5
    have hs := hvs
    have hon : OnAt o3 m5 (carS false ((fun p => T (80 + p)), M, T 95) a b).1 (carS false ((fun p => T (80 + p)), M, T 95) a b).2.1 := hon4
    have q := sought_law (as1 := 0) (w := 0) ht hA hW (hB.ok hA hW) (by omega) (by omega) hs hon hC hT hmk hbk tA tM p3 yf nb sp
    obtain ⟨r, so2, fo2, tA2, tM2, sK2, sR2, sS2, bK2, bR2, bS2, tv2, sM2, bM2, on2, many2, mv2, pile2, l82, mt2, yt2, ym2, bt2, bm2, yf2, mk2, bk2, nb2, bg2, sp2, q1, q2, q3, q4, q5, q6, q7⟩ := q
    rw [hcd, nD_zero] at q1
    rw [show (carS false ((fun p => T (80 + p)), M, T 95) a b).2.2 = T 95 ||| 2 ^ i from by rw [← hi]; rfl, nD_zero] at q2
    have q1' : FX0_seeks t tA tM sK sR sS bK bR bS sM bM (nI (T 114)) V (lN (enc (caO (fun p => T (80 + p)) M a b) (T 95 ||| 2 ^ i))) (-1) (-1) = some (r, tA2, tM2, sK2, sR2, sS2, bK2, bR2, bS2, so2, tv2, nM, sM2, bM2) := q1
    have q2' : FX8_sought all o3 m5 (nI (T 95 ||| 2 ^ i)) p3 nM l8 mt yt ym bt bm yf (nI mk) (nI bk) nb bg sp (-1) = some (r, on2, many2, mv2, pile2, l82, mt2, yt2, ym2, bt2, bm2, fo2, yf2, nI mk2, nI bk2, nb2, bg2, sp2) := q2
    refine ⟨r, so2, fo2, nI (T 95 ||| 2 ^ i), tv2, nM, sM2, bM2, a2, m4, tA2, tM2, sK2, sR2, sS2, bK2, bR2, bS2, on2, many2, mv2, pile2, l82, mt2, yt2, ym2, bt2, bm2, yf2, mk2, bk2, nb2, bg2, sp2, ?_, ?_, q3, q4, q6, q7⟩
    · unfold FX0_after FX0_here
      rw [e1', bd3_s, bd3_s, e4, bd1_s, if_pos (by rw [c]; rfl), show FX4_carries a1 m1 (nI (T 95)) (nI a) (nI b) 1 = _ from e5, bd4_s, e10, bd1_s, q1', bd14_s]
    · unfold FX8_after
      rw [e2, bd3_s, e3, bd3_s, if_pos (by rw [c]; rfl), e6, bd3_s, q2', bd18_s]
  · have c' : ¬ nI (maS T (fun p => T (80 + p)) M V (T 95) 0 p q) = 0 := by rw [show (0 : Int32) = nI 0 from rfl, eq_f c (by omega) (by omega)]; exact id
    refine ⟨-5, so, fo, nI (T 95), tv, tw, sM, bM, a1, m1, tA, tM, sK, sR, sS, bK, bR, bS, o2, m3, nI (T 95), p3, l8, mt, yt, ym, bt, bm, yf, mk, bk, nb, bg, sp, ?_, ?_, hC, hT, by omega, by omega⟩
    · unfold FX0_after FX0_here
      rw [e1', bd3_s, bd3_s, e4, bd1_s, if_neg c']
    · unfold FX8_after
      rw [e2, bd3_s, e3, bd3_s, if_neg c']
theorem missing_law (h : Cur T M V all t lies ca la year) (hC : TabC sK sR sS bK bR bS sM bM) (hT : TabM l8 mt yt ym bt bm bg mk bk) (hmk : mk + 7000 < 2147483648) (hbk : bk + 7000 < 2147483648) (on many hAt hMany : Nat → Int32) (hv mv : Int32) (pile tA tM : Nat → Int32) (so tv tw fo yf nb sp p : Int32) : ∃ (ans so' fo' hv' tv' tw' sM' bM' : Int32) (hA' hM' : Nat → Int32) (tA' tM' : Nat → Int32) (sK' sR' : Nat → Int64) (sS' : Nat → Int32) (bK' bR' : Nat → Int64) (bS' : Nat → Int32) (on' many' : Nat → Int32) (mv' : Int32) (pile' : Nat → Int32) (l8' : Nat → Int64) (mt' yt' ym' bt' bm' : Nat → Int32) (yf' : Int32) (mk' bk' : Nat) (nb' : Int32) (bg' : Nat → Int64) (sp' : Int32), FX0_missing hAt hMany tA tM sK sR sS bK bR bS so hv tv tw sM bM lies t (nI (T 114)) V p = some (ans, hA', hM', tA', tM', sK', sR', sS', bK', bR', bS', so', hv', tv', tw', sM', bM') ∧ FX8_missing all on many mv pile nM l8 mt yt ym bt bm fo yf (nI mk) (nI bk) nb bg sp p = some (ans, on', many', mv', pile', l8', mt', yt', ym', bt', bm', fo', yf', nI mk', nI bk', nb', bg', sp') ∧ TabC sK' sR' sS' bK' bR' bS' sM' bM' ∧ TabM l8' mt' yt' ym' bt' bm' bg' mk' bk' ∧ mk' ≤ mk + 6001 ∧ bk' ≤ bk + 6001 := by
  obtain ⟨⟨hW, hS, hm, hy, hB⟩, hA, ht, rfl, hc, hla, rfl⟩ := h
  have hb := hW.b
  have two : ∀ ans : Int32, FX0_missing hAt hMany tA tM sK sR sS bK bR bS so hv tv tw sM bM (lN (enc (fun p => T (80 + p)) (T 95))) t (nI (T 114)) V p = some (ans, hAt, hMany, tA, tM, sK, sR, sS, bK, bR, bS, so, hv, tv, tw, sM, bM) → FX8_missing all on many mv pile nM l8 mt yt ym bt bm fo yf (nI mk) (nI bk) nb bg sp p = some (ans, on, many, mv, pile, l8, mt, yt, ym, bt, bm, fo, yf, nI mk, nI bk, nb, bg, sp) → ∃ (ans so' fo' hv' tv' tw' sM' bM' : Int32) (hA' hM' : Nat → Int32) (tA' tM' : Nat → Int32) (sK' sR' : Nat → Int64) (sS' : Nat → Int32) (bK' bR' : Nat → Int64) (bS' : Nat → Int32) (on' many' : Nat → Int32) (mv' : Int32) (pile' : Nat → Int32) (l8' : Nat → Int64) (mt' yt' ym' bt' bm' : Nat → Int32) (yf' : Int32) (mk' bk' : Nat) (nb' : Int32) (bg' : Nat → Int64) (sp' : Int32), FX0_missing hAt hMany tA tM sK sR sS bK bR bS so hv tv tw sM bM (lN (enc (fun p => T (80 + p)) (T 95))) t (nI (T 114)) V p = some (ans, hA', hM', tA', tM', sK', sR', sS', bK', bR', bS', so', hv', tv', tw', sM', bM') ∧ FX8_missing all on many mv pile nM l8 mt yt ym bt bm fo yf (nI mk) (nI bk) nb bg sp p = some (ans, on', many', mv', pile', l8', mt', yt', ym', bt', bm', fo', yf', nI mk', nI bk', nb', bg', sp') ∧ TabC sK' sR' sS' bK' bR' bS' sM' bM' ∧ TabM l8' mt' yt' ym' bt' bm' bg' mk' bk' ∧ mk' ≤ mk + 6001 ∧ bk' ≤ bk + 6001 := fun ans h1 h2 => ⟨ans, so, fo, hv, tv, tw, sM, bM, hAt, hMany, tA, tM, sK, sR, sS, bK, bR, bS, on, many, mv, pile, l8, mt, yt, ym, bt, bm, yf, mk, bk, nb, bg, sp, h1, h2, hC, hT, by omega, by omega⟩
  rcases rng p (n := T 6) (by omega) with ⟨i, hi, rfl⟩ | hp
  · have e1 := isStone8 hA hW (nI i)
    rw [dT hi (by omega)] at e1
    have e2 := isThere4 (O := fun p => T (80 + p)) ht hW hm hi
    have e3 := placeOf8 hA hW hS (i := i) (by omega)
    have hle := pl_le (fun p => T (80 + p)) i
    by_cases c : pl (fun p => T (80 + p)) i = 15
    · rw [plD, if_pos c, nD_zero] at e3
      refine two (-2) ?_ ?_
      · unfold FX0_missing
        (simp (disch := omega) only [i_0, i_1, i_2, i_3, i_4, i_5, i_6, i_7, i_8, i_9, i_10, i_11, i_12, i_13, i_14, i_15, i_16, i_17, i_18, i_19, i_20, i_21, i_22, i_23, i_24, i_25, i_26, i_27, i_28, i_29, i_30, i_31, i_32, i_36, i_40, i_41, i_43, i_48, i_50, i_56, i_57, i_59, i_63, i_64, i_69, i_75, i_76, i_77, i_78, i_79, i_80, i_95, i_96, i_97, i_98, i_99, i_100, i_101, i_102, i_103, i_104, i_105, i_108, i_109, i_110, i_111, i_112, i_113, i_114, i_115, i_116, i_117, i_118, i_119, i_121, i_122, i_123, i_131, i_160, i_199, i_220, i_255, i_256, i_400, i_531, i_999, i_1000, i_1593, i_6000, i_6001, i_6002, i_10000, i_16383, i_16384, i_32768, i_100000, i_294912, i_1000000, bd0_s, bdS2_0, bdS2_1, bdS3_0, bdS3_1, bdS3_2, bdS4_0, bdS4_1, bdS4_2, bdS4_3, un0_s, bd1_s, bd2_s, bd3_s, bd4_s, bd5_s, bd6_s, bd7_s, bd8_s, bd9_s, bd10_s, bd11_s, bd12_s, bd13_s, bd14_s, bd15_s, bd16_s, un1_s, un2_s, un3_s, un4_s, un5_s, un6_s, un7_s, n_add, n_mul, n_addM, n_addD, n_Dadd, n_subD, n_sub, n_div, nD_succ, nD_zero, n_negM, cl_n, cl_d, rd_n, rd_d, wr_n, wr_d, al_n, al_d, b2i_t, b2i_f, lt_t, lt_f, le_t, le_f, eq_t, eq_f, dlt_t, dlt_f, ltd_t, ltd_f, ddl_t, ddl_f, dle_t, dle_f, led_t, led_f, deq_t, deq_f, eqd_t, eqd_f, dde_t, dde_f, m_ne, n_neM, m_lt, n_ltM, m_le, n_leM, m_eqD, m_neD, d_eqM, d_neM, up_t, up_f, bit_n, bit_d, rp_n, rp_d, asb1, sh1_n, sh1_d, or_n, ↓reduceIte, ite_self, Nat.add_sub_cancel, Nat.sub_self, Nat.add_zero, Nat.zero_add, Nat.mul_zero, Nat.zero_mul, eq_self, and_true, true_and, or_true, true_or, and_self, or_self, not_true_eq_false, not_false_eq_true, e2, c, ne_eq, decide_false]; try rfl)
      · unfold FX8_missing
        rw [e1, bd1_s, if_neg (by decide), e3, bd1_s, if_pos (show nM = -1 from rfl)]
    · have hp15 : pl (fun p => T (80 + p)) i < 15 := by omega
      rw [plD, if_neg c, nD_succ] at e3
      have hne : ¬ nI (pl (fun p => T (80 + p)) i) = -1 := by rw [show (-1 : Int32) = nM from rfl, n_neM (by omega)]; exact id
      have e4 := topPlace8 hA hW hS (show i < 8 by omega) hp15
      obtain ⟨a1, m1, e5, hO⟩ := isTop4 (O := fun p => T (80 + p)) ht hW hS hm (show i < 8 by omega) hp15 hAt hMany
      have e7 := robbed_n (mv := T 95) hS (show i < 8 by omega) hp15 hm
      by_cases c2 : pl (fun p => T (80 + p)) i % 3 + 1 = M (pl (fun p => T (80 + p)) i / 3)
      · have hS' := hS.ro hW hp15 c2
        rw [if_pos c2, nD_succ] at e4
        have e8 := mvC_32 (T 95) hm i (by omega)
        obtain ⟨o2, m2, f1, hon2⟩ := looksNow8 hA hW hS on many
        have hro : ∀ p, roO (fun p => T (80 + p)) i p = if p = pl (fun p => T (80 + p)) i then 0 else T (80 + p) := fun p => rfl
        have hon3 : ∀ p, p < 15 → upd o2 (pl (fun p => T (80 + p)) i) (nI 0) p = nI (roO (fun p => T (80 + p)) i p) := fun p hp => by
          rw [hro]
          by_cases c5 : p = pl (fun p => T (80 + p)) i
          · rw [if_pos c5, up_t c5]
          · rw [if_neg c5, up_f c5, hon2.1 p hp]
        obtain ⟨m3, f2, f3⟩ := counts8 hon3 hW hS' m2
        have hs : VS T (roO (fun p => T (80 + p)) i, roM (fun p => T (80 + p)) M i, mvC (T 95) i) := ⟨hS', mvC_lt hm⟩
        have hon : OnAt (upd o2 (pl (fun p => T (80 + p)) i) (nI 0)) m3 (roO (fun p => T (80 + p)) i) (roM (fun p => T (80 + p)) M i) := ⟨hon3, f3⟩
        have q := sought_law (as1 := 0) (w := 0) ht hA hW (hB.ok hA hW) (by omega) (by omega) hs hon hC hT hmk hbk tA tM pile yf nb sp
        obtain ⟨r, so2, fo2, tA2, tM2, sK2, sR2, sS2, bK2, bR2, bS2, tv2, sM2, bM2, on2, many2, mv2, pile2, l82, mt2, yt2, ym2, bt2, bm2, yf2, mk2, bk2, nb2, bg2, sp2, q1, q2, q3, q4, q5, q6, q7⟩ := q
        rw [nD_zero] at q1 q2
        have q1' : FX0_seeks t tA tM sK sR sS bK bR bS sM bM (nI (T 114)) V (lN (enc (roO (fun p => T (80 + p)) i) (mvC (T 95) i))) (-1) (-1) = some (r, tA2, tM2, sK2, sR2, sS2, bK2, bR2, bS2, so2, tv2, nM, sM2, bM2) := q1
        have q2' : FX8_sought all (upd o2 (pl (fun p => T (80 + p)) i) 0) m3 (nI (mvC (T 95) i)) pile nM l8 mt yt ym bt bm yf (nI mk) (nI bk) nb bg sp (-1) = some (r, on2, many2, mv2, pile2, l82, mt2, yt2, ym2, bt2, bm2, fo2, yf2, nI mk2, nI bk2, nb2, bg2, sp2) := q2
        refine ⟨r, so2, fo2, nI (T 95), tv2, nM, sM2, bM2, a1, m1, tA2, tM2, sK2, sR2, sS2, bK2, bR2, bS2, on2, many2, mv2, pile2, l82, mt2, yt2, ym2, bt2, bm2, yf2, mk2, bk2, nb2, bg2, sp2, ?_, ?_, q3, q4, q6, q7⟩
        · unfold FX0_missing
          rw [e2, decide_eq_true c, bd1_s, if_neg (by decide), e5, decide_eq_true c2, bd4_s, if_neg (by decide), e7, bd1_s, q1', bd14_s]
        · unfold FX8_missing
          have f2' : FX8_counts (upd o2 (pl (fun p => T (80 + p)) i) 0) m2 = some m3 := f2
          have e8' : nI (T 95) &&& ((1 : Int32) <<< (nI i &&& 31) ^^^ -1) = nI (mvC (T 95) i) := e8
          rw [e1, bd1_s, if_neg (by decide), e3, bd1_s, if_neg hne, e4, bd1_s, if_neg hne, f1, bd3_s, wr_n (by omega) (by omega), bd1_s, f2', bd1_s, e8', q2', bd18_s]
      · rw [if_neg c2, nD_zero] at e4
        refine ⟨-5, so, fo, nI (T 95), tv, tw, sM, bM, a1, m1, tA, tM, sK, sR, sS, bK, bR, bS, on, many, mv, pile, l8, mt, yt, ym, bt, bm, yf, mk, bk, nb, bg, sp, ?_, ?_, hC, hT, by omega, by omega⟩
        · unfold FX0_missing
          rw [e2, decide_eq_true c, bd1_s, if_neg (by decide), e5, decide_eq_false c2, bd4_s, if_pos (show b2i false = 0 from rfl)]
        · unfold FX8_missing
          rw [e1, bd1_s, if_neg (by decide), e3, bd1_s, if_neg hne, e4, bd1_s, if_pos (show nM = -1 from rfl)]
  · refine two (-2) ?_ ?_
    · unfold FX0_missing
      (simp (disch := omega) only [i_0, i_1, i_2, i_3, i_4, i_5, i_6, i_7, i_8, i_9, i_10, i_11, i_12, i_13, i_14, i_15, i_16, i_17, i_18, i_19, i_20, i_21, i_22, i_23, i_24, i_25, i_26, i_27, i_28, i_29, i_30, i_31, i_32, i_36, i_40, i_41, i_43, i_48, i_50, i_56, i_57, i_59, i_63, i_64, i_69, i_75, i_76, i_77, i_78, i_79, i_80, i_95, i_96, i_97, i_98, i_99, i_100, i_101, i_102, i_103, i_104, i_105, i_108, i_109, i_110, i_111, i_112, i_113, i_114, i_115, i_116, i_117, i_118, i_119, i_121, i_122, i_123, i_131, i_160, i_199, i_220, i_255, i_256, i_400, i_531, i_999, i_1000, i_1593, i_6000, i_6001, i_6002, i_10000, i_16383, i_16384, i_32768, i_100000, i_294912, i_1000000, bd0_s, bdS2_0, bdS2_1, bdS3_0, bdS3_1, bdS3_2, bdS4_0, bdS4_1, bdS4_2, bdS4_3, un0_s, bd1_s, bd2_s, bd3_s, bd4_s, bd5_s, bd6_s, bd7_s, bd8_s, bd9_s, bd10_s, bd11_s, bd12_s, bd13_s, bd14_s, bd15_s, bd16_s, un1_s, un2_s, un3_s, un4_s, un5_s, un6_s, un7_s, n_add, n_mul, n_addM, n_addD, n_Dadd, n_subD, n_sub, n_div, nD_succ, nD_zero, n_negM, cl_n, cl_d, rd_n, rd_d, wr_n, wr_d, al_n, al_d, b2i_t, b2i_f, lt_t, lt_f, le_t, le_f, eq_t, eq_f, dlt_t, dlt_f, ltd_t, ltd_f, ddl_t, ddl_f, dle_t, dle_f, led_t, led_f, deq_t, deq_f, eqd_t, eqd_f, dde_t, dde_f, m_ne, n_neM, m_lt, n_ltM, m_le, n_leM, m_eqD, m_neD, d_eqM, d_neM, up_t, up_f, bit_n, bit_d, rp_n, rp_d, asb1, sh1_n, sh1_d, or_n, ↓reduceIte, ite_self, Nat.add_sub_cancel, Nat.sub_self, Nat.add_zero, Nat.zero_add, Nat.mul_zero, Nat.zero_mul, eq_self, and_true, true_and, or_true, true_or, and_self, or_self, not_true_eq_false, not_false_eq_true, isThere4f ht hW _ hp]; try rfl)
    · unfold FX8_missing
      (simp (disch := omega) only [i_0, i_1, i_2, i_3, i_4, i_5, i_6, i_7, i_8, i_9, i_10, i_11, i_12, i_13, i_14, i_15, i_16, i_17, i_18, i_19, i_20, i_21, i_22, i_23, i_24, i_25, i_26, i_27, i_28, i_29, i_30, i_31, i_32, i_36, i_40, i_41, i_43, i_48, i_50, i_56, i_57, i_59, i_63, i_64, i_69, i_75, i_76, i_77, i_78, i_79, i_80, i_95, i_96, i_97, i_98, i_99, i_100, i_101, i_102, i_103, i_104, i_105, i_108, i_109, i_110, i_111, i_112, i_113, i_114, i_115, i_116, i_117, i_118, i_119, i_121, i_122, i_123, i_131, i_160, i_199, i_220, i_255, i_256, i_400, i_531, i_999, i_1000, i_1593, i_6000, i_6001, i_6002, i_10000, i_16383, i_16384, i_32768, i_100000, i_294912, i_1000000, bd0_s, bdS2_0, bdS2_1, bdS3_0, bdS3_1, bdS3_2, bdS4_0, bdS4_1, bdS4_2, bdS4_3, un0_s, bd1_s, bd2_s, bd3_s, bd4_s, bd5_s, bd6_s, bd7_s, bd8_s, bd9_s, bd10_s, bd11_s, bd12_s, bd13_s, bd14_s, bd15_s, bd16_s, un1_s, un2_s, un3_s, un4_s, un5_s, un6_s, un7_s, n_add, n_mul, n_addM, n_addD, n_Dadd, n_subD, n_sub, n_div, nD_succ, nD_zero, n_negM, cl_n, cl_d, rd_n, rd_d, wr_n, wr_d, al_n, al_d, b2i_t, b2i_f, lt_t, lt_f, le_t, le_f, eq_t, eq_f, dlt_t, dlt_f, ltd_t, ltd_f, ddl_t, ddl_f, dle_t, dle_f, led_t, led_f, deq_t, deq_f, eqd_t, eqd_f, dde_t, dde_f, m_ne, n_neM, m_lt, n_ltM, m_le, n_leM, m_eqD, m_neD, d_eqM, d_neM, up_t, up_f, bit_n, bit_d, rp_n, rp_d, asb1, sh1_n, sh1_d, or_n, ↓reduceIte, ite_self, Nat.add_sub_cancel, Nat.sub_self, Nat.add_zero, Nat.zero_add, Nat.mul_zero, Nat.zero_mul, eq_self, and_true, true_and, or_true, true_or, and_self, or_self, not_true_eq_false, not_false_eq_true, isStone8 hA hW p, decide_eq_false hp]; try rfl)
end P65
