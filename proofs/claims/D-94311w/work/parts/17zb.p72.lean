set_option maxRecDepth 100000
/-! easier -/
section P72
variable {all t ca la : Nat → Int32} {T M : Nat → Nat} {V : Nat → BvT} {lies : Int64} {year : Int32}
theorem easier_law (h : Cur T M V all t lies ca la year) (z : EzR) (hC : TabC z.2.2.1 z.2.2.2.1 z.2.2.2.2.1 z.2.2.2.2.2.1 z.2.2.2.2.2.2.1 z.2.2.2.2.2.2.2.1 z.2.2.2.2.2.2.2.2.2.2.2.1 z.2.2.2.2.2.2.2.2.2.2.2.2.1) {l8 bg : Nat → Int64} {mt yt ym bt bm : Nat → Int32} {mk bk : Nat} (hT : TabM l8 mt yt ym bt bm bg mk bk) (hmk : mk + 1400000 < 2147483648) (hbk : bk + 1400000 < 2147483648) (on many : Nat → Int32) (mv : Int32) (pile : Nat → Int32) (fo yf nb sp p1 : Int32) :
    ∃ (ans : Int32) (z' : EzR) (all' on' many' : Nat → Int32) (mv' : Int32) (pile' : Nat → Int32) (l8' : Nat → Int64) (mt' yt' ym' bt' bm' : Nat → Int32) (fo' yf' : Int32) (mk' bk' : Nat) (nb' : Int32) (bg' : Nat → Int64) (sp' : Int32),
      FX0_easier t (nI (T 114)) V lies p1 z = some (ans, z') ∧ FX8_easier all on many mv pile (-1) l8 mt yt ym bt bm fo yf (nI mk) (nI bk) nb bg sp p1 = some (ans, all', on', many', mv', pile', l8', mt', yt', ym', bt', bm', fo', yf', nI mk', nI bk', nb', bg', sp') ∧
      TabC z'.2.2.1 z'.2.2.2.1 z'.2.2.2.2.1 z'.2.2.2.2.2.1 z'.2.2.2.2.2.2.1 z'.2.2.2.2.2.2.2.1 z'.2.2.2.2.2.2.2.2.2.2.2.1 z'.2.2.2.2.2.2.2.2.2.2.2.2.1 ∧ AllAt all' T ∧ TabM l8' mt' yt' ym' bt' bm' bg' mk' bk' ∧ mk' ≤ mk + 1400000 ∧ bk' ≤ bk + 1400000 := by
  have h0 := h
  have hs := h.vs
  have hl := h.li
  obtain ⟨⟨hW, hS, hm, hy, hB⟩, hA, ht, -, hc, hla, hyr⟩ := h
  have wi : FX0_in p1.toInt64 0 2 = some (decide (0 ≤ p1.toInt ∧ p1.toInt ≤ 2)) := inL (by decide) (by decide)
  have wi8 : FX8_within p1.toInt64 0 2 = some (decide (0 ≤ p1.toInt ∧ p1.toInt ≤ 2)) := wi
  by_cases hp : 0 ≤ p1.toInt ∧ p1.toInt ≤ 2
  · obtain ⟨w, hw, rfl⟩ := (rng p1 (n := 3) (by omega)).resolve_right (fun z => z ⟨by omega, by omega⟩)
    rw [decide_eq_true hp] at wi wi8
    obtain ⟨o1, m1, e1, hon⟩ := looksNow8 hA hW hS on many
    obtain ⟨tA, tM, sK, sR, sS, bK, bR, bS, so, tv, tw, sM, bM, ez⟩ := z
    have q := sought_law (as1 := 0) (w := 0) ht hA hW (hB.ok hA hW) (by omega) (by omega) hs hon hC hT (by omega) (by omega) tA tM pile yf nb sp
    rw [← hl] at q
    obtain ⟨r, so', fo', tA', tM', sK', sR', sS', bK', bR', bS', tv', sM', bM', on', many', mv', pile', l8', mt', yt', ym', bt', bm', yf', mk', bk', nb', bg', sp', s1, s2, s3, s4, s5, s6, s7⟩ := q
    have s1' : FX0_seeks t tA tM sK sR sS bK bR bS sM bM (nI (T 114)) V lies (-1) (-1) = some (r, tA', tM', sK', sR', sS', bK', bR', bS', so', tv', -1, sM', bM') := s1
    have s2' : FX8_sought all o1 m1 (nI (T 95)) pile (-1) l8 mt yt ym bt bm yf (nI mk) (nI bk) nb bg sp (-1) = _ := s2
    have E0 : FX0_easier t (nI (T 114)) V lies (nI w) (tA, tM, sK, sR, sS, bK, bR, bS, so, tv, tw, sM, bM, ez) = (if r = (-4) then some ((-4), tA', tM', sK', sR', sS', bK', bR', bS', so', tv', -1, sM', bM', ez) else bd1 (FX0_eases_f (tA', tM', sK', sR', sS', bK', bR', bS', so', tv', -1, sM', bM', ez) r (-1) (-1)) fun z2 => bd1 (FX0_easierP t (nI (T 114)) V lies 15 0 z2) fun z3 => FX0_easier_e (nI w) z3) := by
      unfold FX0_easier
      rw [wi, bd1_s, if_neg (show ¬ b2i true = 0 by decide)]
      show bd14 (FX0_seeks t tA tM sK sR sS bK bR bS sM bM (nI (T 114)) V lies (-1) (-1)) _ = _
      rw [s1', bd14_s]
    rw [E0]
    unfold FX8_easier
    rw [wi8, bd1_s, if_neg (show ¬ b2i true = 0 by decide), e1, bd3_s, s2', bd18_s]
    by_cases c1 : r = (-4)
    · rw [if_pos c1, if_pos c1]
      exact ⟨-4, _, all, on', many', mv', pile', l8', mt', yt', ym', bt', bm', fo', yf', mk', bk', nb', bg', sp', rfl, rfl, s3, hA, s4, by omega, by omega⟩
    · rw [if_neg c1, if_neg c1]
      obtain ⟨z2, f1, f2⟩ := eases_f (z := (tA', tM', sK', sR', sS', bK', bR', bS', so', tv', -1, sM', bM', ez)) (b := ez 0) (o1 := ez 1) (o2 := ez 2) (v := r) (x := -1) (y := -1) ⟨s3, rfl, rfl, rfl⟩
      obtain ⟨z3, b3, o3, o4, all3, on3, many3, mv3, pile3, l83, mt3, yt3, ym3, bt3, bm3, fo3, yf3, mk3, bk3, nb3, bg3, sp3, g1, g2, g3, g4, g5, g6, g7⟩ := ez_p h0 15 0 z2 r (-1) (-1) all on' many' mv' pile' l8' mt' yt' ym' bt' bm' fo' yf' mk' bk' nb' bg' sp' (by omega) f2 hA s4 (by omega) (by omega)
      have g1' : FX0_easierP t (nI (T 114)) V lies 15 0 z2 = some z3 := g1
      rw [f1, bd1_s, g1', bd1_s]
      refine ⟨if o3 = (-1) then -1 else if w = 0 then b3 else if w = 1 then o3 else o4, z3, all3, on3, many3, mv3, pile3, l83, mt3, yt3, ym3, bt3, bm3, fo3, yf3, mk3, bk3, nb3, bg3, sp3, ?_, ?_, g3.1, g4, g5, by omega, by omega⟩
      · unfold FX0_easier_e
        rw [show rd 3 z3.2.2.2.2.2.2.2.2.2.2.2.2.2 1 = some o3 from rdn (k := 1) (by omega) (by omega) g3.2.2.1, bd1_s]
        by_cases c2 : o3 = (-1)
        · rw [if_pos c2, if_pos c2]
        · rw [if_neg c2, if_neg c2]
          have : w = 0 ∨ w = 1 ∨ w = 2 := by omega
          rcases this with rfl | rfl | rfl
          · rw [show rd 3 z3.2.2.2.2.2.2.2.2.2.2.2.2.2 (nI 0) = some b3 from rdn (by omega) (by omega) g3.2.1, bd1_s]; rfl
          · rw [show rd 3 z3.2.2.2.2.2.2.2.2.2.2.2.2.2 (nI 1) = some o3 from rdn (by omega) (by omega) g3.2.2.1, bd1_s]; rfl
          · rw [show rd 3 z3.2.2.2.2.2.2.2.2.2.2.2.2.2 (nI 2) = some o4 from rdn (by omega) (by omega) g3.2.2.2, bd1_s]; rfl
      · show bd21 (loopC _ (r, -1, -1, nI 0, all, on', many', mv', pile', l8', mt', yt', ym', bt', bm', fo', yf', nI mk', nI bk', nb', bg', sp')) _ = _
        rw [g2, bd21_s]
        by_cases c2 : o3 = (-1)
        · rw [if_pos c2, if_pos c2]
        · rw [if_neg c2, if_neg c2]
          have : w = 0 ∨ w = 1 ∨ w = 2 := by omega
          rcases this with rfl | rfl | rfl <;> rfl
  · rw [decide_eq_false hp] at wi wi8
    refine ⟨-2, z, all, on, many, mv, pile, l8, mt, yt, ym, bt, bm, fo, yf, mk, bk, nb, bg, sp, ?_, ?_, hC, hA, hT, by omega, by omega⟩
    · unfold FX0_easier
      rw [wi, bd1_s, if_pos (show b2i false = 0 from rfl)]
    · unfold FX8_easier
      rw [wi8, bd1_s, if_pos (show b2i false = 0 from rfl)]
end P72
