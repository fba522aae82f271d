set_option maxRecDepth 100000
/-! easier: one step of the two loops -/
def EZI (z : EzR) (b o1 o2 : Int32) : Prop := TabC z.2.2.1 z.2.2.2.1 z.2.2.2.2.1 z.2.2.2.2.2.1 z.2.2.2.2.2.2.1 z.2.2.2.2.2.2.2.1 z.2.2.2.2.2.2.2.2.2.2.2.1 z.2.2.2.2.2.2.2.2.2.2.2.2.1 ∧ z.2.2.2.2.2.2.2.2.2.2.2.2.2 0 = b ∧ z.2.2.2.2.2.2.2.2.2.2.2.2.2 1 = o1 ∧ z.2.2.2.2.2.2.2.2.2.2.2.2.2 2 = o2
section P70
variable {all all0 t ca la : Nat → Int32} {T M : Nat → Nat} {V : Nat → BvT} {p q : Nat} {lies : Int64} {year : Int32}
theorem eases_f {z : EzR} {b o1 o2 v x y : Int32} (h : EZI z b o1 o2) : ∃ z', FX0_eases_f z v x y = some z' ∧ EZI z' v x y := by
  obtain ⟨a1, a2, a3, a4, a5, a6, a7, a8, a9, a10, a11, a12, a13, ez⟩ := z
  refine ⟨(a1, a2, a3, a4, a5, a6, a7, a8, a9, a10, a11, a12, a13, upd (upd (upd ez 0 v) 1 x) 2 y), ?_, h.1, rfl, rfl, rfl⟩
  show bd1 (wrI 3 ez 0 v) _ = _
  rw [show wrI 3 ez 0 v = some (upd ez 0 v) from wr_n (k := 0) (by omega) (by omega), bd1_s, show wrI 3 (upd ez 0 v) 1 x = some (upd (upd ez 0 v) 1 x) from wr_n (k := 1) (by omega) (by omega), bd1_s, show wrI 3 (upd (upd ez 0 v) 1 x) 2 y = some (upd (upd (upd ez 0 v) 1 x) 2 y) from wr_n (k := 2) (by omega) (by omega), bd1_s]
theorem ezstep (h : Cur T M V all0 t lies ca la year) (hp : p < 15) (hq : q < 15) (hpq : p ≠ q) {z : EzR} {b o1 o2 : Int32} (hz : EZI z b o1 o2) (hA : AllAt all T) {l8 bg : Nat → Int64} {mt yt ym bt bm : Nat → Int32} {mk bk : Nat} (hT : TabM l8 mt yt ym bt bm bg mk bk) (hmk : mk + 7000 < 2147483648) (hbk : bk + 7000 < 2147483648) (on many : Nat → Int32) (mv : Int32) (pile : Nat → Int32) (fo yf nb sp : Int32) :
    ∃ (z' : EzR) (b' o1' o2' : Int32) (all' on' many' : Nat → Int32) (mv' : Int32) (pile' : Nat → Int32) (l8' : Nat → Int64) (mt' yt' ym' bt' bm' : Nat → Int32) (fo' yf' : Int32) (mk' bk' : Nat) (nb' : Int32) (bg' : Nat → Int64) (sp' : Int32),
      (bd1 (FX0_isExchange t (nI p) (nI q)) fun x => if b2i x = 0 then some z else FX0_eases t (nI (T 114)) V lies (nI p) (nI q) z) = some z' ∧
      FX8_easier_b63 (-1) (nI p) b o1 o2 (nI q) all on many mv pile l8 mt yt ym bt bm fo yf (nI mk) (nI bk) nb bg sp = some (.inl (b', o1', o2', nI (q + 1), all', on', many', mv', pile', l8', mt', yt', ym', bt', bm', fo', yf', nI mk', nI bk', nb', bg', sp')) ∧
      EZI z' b' o1' o2' ∧ AllAt all' T ∧ TabM l8' mt' yt' ym' bt' bm' bg' mk' bk' ∧ mk' ≤ mk + 6001 ∧ bk' ≤ bk + 6001 := by
  have h' : Cur T M V all t lies ca la year := ⟨h.1, hA, h.2.2⟩
  have hW := h.1.1
  have ht := h.2.2.1
  have b1 := (wsh hW hp).1
  have b2 := (wsh hW hq).1
  have nz : ∀ k, k < 100 → (nD k = (-1 : Int32)) = (k = 0) := fun k hk => propext ⟨fun h => by
    have := congrArg Int32.toInt h
    rw [toD (by omega)] at this
    have h2 : (-1 : Int32).toInt = -1 := by decide
    omega, fun h => by rw [h]; rfl⟩
  have nn : (nD (T (41 + p)) = nD (T (41 + q))) = (T (41 + p) = T (41 + q)) := propext ⟨fun h => by
    have := congrArg Int32.toInt h
    rw [toD (by omega), toD (by omega)] at this
    omega, fun h => by rw [h]⟩
  have a1 : (41 : Int32) + nI p = nI (41 + p) := n_add 41 p
  have a2 : (41 : Int32) + nI q = nI (41 + q) := n_add 41 q
  have r1 : rd 1593 all (41 + nI p) = some (nD (T (41 + p))) := by rw [a1]; exact rdn (by omega) (by omega) (hA.d (by omega) (by omega))
  have r2 : rd 1593 all (41 + nI q) = some (nD (T (41 + q))) := by rw [a2]; exact rdn (by omega) (by omega) (hA.d (by omega) (by omega))
  have hq15 : ¬ (15 : Int32) ≤ nI q := by
    rw [show (15 : Int32) = nI 15 from rfl, le_f (by omega) (by omega)]
    exact id
  have q1 : nI q + 1 = nI (q + 1) := n_add q 1
  rw [isExch0 ht hW hp hq, bd1_s]
  by_cases c : 0 < T (41 + p) ∧ 0 < T (41 + q) ∧ T (41 + p) ≠ T (41 + q)
  · obtain ⟨c1, c2, c3⟩ := c
    rw [decide_eq_true ⟨c1, c2, c3⟩, if_neg (by decide)]
    obtain ⟨tA, tM, sK, sR, sS, bK, bR, bS, so, tv, tw, sM, bM, ez⟩ := z
    obtain ⟨u2, al1, on1, mn1, al2, e1, e2, e3, e4, hA2, hSO⟩ := pair_law h' hz.1 hT hmk hbk hp hq hpq c1 c2 on many tA tM pile yf nb sp
    obtain ⟨r, so', fo', tA', tM', sK', sR', sS', bK', bR', bS', tv', sM', bM', on', many', mv', pile', l8', mt', yt', ym', bt', bm', yf', mk', bk', nb', bg', sp', s1, s2, s3, s4, s5, s6, s7⟩ := hSO
    have hz2 : EZI (tA', tM', sK', sR', sS', bK', bR', bS', so', tv', -1, sM', bM', ez) b o1 o2 := ⟨s3, hz.2⟩
    have he0 : rd 3 ez 0 = some b := rdn (k := 0) (by omega) (by omega) hz.2.1
    have hE : FX0_eases t (nI (T 114)) V lies (nI p) (nI q) (tA, tM, sK, sR, sS, bK, bR, bS, so, tv, tw, sM, bM, ez) = FX0_eases_g (tA', tM', sK', sR', sS', bK', bR', bS', so', tv', -1, sM', bM', ez) r (nI p) (nI q) := by
      unfold FX0_eases
      rw [e1, bd1_s]
      show bd14 (FX0_seeks u2 tA tM sK sR sS bK bR bS sM bM (nI (T 114)) V lies (-1) (-1)) _ = _
      rw [s1, bd14_s]
    have hM : FX8_easier_b63 (-1) (nI p) b o1 o2 (nI q) all on many mv pile l8 mt yt ym bt bm fo yf (nI mk) (nI bk) nb bg sp = (if r < 0 then FX8_easier_j181 (nI q) b o1 o2 al2 on' many' mv' pile' l8' mt' yt' ym' bt' bm' fo' yf' (nI mk') (nI bk') nb' bg' sp' else if b = (-1) then FX8_easier_j170 (nI p) (nI q) r on' many' mv' pile' l8' mt' yt' ym' bt' bm' fo' yf' (nI mk') (nI bk') nb' bg' sp' al2 else if r < b then FX8_easier_j170 (nI p) (nI q) r on' many' mv' pile' l8' mt' yt' ym' bt' bm' fo' yf' (nI mk') (nI bk') nb' bg' sp' al2 else FX8_easier_j181 (nI q) b o1 o2 al2 on' many' mv' pile' l8' mt' yt' ym' bt' bm' fo' yf' (nI mk') (nI bk') nb' bg' sp') := by
      unfold FX8_easier_b63
      rw [if_neg hq15, r1, bd1_s, if_neg (by rw [nz _ (by omega)]; omega), r2, bd1_s, if_neg (by rw [nz _ (by omega)]; omega), bd1_s, bd1_s, if_neg (by rw [nn]; exact c3), e2, bd1_s, e3, bd3_s, s2, bd18_s, e4, bd1_s]
    rw [hE, hM]
    unfold FX0_eases_g
    by_cases d1 : r < 0
    · rw [if_pos d1, if_pos d1]
      exact ⟨_, _, _, _, _, _, _, _, _, _, _, _, _, _, _, _, _, _, _, _, _, _, rfl, by unfold FX8_easier_j181; rw [q1], hz2, hA2, s4, s6, s7⟩
    · rw [if_neg d1, if_neg d1]
      show ∃ (z' : EzR) (b' o1' o2' : Int32) (all' on' many' : Nat → Int32) (mv' : Int32) (pile' : Nat → Int32) (l8' : Nat → Int64) (mt' yt' ym' bt' bm' : Nat → Int32) (fo' yf' : Int32) (mk' bk' : Nat) (nb' : Int32) (bg' : Nat → Int64) (sp' : Int32), (bd1 (rd 3 ez 0) _) = some z' ∧ _
      rw [he0, bd1_s]
      obtain ⟨z3, f1, f2⟩ := eases_f (v := r) (x := nI p) (y := nI q) hz2
      by_cases d2 : b = (-1)
      · rw [if_pos d2, if_pos d2]
        exact ⟨z3, _, _, _, _, _, _, _, _, _, _, _, _, _, _, _, _, _, _, _, _, _, f1, by unfold FX8_easier_j170 FX8_easier_j181; rw [q1], f2, hA2, s4, s6, s7⟩
      · rw [if_neg d2, if_neg d2]
        by_cases d3 : r < b
        · rw [if_pos d3, if_pos d3]
          exact ⟨z3, _, _, _, _, _, _, _, _, _, _, _, _, _, _, _, _, _, _, _, _, _, f1, by unfold FX8_easier_j170 FX8_easier_j181; rw [q1], f2, hA2, s4, s6, s7⟩
        · rw [if_neg d3, if_neg d3]
          exact ⟨_, _, _, _, _, _, _, _, _, _, _, _, _, _, _, _, _, _, _, _, _, _, rfl, by unfold FX8_easier_j181; rw [q1], hz2, hA2, s4, s6, s7⟩
  · rw [decide_eq_false c, if_pos (show b2i false = 0 from rfl)]
    refine ⟨z, b, o1, o2, all, on, many, mv, pile, l8, mt, yt, ym, bt, bm, fo, yf, mk, bk, nb, bg, sp, rfl, ?_, hz, hA, hT, by omega, by omega⟩
    unfold FX8_easier_b63 FX8_easier_j181
    rw [if_neg hq15, r1, bd1_s, q1]
    by_cases c1 : T (41 + p) = 0
    · rw [if_pos (by rw [nz _ (by omega)]; exact c1)]
    · rw [if_neg (by rw [nz _ (by omega)]; exact c1), r2, bd1_s]
      by_cases c2 : T (41 + q) = 0
      · rw [if_pos (by rw [nz _ (by omega)]; exact c2)]
      · rw [if_neg (by rw [nz _ (by omega)]; exact c2), bd1_s, bd1_s, if_pos (by rw [nn]; exact Classical.byContradiction fun c3 => c ⟨by omega, by omega, c3⟩)]
end P70
