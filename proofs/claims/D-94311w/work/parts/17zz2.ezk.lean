set_option maxRecDepth 100000
/-! easier once more: the images stay (after p69 .. p72) -/
def AllK (g all : Nat → Int32) (T : Nat → Nat) : Prop := AllAt all T ∧ ∀ k, 531 ≤ k → all k = g k
section P69K
variable {all t ca la : Nat → Int32} {T M : Nat → Nat} {V : Nat → BvT} {p q : Nat} {lies : Int64} {year : Int32}
theorem swaps8K (hA : AllAt all T) (hp : p < 15) (hq : q < 15) : ∃ all', FX8_swaps all (nI p) (nI q) = some all' ∧ AllAt all' (swT T p q) ∧ ∀ k, 531 ≤ k → all' k = all k := by
  have a1 : (41 : Int32) + nI p = nI (41 + p) := n_add 41 p
  have a2 : (41 : Int32) + nI q = nI (41 + q) := n_add 41 q
  refine ⟨upd (upd all (41 + p) (all (41 + q))) (41 + q) (all (41 + p)), ?_, fun k hk => ?_, fun k hk => ?_⟩
  · unfold FX8_swaps
    rw [a1, a2, rdn (by omega) (by omega) (show all (41 + p) = all (41 + p) from rfl), bd1_s, rdn (by omega) (by omega) (show all (41 + q) = all (41 + q) from rfl), bd1_s, wr_n (by omega) (by omega), bd1_s, wr_n (by omega) (by omega), bd1_s]
  · show (if k = 41 + q then all (41 + p) else if k = 41 + p then all (41 + q) else all k) = _
    by_cases c1 : k = 41 + q
    · rw [if_pos c1, c1, hA _ (by omega), rp_d (by omega), rp_d (by omega), swT_q]
    · by_cases c2 : k = 41 + p
      · rw [if_neg c1, if_pos c2, c2, hA _ (by omega), rp_d (by omega), rp_d (by omega), swT_p]
      · rw [if_neg c1, if_neg c2, hA k hk]
        exact (rp_cong (swT_o (by omega) (by omega))).symm
  · show (if k = 41 + q then all (41 + p) else if k = 41 + p then all (41 + q) else all k) = _
    rw [if_neg (by omega), if_neg (by omega)]
theorem pair_lawK (h : Cur T M V all t lies ca la year) {sK sR bK bR l8 bg : Nat → Int64} {sS bS mt yt ym bt bm : Nat → Int32} {sM bM : Int32} {mk bk : Nat} (hC : TabC sK sR sS bK bR bS sM bM) (hT : TabM l8 mt yt ym bt bm bg mk bk) (hmk : mk + 7000 < 2147483648) (hbk : bk + 7000 < 2147483648) (hp : p < 15) (hq : q < 15) (hpq : p ≠ q) (wp : 0 < T (41 + p)) (wq : 0 < T (41 + q)) (on many tA tM pile : Nat → Int32) (yf nb sp : Int32) : ∃ u2 all' o1 m1 all2, FX0_exchanged t (nI p) (nI q) = some u2 ∧ FX8_swaps all (nI p) (nI q) = some all' ∧ FX8_looksNow all' on many = some (o1, m1, nI (T 95)) ∧ FX8_swaps all' (nI p) (nI q) = some all2 ∧ AllK all all2 T ∧
    SO mk bk 6001 (-1) (FX0_seeks u2 tA tM sK sR sS bK bR bS sM bM (nI (T 114)) V lies (-1) (-1)) (FX8_sought all' o1 m1 (nI (T 95)) pile (-1) l8 mt yt ym bt bm yf (nI mk) (nI bk) nb bg sp (-1)) := by
  have hs := h.vs
  have hl := h.li
  obtain ⟨⟨hW, hS, hm, hy, hB⟩, hA, ht, -, hc, hla, rfl⟩ := h
  obtain ⟨u2, e1, ht2⟩ := exch0 ht hW hp hq hpq wp wq
  obtain ⟨all', e2, hA2, hK2⟩ := swaps8K hA hp hq
  obtain ⟨all2, e4, hA3, hK3⟩ := swaps8K hA2 hp hq
  have hW2 := WT_sw hW hp hq wp wq
  have o : ∀ k, k < 41 ∨ 56 ≤ k → swT T p q k = T k := fun k hk => swT_o (by omega) (by omega)
  have oO : (fun k => swT T p q (80 + k)) = (fun k => T (80 + k)) := funext fun k => o _ (by omega)
  have hS2 : WO (swT T p q) (fun k => swT T p q (80 + k)) M := by rw [oO]; exact WO_sw hS hp hq
  obtain ⟨o1, m1, e3, hon⟩ := looksNow8 hA2 hW2 hS2 on many
  rw [o 95 (by omega)] at e3
  rw [oO] at hon
  have hB2 : BarsT (swT T p q) V := hB.cong (fun k hk _ => o k (by omega))
  have hs2 : VS (swT T p q) ((fun k => T (80 + k)), M, T 95) := ⟨WO_sw hS hp hq, hs.2⟩
  have qq := sought_law (as1 := 0) (w := 0) ht2 hA2 hW2 (hB2.ok hA2 hW2) (by omega) (by omega) hs2 hon hC hT hmk hbk tA tM pile yf nb sp
  rw [o 114 (by omega), ← hl] at qq
  exact ⟨u2, all', o1, m1, all2, e1, e2, e3, e4, ⟨hA3.congT (fun k _ => (swT_sw k).symm), fun k hk => (hK3 k hk).trans (hK2 k hk)⟩, qq⟩
end P69K
section P70K
variable {all all0 t ca la : Nat → Int32} {T M : Nat → Nat} {V : Nat → BvT} {p q : Nat} {lies : Int64} {year : Int32}
theorem ezstepK (h : Cur T M V all0 t lies ca la year) (hp : p < 15) (hq : q < 15) (hpq : p ≠ q) {z : EzR} {b o1 o2 : Int32} (hz : EZI z b o1 o2) (hA : AllAt all T) {l8 bg : Nat → Int64} {mt yt ym bt bm : Nat → Int32} {mk bk : Nat} (hT : TabM l8 mt yt ym bt bm bg mk bk) (hmk : mk + 7000 < 2147483648) (hbk : bk + 7000 < 2147483648) (on many : Nat → Int32) (mv : Int32) (pile : Nat → Int32) (fo yf nb sp : Int32) :
    ∃ (z' : EzR) (b' o1' o2' : Int32) (all' on' many' : Nat → Int32) (mv' : Int32) (pile' : Nat → Int32) (l8' : Nat → Int64) (mt' yt' ym' bt' bm' : Nat → Int32) (fo' yf' : Int32) (mk' bk' : Nat) (nb' : Int32) (bg' : Nat → Int64) (sp' : Int32),
      (bd1 (FX0_isExchange t (nI p) (nI q)) fun x => if b2i x = 0 then some z else FX0_eases t (nI (T 114)) V lies (nI p) (nI q) z) = some z' ∧
      FX8_easier_b63 (-1) (nI p) b o1 o2 (nI q) all on many mv pile l8 mt yt ym bt bm fo yf (nI mk) (nI bk) nb bg sp = some (.inl (b', o1', o2', nI (q + 1), all', on', many', mv', pile', l8', mt', yt', ym', bt', bm', fo', yf', nI mk', nI bk', nb', bg', sp')) ∧
      EZI z' b' o1' o2' ∧ AllK all all' T ∧ TabM l8' mt' yt' ym' bt' bm' bg' mk' bk' ∧ mk' ≤ mk + 6001 ∧ bk' ≤ bk + 6001 := by
  have h' : Cur T M V all t lies ca la year := ⟨h.1, hA, h.2.2⟩
  have hW := h.1.1
  have ht := h.2.2.1
  have b1 := (wsh hW hp).1
  have b2 := (wsh hW hq).1
  have nz : ∀ k, k < 100 → (nD k = (-1 : Int32)) = (k = 0) := fun k hk => propext ⟨fun h => by
    have := congrArg Int32.toInt h
    rw [toD (by omega)] at this
    have h2 : (-1 : Int32).toInt = -1 := by decide
    omega, fun h => by rw [h]; rfl⟩
  have nn : (nD (T (41 + p)) = nD (T (41 + q))) = (T (41 + p) = T (41 + q)) := propext ⟨fun h => by
    have := congrArg Int32.toInt h
    rw [toD (by omega), toD (by omega)] at this
    omega, fun h => by rw [h]⟩
  have a1 : (41 : Int32) + nI p = nI (41 + p) := n_add 41 p
  have a2 : (41 : Int32) + nI q = nI (41 + q) := n_add 41 q
  have r1 : rd 1593 all (41 + nI p) = some (nD (T (41 + p))) := by rw [a1]; exact rdn (by omega) (by omega) (hA.d (by omega) (by omega))
  have r2 : rd 1593 all (41 + nI q) = some (nD (T (41 + q))) := by rw [a2]; exact rdn (by omega) (by omega) (hA.d (by omega) (by omega))
  have hq15 : ¬ (15 : Int32) ≤ nI q := by
    rw [show (15 : Int32) = nI 15 from rfl, le_f (by omega) (by omega)]
    exact id
  have q1 : nI q + 1 = nI (q + 1) := n_add q 1
  rw [isExch0 ht hW hp hq, bd1_s]
  by_cases c : 0 < T (41 + p) ∧ 0 < T (41 + q) ∧ T (41 + p) ≠ T (41 + q)
  · obtain ⟨c1, c2, c3⟩ := c
    rw [decide_eq_true ⟨c1, c2, c3⟩, if_neg (by decide)]
    obtain ⟨tA, tM, sK, sR, sS, bK, bR, bS, so, tv, tw, sM, bM, ez⟩ := z
    obtain ⟨u2, al1, on1, mn1, al2, e1, e2, e3, e4, hA2, hSO⟩ := pair_lawK h' hz.1 hT hmk hbk hp hq hpq c1 c2 on many tA tM pile yf nb sp
    obtain ⟨r, so', fo', tA', tM', sK', sR', sS', bK', bR', bS', tv', sM', bM', on', many', mv', pile', l8', mt', yt', ym', bt', bm', yf', mk', bk', nb', bg', sp', s1, s2, s3, s4, s5, s6, s7⟩ := hSO
    have hz2 : EZI (tA', tM', sK', sR', sS', bK', bR', bS', so', tv', -1, sM', bM', ez) b o1 o2 := ⟨s3, hz.2⟩
    have he0 : rd 3 ez 0 = some b := rdn (k := 0) (by omega) (by omega) hz.2.1
    have hE : FX0_eases t (nI (T 114)) V lies (nI p) (nI q) (tA, tM, sK, sR, sS, bK, bR, bS, so, tv, tw, sM, bM, ez) = FX0_eases_g (tA', tM', sK', sR', sS', bK', bR', bS', so', tv', -1, sM', bM', ez) r (nI p) (nI q) := by
      unfold FX0_eases
      rw [e1, bd1_s]
      show bd14 (FX0_seeks u2 tA tM sK sR sS bK bR bS sM bM (nI (T 114)) V lies (-1) (-1)) _ = _
      rw [s1, bd14_s]
    have hM : FX8_easier_b63 (-1) (nI p) b o1 o2 (nI q) all on many mv pile l8 mt yt ym bt bm fo yf (nI mk) (nI bk) nb bg sp = (if r < 0 then FX8_easier_j181 (nI q) b o1 o2 al2 on' many' mv' pile' l8' mt' yt' ym' bt' bm' fo' yf' (nI mk') (nI bk') nb' bg' sp' else if b = (-1) then FX8_easier_j170 (nI p) (nI q) r on' many' mv' pile' l8' mt' yt' ym' bt' bm' fo' yf' (nI mk') (nI bk') nb' bg' sp' al2 else if r < b then FX8_easier_j170 (nI p) (nI q) r on' many' mv' pile' l8' mt' yt' ym' bt' bm' fo' yf' (nI mk') (nI bk') nb' bg' sp' al2 else FX8_easier_j181 (nI q) b o1 o2 al2 on' many' mv' pile' l8' mt' yt' ym' bt' bm' fo' yf' (nI mk') (nI bk') nb' bg' sp') := by
      unfold FX8_easier_b63
      rw [if_neg hq15, r1, bd1_s, if_neg (by rw [nz _ (by omega)]; omega), r2, bd1_s, if_neg (by rw [nz _ (by omega)]; omega), bd1_s, bd1_s, if_neg (by rw [nn]; exact c3), e2, bd1_s, e3, bd3_s, s2, bd18_s, e4, bd1_s]
    rw [hE, hM]
    unfold FX0_eases_g
    by_cases d1 : r < 0
    · rw [if_pos d1, if_pos d1]
      exact ⟨_, _, _, _, _, _, _, _, _, _, _, _, _, _, _, _, _, _, _, _, _, _, rfl, by unfold FX8_easier_j181; rw [q1], hz2, hA2, s4, s6, s7⟩
    · rw [if_neg d1, if_neg d1]
      show ∃ (z' : EzR) (b' o1' o2' : Int32) (all' on' many' : Nat → Int32) (mv' : Int32) (pile' : Nat → Int32) (l8' : Nat → Int64) (mt' yt' ym' bt' bm' : Nat → Int32) (fo' yf' : Int32) (mk' bk' : Nat) (nb' : Int32) (bg' : Nat → Int64) (sp' : Int32), (bd1 (rd 3 ez 0) _) = some z' ∧ _
      rw [he0, bd1_s]
      obtain ⟨z3, f1, f2⟩ := eases_f (v := r) (x := nI p) (y := nI q) hz2
      by_cases d2 : b = (-1)
      · rw [if_pos d2, if_pos d2]
        exact ⟨z3, _, _, _, _, _, _, _, _, _, _, _, _, _, _, _, _, _, _, _, _, _, f1, by unfold FX8_easier_j170 FX8_easier_j181; rw [q1], f2, hA2, s4, s6, s7⟩
      · rw [if_neg d2, if_neg d2]
        by_cases d3 : r < b
        · rw [if_pos d3, if_pos d3]
          exact ⟨z3, _, _, _, _, _, _, _, _, _, _, _, _, _, _, _, _, _, _, _, _, _, f1, by unfold FX8_easier_j170 FX8_easier_j181; rw [q1], f2, hA2, s4, s6, s7⟩
        · rw [if_neg d3, if_neg d3]
          exact ⟨_, _, _, _, _, _, _, _, _, _, _, _, _, _, _, _, _, _, _, _, _, _, rfl, by unfold FX8_easier_j181; rw [q1], hz2, hA2, s4, s6, s7⟩
  · rw [decide_eq_false c, if_pos (show b2i false = 0 from rfl)]
    refine ⟨z, b, o1, o2, all, on, many, mv, pile, l8, mt, yt, ym, bt, bm, fo, yf, mk, bk, nb, bg, sp, rfl, ?_, hz, ⟨hA, fun _ _ => rfl⟩, hT, by omega, by omega⟩
    unfold FX8_easier_b63 FX8_easier_j181
    rw [if_neg hq15, r1, bd1_s, q1]
    by_cases c1 : T (41 + p) = 0
    · rw [if_pos (by rw [nz _ (by omega)]; exact c1)]
    · rw [if_neg (by rw [nz _ (by omega)]; exact c1), r2, bd1_s]
      by_cases c2 : T (41 + q) = 0
      · rw [if_pos (by rw [nz _ (by omega)]; exact c2)]
      · rw [if_neg (by rw [nz _ (by omega)]; exact c2), bd1_s, bd1_s, if_pos (by rw [nn]; exact Classical.byContradiction fun c3 => c ⟨by omega, by omega, c3⟩)]
end P70K
section P71K
variable {all0 t ca la : Nat → Int32} {T M : Nat → Nat} {V : Nat → BvT} {p q : Nat} {lies : Int64} {year : Int32}
theorem ez_qK (h : Cur T M V all0 t lies ca la year) (hp : p < 15) : ∀ (d q : Nat) (z : EzR) (b o1 o2 : Int32) (all on many : Nat → Int32) (mv : Int32) (pile : Nat → Int32) (l8 : Nat → Int64) (mt yt ym bt bm : Nat → Int32) (fo yf : Int32) (mk bk : Nat) (nb : Int32) (bg : Nat → Int64) (sp : Int32), q + d = 15 → p < q → EZI z b o1 o2 → AllAt all T → TabM l8 mt yt ym bt bm bg mk bk → mk + 6001 * d + 7000 < 2147483648 → bk + 6001 * d + 7000 < 2147483648 →
    ∃ (z' : EzR) (b' o1' o2' : Int32) (all' on' many' : Nat → Int32) (mv' : Int32) (pile' : Nat → Int32) (l8' : Nat → Int64) (mt' yt' ym' bt' bm' : Nat → Int32) (fo' yf' : Int32) (mk' bk' : Nat) (nb' : Int32) (bg' : Nat → Int64) (sp' : Int32), FX0_easierQ t (nI (T 114)) V lies (nI p) d (nI q) z = some z' ∧ loopC (fun (s : Int32 × Int32 × Int32 × Int32 × (Nat → Int32) × (Nat → Int32) × (Nat → Int32) × Int32 × (Nat → Int32) × (Nat → Int64) × (Nat → Int32) × (Nat → Int32) × (Nat → Int32) × (Nat → Int32) × (Nat → Int32) × Int32 × Int32 × Int32 × Int32 × Int32 × (Nat → Int64) × Int32) => FX8_easier_b63 (-1) (nI p) s.1 s.2.1 s.2.2.1 s.2.2.2.1 s.2.2.2.2.1 s.2.2.2.2.2.1 s.2.2.2.2.2.2.1 s.2.2.2.2.2.2.2.1 s.2.2.2.2.2.2.2.2.1 s.2.2.2.2.2.2.2.2.2.1 s.2.2.2.2.2.2.2.2.2.2.1 s.2.2.2.2.2.2.2.2.2.2.2.1 s.2.2.2.2.2.2.2.2.2.2.2.2.1 s.2.2.2.2.2.2.2.2.2.2.2.2.2.1 s.2.2.2.2.2.2.2.2.2.2.2.2.2.2.1 s.2.2.2.2.2.2.2.2.2.2.2.2.2.2.2.1 s.2.2.2.2.2.2.2.2.2.2.2.2.2.2.2.2.1 s.2.2.2.2.2.2.2.2.2.2.2.2.2.2.2.2.2.1 s.2.2.2.2.2.2.2.2.2.2.2.2.2.2.2.2.2.2.1 s.2.2.2.2.2.2.2.2.2.2.2.2.2.2.2.2.2.2.2.1 s.2.2.2.2.2.2.2.2.2.2.2.2.2.2.2.2.2.2.2.2.1 s.2.2.2.2.2.2.2.2.2.2.2.2.2.2.2.2.2.2.2.2.2) (b, o1, o2, nI q, all, on, many, mv, pile, l8, mt, yt, ym, bt, bm, fo, yf, nI mk, nI bk, nb, bg, sp) = some (b', o1', o2', all', on', many', mv', pile', l8', mt', yt', ym', bt', bm', fo', yf', nI mk', nI bk', nb', bg', sp') ∧ EZI z' b' o1' o2' ∧ AllK all all' T ∧ TabM l8' mt' yt' ym' bt' bm' bg' mk' bk' ∧ mk' ≤ mk + 6001 * d ∧ bk' ≤ bk + 6001 * d := by
  intro d
  induction d with
  | zero =>
    intro q z b o1 o2 all on many mv pile l8 mt yt ym bt bm fo yf mk bk nb bg sp hq hpq hz hA hT hmk hbk
    obtain rfl : q = 15 := by omega
    refine ⟨z, b, o1, o2, all, on, many, mv, pile, l8, mt, yt, ym, bt, bm, fo, yf, mk, bk, nb, bg, sp, rfl, loopC_inr ?_, hz, ⟨hA, fun _ _ => rfl⟩, hT, by omega, by omega⟩
    show FX8_easier_b63 (-1) (nI p) b o1 o2 (nI 15) all on many mv pile l8 mt yt ym bt bm fo yf (nI mk) (nI bk) nb bg sp = _
    unfold FX8_easier_b63
    exact if_pos (show (15 : Int32) ≤ nI 15 by decide)
  | succ d ih =>
    intro q z b o1 o2 all on many mv pile l8 mt yt ym bt bm fo yf mk bk nb bg sp hq hpq hz hA hT hmk hbk
    obtain ⟨z1, b1, o3, o4, all1, on1, many1, mv1, pile1, l81, mt1, yt1, ym1, bt1, bm1, fo1, yf1, mk1, bk1, nb1, bg1, sp1, g1, g2, g3, g4, g5, g6, g7⟩ := ezstepK h hp (show q < 15 by omega) (by omega) hz hA hT (by omega) (by omega) on many mv pile fo yf nb sp
    obtain ⟨z2, b2, o5, o6, all2, on2, many2, mv2, pile2, l82, mt2, yt2, ym2, bt2, bm2, fo2, yf2, mk2, bk2, nb2, bg2, sp2, k1, k2, k3, k4, k5, k6, k7⟩ := ih (q + 1) z1 b1 o3 o4 all1 on1 many1 mv1 pile1 l81 mt1 yt1 ym1 bt1 bm1 fo1 yf1 mk1 bk1 nb1 bg1 sp1 (by omega) (by omega) g3 g4.1 g5 (by omega) (by omega)
    refine ⟨z2, b2, o5, o6, all2, on2, many2, mv2, pile2, l82, mt2, yt2, ym2, bt2, bm2, fo2, yf2, mk2, bk2, nb2, bg2, sp2, ?_, (loopC_inl g2).trans k2, k3, ⟨k4.1, fun i hi => (k4.2 i hi).trans (g4.2 i hi)⟩, k5, by omega, by omega⟩
    rw [q_step g1, show nI q + 1 = nI (q + 1) from n_add q 1]
    exact k1
theorem ez_pK (h : Cur T M V all0 t lies ca la year) : ∀ (d p : Nat) (z : EzR) (b o1 o2 : Int32) (all on many : Nat → Int32) (mv : Int32) (pile : Nat → Int32) (l8 : Nat → Int64) (mt yt ym bt bm : Nat → Int32) (fo yf : Int32) (mk bk : Nat) (nb : Int32) (bg : Nat → Int64) (sp : Int32), p + d = 15 → EZI z b o1 o2 → AllAt all T → TabM l8 mt yt ym bt bm bg mk bk → mk + 90015 * d + 7000 < 2147483648 → bk + 90015 * d + 7000 < 2147483648 →
    ∃ (z' : EzR) (b' o1' o2' : Int32) (all' on' many' : Nat → Int32) (mv' : Int32) (pile' : Nat → Int32) (l8' : Nat → Int64) (mt' yt' ym' bt' bm' : Nat → Int32) (fo' yf' : Int32) (mk' bk' : Nat) (nb' : Int32) (bg' : Nat → Int64) (sp' : Int32), FX0_easierP t (nI (T 114)) V lies d (nI p) z = some z' ∧ loopC (fun (s : Int32 × Int32 × Int32 × Int32 × (Nat → Int32) × (Nat → Int32) × (Nat → Int32) × Int32 × (Nat → Int32) × (Nat → Int64) × (Nat → Int32) × (Nat → Int32) × (Nat → Int32) × (Nat → Int32) × (Nat → Int32) × Int32 × Int32 × Int32 × Int32 × Int32 × (Nat → Int64) × Int32) => FX8_easier_b50 (-1) s.1 s.2.1 s.2.2.1 s.2.2.2.1 s.2.2.2.2.1 s.2.2.2.2.2.1 s.2.2.2.2.2.2.1 s.2.2.2.2.2.2.2.1 s.2.2.2.2.2.2.2.2.1 s.2.2.2.2.2.2.2.2.2.1 s.2.2.2.2.2.2.2.2.2.2.1 s.2.2.2.2.2.2.2.2.2.2.2.1 s.2.2.2.2.2.2.2.2.2.2.2.2.1 s.2.2.2.2.2.2.2.2.2.2.2.2.2.1 s.2.2.2.2.2.2.2.2.2.2.2.2.2.2.1 s.2.2.2.2.2.2.2.2.2.2.2.2.2.2.2.1 s.2.2.2.2.2.2.2.2.2.2.2.2.2.2.2.2.1 s.2.2.2.2.2.2.2.2.2.2.2.2.2.2.2.2.2.1 s.2.2.2.2.2.2.2.2.2.2.2.2.2.2.2.2.2.2.1 s.2.2.2.2.2.2.2.2.2.2.2.2.2.2.2.2.2.2.2.1 s.2.2.2.2.2.2.2.2.2.2.2.2.2.2.2.2.2.2.2.2.1 s.2.2.2.2.2.2.2.2.2.2.2.2.2.2.2.2.2.2.2.2.2) (b, o1, o2, nI p, all, on, many, mv, pile, l8, mt, yt, ym, bt, bm, fo, yf, nI mk, nI bk, nb, bg, sp) = some (b', o1', o2', all', on', many', mv', pile', l8', mt', yt', ym', bt', bm', fo', yf', nI mk', nI bk', nb', bg', sp') ∧ EZI z' b' o1' o2' ∧ AllK all all' T ∧ TabM l8' mt' yt' ym' bt' bm' bg' mk' bk' ∧ mk' ≤ mk + 90015 * d ∧ bk' ≤ bk + 90015 * d := by
  intro d
  induction d with
  | zero =>
    intro p z b o1 o2 all on many mv pile l8 mt yt ym bt bm fo yf mk bk nb bg sp hq hz hA hT hmk hbk
    obtain rfl : p = 15 := by omega
    refine ⟨z, b, o1, o2, all, on, many, mv, pile, l8, mt, yt, ym, bt, bm, fo, yf, mk, bk, nb, bg, sp, rfl, loopC_inr ?_, hz, ⟨hA, fun _ _ => rfl⟩, hT, by omega, by omega⟩
    show FX8_easier_b50 (-1) b o1 o2 (nI 15) all on many mv pile l8 mt yt ym bt bm fo yf (nI mk) (nI bk) nb bg sp = _
    unfold FX8_easier_b50
    exact if_pos (show (15 : Int32) ≤ nI 15 by decide)
  | succ d ih =>
    intro p z b o1 o2 all on many mv pile l8 mt yt ym bt bm fo yf mk bk nb bg sp hq hz hA hT hmk hbk
    obtain ⟨z1, b1, o3, o4, all1, on1, many1, mv1, pile1, l81, mt1, yt1, ym1, bt1, bm1, fo1, yf1, mk1, bk1, nb1, bg1, sp1, g1, g2, g3, g4, g5, g6, g7⟩ := ez_qK h (show p < 15 by omega) d (p + 1) z b o1 o2 all on many mv pile l8 mt yt ym bt bm fo yf mk bk nb bg sp (by omega) (by omega) hz hA hT (by omega) (by omega)
    obtain ⟨z2, b2, o5, o6, all2, on2, many2, mv2, pile2, l82, mt2, yt2, ym2, bt2, bm2, fo2, yf2, mk2, bk2, nb2, bg2, sp2, k1, k2, k3, k4, k5, k6, k7⟩ := ih (p + 1) z1 b1 o3 o4 all1 on1 many1 mv1 pile1 l81 mt1 yt1 ym1 bt1 bm1 fo1 yf1 mk1 bk1 nb1 bg1 sp1 (by omega) g3 g4.1 g5 (by omega) (by omega)
    have p1 : nI p + 1 = nI (p + 1) := n_add p 1
    refine ⟨z2, b2, o5, o6, all2, on2, many2, mv2, pile2, l82, mt2, yt2, ym2, bt2, bm2, fo2, yf2, mk2, bk2, nb2, bg2, sp2, ?_, (loopC_inl ?_).trans k2, k3, ⟨k4.1, fun i hi => (k4.2 i hi).trans (g4.2 i hi)⟩, k5, by omega, by omega⟩
    · show (bd1 (FX0_easierQ t (nI (T 114)) V lies (nI p) d (nI p + 1) z) fun z2 => FX0_easierP t (nI (T 114)) V lies d (nI p + 1) z2) = _
      rw [p1, g1, bd1_s]
      exact k1
    · show FX8_easier_b50 (-1) b o1 o2 (nI p) all on many mv pile l8 mt yt ym bt bm fo yf (nI mk) (nI bk) nb bg sp = _
      unfold FX8_easier_b50
      rw [if_neg (by rw [show (15 : Int32) = nI 15 from rfl, le_f (by omega) (by omega)]; exact id), p1, g2, bd21_s]
end P71K
section P72K
variable {all t ca la : Nat → Int32} {T M : Nat → Nat} {V : Nat → BvT} {lies : Int64} {year : Int32}
theorem easierK_law (h : Cur T M V all t lies ca la year) (z : EzR) (hC : TabC z.2.2.1 z.2.2.2.1 z.2.2.2.2.1 z.2.2.2.2.2.1 z.2.2.2.2.2.2.1 z.2.2.2.2.2.2.2.1 z.2.2.2.2.2.2.2.2.2.2.2.1 z.2.2.2.2.2.2.2.2.2.2.2.2.1) {l8 bg : Nat → Int64} {mt yt ym bt bm : Nat → Int32} {mk bk : Nat} (hT : TabM l8 mt yt ym bt bm bg mk bk) (hmk : mk + 1400000 < 2147483648) (hbk : bk + 1400000 < 2147483648) (on many : Nat → Int32) (mv : Int32) (pile : Nat → Int32) (fo yf nb sp p1 : Int32) :
    ∃ (ans : Int32) (z' : EzR) (all' on' many' : Nat → Int32) (mv' : Int32) (pile' : Nat → Int32) (l8' : Nat → Int64) (mt' yt' ym' bt' bm' : Nat → Int32) (fo' yf' : Int32) (mk' bk' : Nat) (nb' : Int32) (bg' : Nat → Int64) (sp' : Int32),
      FX0_easier t (nI (T 114)) V lies p1 z = some (ans, z') ∧ FX8_easier all on many mv pile (-1) l8 mt yt ym bt bm fo yf (nI mk) (nI bk) nb bg sp p1 = some (ans, all', on', many', mv', pile', l8', mt', yt', ym', bt', bm', fo', yf', nI mk', nI bk', nb', bg', sp') ∧
      TabC z'.2.2.1 z'.2.2.2.1 z'.2.2.2.2.1 z'.2.2.2.2.2.1 z'.2.2.2.2.2.2.1 z'.2.2.2.2.2.2.2.1 z'.2.2.2.2.2.2.2.2.2.2.2.1 z'.2.2.2.2.2.2.2.2.2.2.2.2.1 ∧ AllK all all' T ∧ TabM l8' mt' yt' ym' bt' bm' bg' mk' bk' ∧ mk' ≤ mk + 1400000 ∧ bk' ≤ bk + 1400000 := by
  have h0 := h
  have hs := h.vs
  have hl := h.li
  obtain ⟨⟨hW, hS, hm, hy, hB⟩, hA, ht, -, hc, hla, hyr⟩ := h
  have wi : FX0_in p1.toInt64 0 2 = some (decide (0 ≤ p1.toInt ∧ p1.toInt ≤ 2)) := inL (by decide) (by decide)
  have wi8 : FX8_within p1.toInt64 0 2 = some (decide (0 ≤ p1.toInt ∧ p1.toInt ≤ 2)) := wi
  by_cases hp : 0 ≤ p1.toInt ∧ p1.toInt ≤ 2
  · obtain ⟨w, hw, rfl⟩ := (rng p1 (n := 3) (by omega)).resolve_right (fun z => z ⟨by omega, by omega⟩)
    rw [decide_eq_true hp] at wi wi8
    obtain ⟨o1, m1, e1, hon⟩ := looksNow8 hA hW hS on many
    obtain ⟨tA, tM, sK, sR, sS, bK, bR, bS, so, tv, tw, sM, bM, ez⟩ := z
    have q := sought_law (as1 := 0) (w := 0) ht hA hW (hB.ok hA hW) (by omega) (by omega) hs hon hC hT (by omega) (by omega) tA tM pile yf nb sp
    rw [← hl] at q
    obtain ⟨r, so', fo', tA', tM', sK', sR', sS', bK', bR', bS', tv', sM', bM', on', many', mv', pile', l8', mt', yt', ym', bt', bm', yf', mk', bk', nb', bg', sp', s1, s2, s3, s4, s5, s6, s7⟩ := q
    have s1' : FX0_seeks t tA tM sK sR sS bK bR bS sM bM (nI (T 114)) V lies (-1) (-1) = some (r, tA', tM', sK', sR', sS', bK', bR', bS', so', tv', -1, sM', bM') := s1
    have s2' : FX8_sought all o1 m1 (nI (T 95)) pile (-1) l8 mt yt ym bt bm yf (nI mk) (nI bk) nb bg sp (-1) = _ := s2
    have E0 : FX0_easier t (nI (T 114)) V lies (nI w) (tA, tM, sK, sR, sS, bK, bR, bS, so, tv, tw, sM, bM, ez) = (if r = (-4) then some ((-4), tA', tM', sK', sR', sS', bK', bR', bS', so', tv', -1, sM', bM', ez) else bd1 (FX0_eases_f (tA', tM', sK', sR', sS', bK', bR', bS', so', tv', -1, sM', bM', ez) r (-1) (-1)) fun z2 => bd1 (FX0_easierP t (nI (T 114)) V lies 15 0 z2) fun z3 => FX0_easier_e (nI w) z3) := by
      unfold FX0_easier
      rw [wi, bd1_s, if_neg (show ¬ b2i true = 0 by decide)]
      show bd14 (FX0_seeks t tA tM sK sR sS bK bR bS sM bM (nI (T 114)) V lies (-1) (-1)) _ = _
      rw [s1', bd14_s]
    rw [E0]
    unfold FX8_easier
    rw [wi8, bd1_s, if_neg (show ¬ b2i true = 0 by decide), e1, bd3_s, s2', bd18_s]
    by_cases c1 : r = (-4)
    · rw [if_pos c1, if_pos c1]
      exact ⟨-4, _, all, on', many', mv', pile', l8', mt', yt', ym', bt', bm', fo', yf', mk', bk', nb', bg', sp', rfl, rfl, s3, ⟨hA, fun _ _ => rfl⟩, s4, by omega, by omega⟩
    · rw [if_neg c1, if_neg c1]
      obtain ⟨z2, f1, f2⟩ := eases_f (z := (tA', tM', sK', sR', sS', bK', bR', bS', so', tv', -1, sM', bM', ez)) (b := ez 0) (o1 := ez 1) (o2 := ez 2) (v := r) (x := -1) (y := -1) ⟨s3, rfl, rfl, rfl⟩
      obtain ⟨z3, b3, o3, o4, all3, on3, many3, mv3, pile3, l83, mt3, yt3, ym3, bt3, bm3, fo3, yf3, mk3, bk3, nb3, bg3, sp3, g1, g2, g3, g4, g5, g6, g7⟩ := ez_pK h0 15 0 z2 r (-1) (-1) all on' many' mv' pile' l8' mt' yt' ym' bt' bm' fo' yf' mk' bk' nb' bg' sp' (by omega) f2 hA s4 (by omega) (by omega)
      have g1' : FX0_easierP t (nI (T 114)) V lies 15 0 z2 = some z3 := g1
      rw [f1, bd1_s, g1', bd1_s]
      refine ⟨if o3 = (-1) then -1 else if w = 0 then b3 else if w = 1 then o3 else o4, z3, all3, on3, many3, mv3, pile3, l83, mt3, yt3, ym3, bt3, bm3, fo3, yf3, mk3, bk3, nb3, bg3, sp3, ?_, ?_, g3.1, g4, g5, by omega, by omega⟩
      · unfold FX0_easier_e
        rw [show rd 3 z3.2.2.2.2.2.2.2.2.2.2.2.2.2 1 = some o3 from rdn (k := 1) (by omega) (by omega) g3.2.2.1, bd1_s]
        by_cases c2 : o3 = (-1)
        · rw [if_pos c2, if_pos c2]
        · rw [if_neg c2, if_neg c2]
          have : w = 0 ∨ w = 1 ∨ w = 2 := by omega
          rcases this with rfl | rfl | rfl
          · rw [show rd 3 z3.2.2.2.2.2.2.2.2.2.2.2.2.2 (nI 0) = some b3 from rdn (by omega) (by omega) g3.2.1, bd1_s]; rfl
          · rw [show rd 3 z3.2.2.2.2.2.2.2.2.2.2.2.2.2 (nI 1) = some o3 from rdn (by omega) (by omega) g3.2.2.1, bd1_s]; rfl
          · rw [show rd 3 z3.2.2.2.2.2.2.2.2.2.2.2.2.2 (nI 2) = some o4 from rdn (by omega) (by omega) g3.2.2.2, bd1_s]; rfl
      · show bd21 (loopC _ (r, -1, -1, nI 0, all, on', many', mv', pile', l8', mt', yt', ym', bt', bm', fo', yf', nI mk', nI bk', nb', bg', sp')) _ = _
        rw [g2, bd21_s]
        by_cases c2 : o3 = (-1)
        · rw [if_pos c2, if_pos c2]
        · rw [if_neg c2, if_neg c2]
          have : w = 0 ∨ w = 1 ∨ w = 2 := by omega
          rcases this with rfl | rfl | rfl <;> rfl
  · rw [decide_eq_false hp] at wi wi8
    refine ⟨-2, z, all, on, many, mv, pile, l8, mt, yt, ym, bt, bm, fo, yf, mk, bk, nb, bg, sp, ?_, ?_, hC, ⟨hA, fun _ _ => rfl⟩, hT, by omega, by omega⟩
    · unfold FX0_easier
      rw [wi, bd1_s, if_pos (show b2i false = 0 from rfl)]
    · unfold FX8_easier
      rw [wi8, bd1_s, if_pos (show b2i false = 0 from rfl)]
end P72K
