set_option maxRecDepth 100000
/-! easier: one pair of wishes -/
section P69
variable {all t ca la : Nat → Int32} {T M : Nat → Nat} {V : Nat → BvT} {p q : Nat} {lies : Int64} {year : Int32}
theorem AllAt.congT {T U : Nat → Nat} (h : AllAt all T) (hU : ∀ k, k < 531 → U k = T k) : AllAt all U := fun k hk => (h k hk).trans (rp_cong (hU k hk)).symm
theorem swT_sw (k : Nat) : swT (swT T p q) p q k = T k := by
  by_cases c2 : k = 41 + q
  · rw [c2, swT_q, swT_p]
  · by_cases c1 : k = 41 + p
    · rw [c1, swT_p, swT_q]
    · rw [swT_o c1 c2, swT_o c1 c2]
theorem swaps8 (hA : AllAt all T) (hp : p < 15) (hq : q < 15) : ∃ all', FX8_swaps all (nI p) (nI q) = some all' ∧ AllAt all' (swT T p q) := by
  have a1 : (41 : Int32) + nI p = nI (41 + p) := n_add 41 p
  have a2 : (41 : Int32) + nI q = nI (41 + q) := n_add 41 q
  refine ⟨upd (upd all (41 + p) (all (41 + q))) (41 + q) (all (41 + p)), ?_, fun k hk => ?_⟩
  · unfold FX8_swaps
    rw [a1, a2, rdn (by omega) (by omega) (show all (41 + p) = all (41 + p) from rfl), bd1_s, rdn (by omega) (by omega) (show all (41 + q) = all (41 + q) from rfl), bd1_s, wr_n (by omega) (by omega), bd1_s, wr_n (by omega) (by omega), bd1_s]
  · show (if k = 41 + q then all (41 + p) else if k = 41 + p then all (41 + q) else all k) = _
    by_cases c1 : k = 41 + q
    · rw [if_pos c1, c1, hA _ (by omega), rp_d (by omega), rp_d (by omega), swT_q]
    · by_cases c2 : k = 41 + p
      · rw [if_neg c1, if_pos c2, c2, hA _ (by omega), rp_d (by omega), rp_d (by omega), swT_p]
      · rw [if_neg c1, if_neg c2, hA k hk]
        exact (rp_cong (swT_o (by omega) (by omega))).symm
theorem WO_sw {O : Nat → Nat} (hS : WO T O M) (hp : p < 15) (hq : q < 15) : WO (swT T p q) O M := by
  refine ⟨?_, hS.2.1, fun r hr => ?_, hS.2.2.2⟩
  · rw [swT_o (by omega) (by omega)]
    exact hS.1
  · rw [swT_o (by omega) (by omega)]
    exact hS.2.2.1 r hr
/-- both sides search with two wishes exchanged -/
theorem pair_law (h : Cur T M V all t lies ca la year) {sK sR bK bR l8 bg : Nat → Int64} {sS bS mt yt ym bt bm : Nat → Int32} {sM bM : Int32} {mk bk : Nat} (hC : TabC sK sR sS bK bR bS sM bM) (hT : TabM l8 mt yt ym bt bm bg mk bk) (hmk : mk + 7000 < 2147483648) (hbk : bk + 7000 < 2147483648) (hp : p < 15) (hq : q < 15) (hpq : p ≠ q) (wp : 0 < T (41 + p)) (wq : 0 < T (41 + q)) (on many tA tM pile : Nat → Int32) (yf nb sp : Int32) : ∃ u2 all' o1 m1 all2, FX0_exchanged t (nI p) (nI q) = some u2 ∧ FX8_swaps all (nI p) (nI q) = some all' ∧ FX8_looksNow all' on many = some (o1, m1, nI (T 95)) ∧ FX8_swaps all' (nI p) (nI q) = some all2 ∧ AllAt all2 T ∧
    SO mk bk 6001 (-1) (FX0_seeks u2 tA tM sK sR sS bK bR bS sM bM (nI (T 114)) V lies (-1) (-1)) (FX8_sought all' o1 m1 (nI (T 95)) pile (-1) l8 mt yt ym bt bm yf (nI mk) (nI bk) nb bg sp (-1)) := by
  have hs := h.vs
  have hl := h.li
  obtain ⟨⟨hW, hS, hm, hy, hB⟩, hA, ht, -, hc, hla, rfl⟩ := h
  obtain ⟨u2, e1, ht2⟩ := exch0 ht hW hp hq hpq wp wq
  obtain ⟨all', e2, hA2⟩ := swaps8 hA hp hq
  obtain ⟨all2, e4, hA3⟩ := swaps8 hA2 hp hq
  have hW2 := WT_sw hW hp hq wp wq
  have o : ∀ k, k < 41 ∨ 56 ≤ k → swT T p q k = T k := fun k hk => swT_o (by omega) (by omega)
  have oO : (fun k => swT T p q (80 + k)) = (fun k => T (80 + k)) := funext fun k => o _ (by omega)
  have hS2 : WO (swT T p q) (fun k => swT T p q (80 + k)) M := by rw [oO]; exact WO_sw hS hp hq
  obtain ⟨o1, m1, e3, hon⟩ := looksNow8 hA2 hW2 hS2 on many
  rw [o 95 (by omega)] at e3
  rw [oO] at hon
  have hB2 : BarsT (swT T p q) V := hB.cong (fun k hk _ => o k (by omega))
  have hs2 : VS (swT T p q) ((fun k => T (80 + k)), M, T 95) := ⟨WO_sw hS hp hq, hs.2⟩
  have qq := sought_law (as1 := 0) (w := 0) ht2 hA2 hW2 (hB2.ok hA2 hW2) (by omega) (by omega) hs2 hon hC hT hmk hbk tA tM pile yf nb sp
  rw [o 114 (by omega), ← hl] at qq
  exact ⟨u2, all', o1, m1, all2, e1, e2, e3, e4, hA3.congT (fun k _ => (swT_sw k).symm), qq⟩
end P69
