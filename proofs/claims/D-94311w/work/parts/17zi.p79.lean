set_option maxRecDepth 100000
/-! a stone, a wish that is told -/
section P79
variable {T sr : Nat → Nat} {u f : Nat → Int32}
theorem TR.stone (h : TR T sr u f) {r so si be c i : Nat} (hi8 : i < 8) (ei : T 6 = i) (hr : r < T 0) (ec : cntR sr r i = c) (hc : c < T (1 + r)) (h1 : so ≤ 7) (h2 : si ≤ 9) (h3 : be ≤ 99) : TR (up (up (up (up (up T (7 + i) so) (15 + i) si) (23 + i) be) (80 + (3 * r + c)) (i + 1)) 6 (i + 1)) (up sr i r) (addStone (upd u (210 + r) (nI (c + 1))) (nI so) (nI si) (nI r) (nI be)) (upd (upd (upd (upd (upd f (7 + i) (nI so)) (15 + i) (nI si)) (23 + i) (nI be)) (80 + (3 * r + c)) (nI (i + 1))) 6 (nI (i + 1))) := by
  obtain ⟨⟨⟨w1, w2, w3, w4, w5⟩, hO, hZ, hw⟩, ⟨hf, hu, h78, h79⟩, hl, hs⟩ := h
  have hr5 : r < 5 := by omega
  have hc3 : c < 3 := by have := w2 r hr5; omega
  have f' := fr_up (j := 6) (v := i + 1) (fr_up (j := 80 + (3 * r + c)) (v := i + 1) (fr_up (j := 23 + i) (v := be) (fr_up (j := 15 + i) (v := si) (fr_up (j := 7 + i) (v := so) hf (rpv_n (by omega))) (rpv_n (by omega))) (rpv_n (by omega))) (rpv_n (by omega))) (rpv_n (by omega))
  have hG : ∀ k, up (up (up (up (up T (7 + i) so) (15 + i) si) (23 + i) be) (80 + (3 * r + c)) (i + 1)) 6 (i + 1) k = if k = 6 then i + 1 else if k = 80 + (3 * r + c) then i + 1 else if k = 23 + i then be else if k = 15 + i then si else if k = 7 + i then so else T k := fun k => rfl
  have hU : ∀ k, ¬ (6 ≤ k ∧ k < 31) → k ≠ 80 + (3 * r + c) → up (up (up (up (up T (7 + i) so) (15 + i) si) (23 + i) be) (80 + (3 * r + c)) (i + 1)) 6 (i + 1) k = T k := fun k h1 h2 => by rw [hG, if_neg (by omega), if_neg h2, if_neg (by omega), if_neg (by omega), if_neg (by omega)]
  generalize up (up (up (up (up T (7 + i) so) (15 + i) si) (23 + i) be) (80 + (3 * r + c)) (i + 1)) 6 (i + 1) = U at f' hU hG ⊢
  have e6 : U 6 = i + 1 := by rw [hG, if_pos rfl]
  have e0 : U 0 = T 0 := hU 0 (by omega) (by omega)
  have eN : U (80 + (3 * r + c)) = i + 1 := by rw [hG, if_neg (by omega), if_pos rfl]
  have hz : T (80 + (3 * r + c)) = 0 := by
    have h4 : 0 < T (80 + (3 * r + c)) ↔ c < cntR sr r (T 6) := hO.2.1 r c hr5 hc3
    rw [ei, ec] at h4
    omega
  have hO1 : ∀ p, p < 15 → T (80 + p) ≤ i := fun p hp => by rw [← ei]; exact hO.1 p hp
  have u6 : (upd u (210 + r) (nI (c + 1))) 6 = nI i := by rw [up_f (by omega), hu 6 (by omega), rp_n (by omega), ei]
  have c6 : ((upd u (210 + r) (nI (c + 1))) 6).toNatClampNeg = i := by rw [u6, cl_n (by omega)]
  have hA : ∀ k, addStone (upd u (210 + r) (nI (c + 1))) (nI so) (nI si) (nI r) (nI be) k = if k = 6 then nI i + 1 else if k = 7 + i then nI so else if k = 15 + i then nI si else if k = 200 + i then nI r else if k = 23 + i then nI be else upd u (210 + r) (nI (c + 1)) k := fun k => by unfold addStone; rw [c6, u6]
  have hA2 : ∀ k, ¬ (6 ≤ k ∧ k < 31) → k ≠ 200 + i → k ≠ 210 + r → addStone (upd u (210 + r) (nI (c + 1))) (nI so) (nI si) (nI r) (nI be) k = u k := fun k h1 h2 h3 => by rw [hA, if_neg (by omega), if_neg (by omega), if_neg (by omega), if_neg h2, if_neg (by omega), up_f h3]
  have hcn : ∀ r', cntR (up sr i r) r' (i + 1) = cntR sr r' i + (if r = r' then 1 else 0) := fun r' => by
    rw [cntR, cntR_up (Nat.le_refl i), upn_t rfl]
  refine ⟨⟨⟨?_, fun r hr => ?_, fun k hk => ?_, fun r l hr hl => ?_, fun m hm => ?_⟩, ⟨fun p hp => ?_, fun r' l hr' hl => ?_, fun r' hr' => ?_, fun p q hp hq h1 h2 => ?_⟩, fun k h1 h2 => ?_, fun r h1 h2 => ?_⟩, ⟨f', fun k hk => ?_, ?_, ?_⟩, fun r' hr' => ?_, fun k hk => ?_⟩
  · rw [e0, e6, hU 56 (by omega) (by omega), hU 75 (by omega) (by omega), hU 76 (by omega) (by omega), hU 77 (by omega) (by omega), hU 78 (by omega) (by omega), hU 79 (by omega) (by omega)]
    omega
  · rw [hU (1 + r) (by omega) (by omega), hU (31 + r) (by omega) (by omega), hU (36 + r) (by omega) (by omega), e0]
    exact w2 r hr
  · have h5 := w3 k hk
    have g1 := hG (7 + k)
    have g2 := hG (15 + k)
    have g3 := hG (23 + k)
    by_cases c1 : k = i
    · rw [if_neg (by omega), if_neg (by omega), if_neg (by omega), if_neg (by omega), if_pos (by omega)] at g1
      rw [if_neg (by omega), if_neg (by omega), if_neg (by omega), if_pos (by omega)] at g2
      rw [if_neg (by omega), if_neg (by omega), if_pos (by omega)] at g3
      omega
    · rw [if_neg (by omega), if_neg (by omega), if_neg (by omega), if_neg (by omega), if_neg (by omega)] at g1
      rw [if_neg (by omega), if_neg (by omega), if_neg (by omega), if_neg (by omega), if_neg (by omega)] at g2
      rw [if_neg (by omega), if_neg (by omega), if_neg (by omega), if_neg (by omega), if_neg (by omega)] at g3
      rw [g1, g2, g3]
      exact h5
  · rw [hU (41 + (3 * r + l)) (by omega) (by omega), hU (31 + r) (by omega) (by omega)]
    exact w4 r l hr hl
  · rw [hU 56 (by omega) (by omega)] at hm
    have h6 := w1.2.2.1
    rw [hU (57 + m) (by omega) (by omega), hU (63 + m) (by omega) (by omega), hU (69 + m) (by omega) (by omega), e0]
    exact w5 m hm
  · show U (80 + p) ≤ U 6
    rw [e6]
    by_cases c1 : p = 3 * r + c
    · rw [c1, eN]
      exact Nat.le_refl _
    · rw [hU (80 + p) (by omega) (by omega)]
      exact Nat.le_succ_of_le (hO1 p hp)
  · show 0 < U (80 + (3 * r' + l)) ↔ l < cntR (up sr i r) r' (U 6)
    rw [e6, hcn]
    have h4 : 0 < T (80 + (3 * r' + l)) ↔ l < cntR sr r' (T 6) := hO.2.1 r' l hr' hl
    rw [ei] at h4
    by_cases c1 : r = r'
    · subst c1
      rw [if_pos rfl, ec]
      rw [ec] at h4
      by_cases c2 : l = c
      · rw [c2, eN]
        omega
      · rw [hU _ (by omega) (by omega)]
        omega
    · rw [if_neg c1, hU _ (by omega) (by omega), Nat.add_zero]
      exact h4
  · show cntR (up sr i r) r' (U 6) ≤ U (1 + r')
    have h4 : cntR sr r' (T 6) ≤ T (1 + r') := hO.2.2.1 r' hr'
    rw [ei] at h4
    rw [e6, hcn, hU (1 + r') (by omega) (by omega)]
    by_cases c1 : r = r'
    · subst c1
      rw [if_pos rfl, ec]
      omega
    · rw [if_neg c1]
      omega
  · have h1 : U (80 + p) = U (80 + q) := h1
    have h2 : 0 < U (80 + p) := h2
    by_cases c1 : p = 3 * r + c
    · by_cases c2 : q = 3 * r + c
      · omega
      · rw [c1, eN, hU (80 + q) (by omega) (by omega)] at h1
        have := hO1 q hq
        omega
    · by_cases c2 : q = 3 * r + c
      · rw [c2, eN, hU (80 + p) (by omega) (by omega)] at h1
        have := hO1 p hp
        omega
      · rw [hU (80 + p) (by omega) (by omega)] at h1 h2
        rw [hU (80 + q) (by omega) (by omega)] at h1
        exact hO.2.2.2 p q hp hq h1 h2
  · rw [hU k (by omega) (by omega)]
    exact hZ k h1 h2
  · rw [hU (36 + r) (by omega) (by omega)]
    exact hw r (by omega) h2
  · by_cases c0 : 6 ≤ k ∧ k < 31
    · rw [hA, rp_n (by omega), hG k]
      by_cases c1 : k = 6
      · rw [if_pos c1, if_pos c1]
        exact n_add _ 1
      rw [if_neg c1, if_neg c1, if_neg (show ¬ k = 80 + (3 * r + c) by omega), if_neg (show ¬ k = 200 + i by omega)]
      by_cases c2 : k = 7 + i
      · rw [if_pos c2, if_neg (by omega), if_neg (by omega), if_pos c2]
      rw [if_neg c2]
      by_cases c3 : k = 15 + i
      · rw [if_pos c3, if_neg (by omega), if_pos c3]
      rw [if_neg c3]
      by_cases c4 : k = 23 + i
      · rw [if_pos c4, if_pos c4]
      rw [if_neg c4, if_neg c4, if_neg c3, if_neg c2, up_f (by omega), hu k hk, rp_n (by omega)]
    · rw [hA2 k c0 (by omega) (by omega), rp_cg (hU k c0 (by omega))]
      exact hu k hk
  · rw [hA2 378 (by omega) (by omega) (by omega), hU 78 (by omega) (by omega)]
    exact h78
  · rw [hA2 379 (by omega) (by omega) (by omega), hU 79 (by omega) (by omega)]
    exact h79
  · have hr' : r' < T 0 := by omega
    rw [e6, hcn]
    by_cases c1 : r = r'
    · subst c1
      rw [if_pos rfl, ec, hA, if_neg (by omega), if_neg (by omega), if_neg (by omega), if_neg (by omega), if_neg (by omega), up_t rfl]
    · rw [if_neg c1, Nat.add_zero, hA2 _ (by omega) (by omega) (by omega), ← ei]
      exact hl r' hr'
  · rw [e6] at hk
    by_cases c1 : k = i
    · subst c1
      rw [upn_t rfl, cntR_up (Nat.le_refl k), ec, eN, e0, hA, if_neg (by omega), if_neg (by omega), if_neg (by omega), if_pos rfl]
      exact ⟨rfl, hr, rfl⟩
    · have h5 := hs k (by omega)
      have h6 := cntR_le sr (sr k) k
      rw [upn_f c1, cntR_up (by omega), e0, hA2 (200 + k) (by omega) (by omega) (by omega)]
      refine ⟨h5.1, h5.2.1, ?_⟩
      have h7 : 3 * sr k + cntR sr (sr k) k ≠ 3 * r + c := fun e => by
        have h8 := h5.2.2
        rw [e, hz] at h8
        omega
      rw [hU _ (by omega) (by omega)]
      exact h5.2.2
/-- a wish, so far -/
def wT (T : Nat → Nat) (r : Nat) (w : Nat → Nat) (l : Nat) : Nat → Nat := fun k => if 41 + 3 * r ≤ k ∧ k < 41 + 3 * r + l then w (k - (41 + 3 * r)) + 1 else T k
theorem wT_0 (T : Nat → Nat) (r : Nat) (w : Nat → Nat) : wT T r w 0 = T := funext fun k => if_neg (by omega)
theorem wT_s (T : Nat → Nat) (r : Nat) (w : Nat → Nat) (l v : Nat) : up (wT T r w l) (41 + 3 * r + l) (v + 1) = wT T r (up w l v) (l + 1) := funext fun k => by
  unfold wT
  by_cases c : k = 41 + 3 * r + l
  · rw [upn_t c, if_pos (by omega), upn_t (by omega)]
  · rw [upn_f c]
    by_cases c2 : 41 + 3 * r ≤ k ∧ k < 41 + 3 * r + l
    · rw [if_pos c2, if_pos (by omega), upn_f (by omega)]
    · rw [if_neg c2, if_neg (by omega)]
theorem TR.wish (h : TR T sr u f) {r l wh : Nat} {w : Nat → Nat} (hr : r < T 0) (h0 : T (31 + r) = 0) (hl3 : l ≤ T (1 + r)) (hw7 : ∀ j, j < l → w j ≤ 7) (hwh : wh ≤ 1) {u1 f1 : Nat → Int32} (hf1 : ∀ k, k < 113 → f1 k = rp (wT T r w l) k) (hu1 : ∀ k, k < 78 → u1 k = rp (wT T r w l) k) (hu2 : ∀ k, 78 ≤ k → u1 k = u k) : TR (up (up (wT T r w l) (31 + r) (l + 1)) (36 + r) (wh + 1)) sr (upd (upd u1 (31 + r) (nI l)) (36 + r) (nI wh)) (upd (upd f1 (31 + r) (nI l)) (36 + r) (nI wh)) := by
  obtain ⟨⟨⟨w1, w2, w3, w4, w5⟩, hO, hZ, hw⟩, ⟨hf, hu, h78, h79⟩, hl, hs⟩ := h
  have hr5 : r < 5 := by omega
  have hr2 := w2 r hr5
  have e1 : ∀ v, rpv (31 + r) (v + 1) = nI v := fun v => by rw [rpv_d (by omega), nD_succ]
  have e2 : ∀ v, rpv (36 + r) (v + 1) = nI v := fun v => by rw [rpv_d (by omega), nD_succ]
  have f' := fr_up (j := 36 + r) (v := wh + 1) (fr_up (j := 31 + r) (v := l + 1) hf1 (e1 l)) (e2 wh)
  have u' := fr_up (j := 36 + r) (v := wh + 1) (fr_up (j := 31 + r) (v := l + 1) hu1 (e1 l)) (e2 wh)
  have hG : ∀ k, up (up (wT T r w l) (31 + r) (l + 1)) (36 + r) (wh + 1) k = if k = 36 + r then wh + 1 else if k = 31 + r then l + 1 else if 41 + 3 * r ≤ k ∧ k < 41 + 3 * r + l then w (k - (41 + 3 * r)) + 1 else T k := fun k => rfl
  have hU : ∀ k, ¬ (31 ≤ k ∧ k < 56) → up (up (wT T r w l) (31 + r) (l + 1)) (36 + r) (wh + 1) k = T k := fun k h1 => by rw [hG, if_neg (by omega), if_neg (by omega), if_neg (by omega)]
  generalize up (up (wT T r w l) (31 + r) (l + 1)) (36 + r) (wh + 1) = U at f' u' hU hG ⊢
  have e6 : U 6 = T 6 := hU 6 (by omega)
  have e0 : U 0 = T 0 := hU 0 (by omega)
  refine ⟨⟨⟨?_, fun q hq => ?_, fun i hi => ?_, fun q j hq hj => ?_, fun m hm => ?_⟩, ⟨fun p hp => ?_, fun r l hr hl => ?_, fun r hr => ?_, fun p q hp hq h1 h2 => ?_⟩, fun k h1 h2 => ?_, fun q h1 h2 => ?_⟩, ⟨f', u', ?_, ?_⟩, fun q hq => ?_, fun i hi => ?_⟩
  · rw [e0, e6, hU 56 (by omega), hU 75 (by omega), hU 76 (by omega), hU 77 (by omega), hU 78 (by omega), hU 79 (by omega)]
    exact w1
  · have h1 := w2 q hq
    have g1 := hG (31 + q)
    have g2 := hG (36 + q)
    rw [hU (1 + q) (by omega), e0]
    by_cases c : q = r
    · subst c
      rw [if_neg (by omega), if_pos rfl] at g1
      rw [if_pos rfl] at g2
      omega
    · rw [if_neg (by omega), if_neg (by omega), if_neg (by omega)] at g1
      rw [if_neg (by omega), if_neg (by omega), if_neg (by omega)] at g2
      rw [g1, g2]
      exact h1
  · rw [hU (7 + i) (by omega), hU (15 + i) (by omega), hU (23 + i) (by omega)]
    exact w3 i hi
  · have h1 := w4 q j hq hj
    have g1 := hG (31 + q)
    have g2 := hG (41 + (3 * q + j))
    rw [if_neg (by omega), if_neg (by omega)] at g2
    by_cases c : q = r
    · subst c
      rw [if_neg (by omega), if_pos rfl] at g1
      by_cases c2 : j < l
      · rw [if_pos (by omega), show 41 + (3 * q + j) - (41 + 3 * q) = j by omega] at g2
        have := hw7 j c2
        omega
      · rw [if_neg (by omega)] at g2
        omega
    · rw [if_neg (by omega), if_neg (by omega), if_neg (by omega)] at g1
      rw [if_neg (by omega)] at g2
      rw [g1, g2]
      exact h1
  · rw [hU 56 (by omega)] at hm
    have h6 := w1.2.2.1
    rw [hU (57 + m) (by omega), hU (63 + m) (by omega), hU (69 + m) (by omega), e0]
    exact w5 m hm
  · show U (80 + p) ≤ U 6
    rw [hU (80 + p) (by omega), e6]
    exact hO.1 p hp
  · show 0 < U (80 + (3 * r + l)) ↔ l < cntR sr r (U 6)
    rw [hU (80 + (3 * r + l)) (by omega), e6]
    exact hO.2.1 r l hr hl
  · show cntR sr r (U 6) ≤ U (1 + r)
    rw [hU (1 + r) (by omega), e6]
    exact hO.2.2.1 r hr
  · have h1 : U (80 + p) = U (80 + q) := h1
    have h2 : 0 < U (80 + p) := h2
    rw [hU (80 + p) (by omega)] at h1 h2
    rw [hU (80 + q) (by omega)] at h1
    exact hO.2.2.2 p q hp hq h1 h2
  · rw [hU k (by omega)]
    exact hZ k h1 h2
  · rw [hG, if_neg (by omega), if_neg (by omega), if_neg (by omega)]
    exact hw q (by omega) h2
  · rw [up_f (by omega), up_f (by omega), hU 78 (by omega), hu2 _ (by omega)]
    exact h78
  · rw [up_f (by omega), up_f (by omega), hU 79 (by omega), hu2 _ (by omega)]
    exact h79
  · rw [up_f (by omega), up_f (by omega), hu2 _ (by omega), e6]
    exact hl q (by omega)
  · rw [e6] at hi
    have h1 := hs i hi
    have h2 := cntR_le sr (sr i) i
    have h3 := w1.2.1
    rw [up_f (by omega), up_f (by omega), hu2 _ (by omega), hU (80 + (3 * sr i + cntR sr (sr i) i)) (by omega), e0]
    exact h1
end P79
