set_option maxRecDepth 100000
/-! a town that is being told: its numbers on both sides -/
def cntR (sr : Nat → Nat) (r : Nat) : Nat → Nat
  | 0 => 0
  | i + 1 => cntR sr r i + (if sr i = r then 1 else 0)
theorem cntR_le (sr : Nat → Nat) (r : Nat) : ∀ i, cntR sr r i ≤ i := by
  intro i
  induction i with
  | zero => exact Nat.le_refl _
  | succ i ih => rw [cntR]; split <;> omega
theorem cntR_cong {sr sq : Nat → Nat} {r : Nat} : ∀ {i : Nat}, (∀ j, j < i → sr j = sq j) → cntR sr r i = cntR sq r i := by
  intro i
  induction i with
  | zero => intro _; rfl
  | succ i ih => intro h; rw [cntR, cntR, ih fun j hj => h j (by omega), h i (by omega)]
theorem cntR_up {sr : Nat → Nat} {r q i j : Nat} (h : j ≤ i) : cntR (up sr i q) r j = cntR sr r j := cntR_cong fun k hk => upn_f (by omega)
theorem cntR_none {sr : Nat → Nat} {r : Nat} : ∀ {i : Nat}, (∀ j, j < i → sr j ≠ r) → cntR sr r i = 0 := by
  intro i
  induction i with
  | zero => intro _; rfl
  | succ i ih => intro h; rw [cntR, ih fun j hj => h j (by omega), if_neg (h i (by omega))]
def rpv (k v : Nat) : Int32 := if (31 ≤ k ∧ k < 56) ∨ (104 ≤ k ∧ k < 112) then nD v else nI v
theorem rpv_n {k v : Nat} (h : ¬ ((31 ≤ k ∧ k < 56) ∨ (104 ≤ k ∧ k < 112))) : rpv k v = nI v := if_neg h
theorem rpv_d {k v : Nat} (h : (31 ≤ k ∧ k < 56) ∨ (104 ≤ k ∧ k < 112)) : rpv k v = nD v := if_pos h
theorem rp_cg {T U : Nat → Nat} {k : Nat} (h : U k = T k) : rp U k = rp T k := by unfold rp; rw [h]
theorem fr_up {f : Nat → Int32} {T : Nat → Nat} {N j v : Nat} {x : Int32} (h : ∀ k, k < N → f k = rp T k) (hx : rpv j v = x) : ∀ k, k < N → upd f j x k = rp (up T j v) k := by
  intro k hk
  by_cases c : k = j
  · rw [up_t c, ← hx, c]
    unfold rp rpv
    rw [upn_t rfl]
  · rw [up_f c, h k hk]
    exact (rp_cg (upn_f c)).symm
def TR (T sr : Nat → Nat) (u f : Nat → Int32) : Prop :=
  (WT T ∧ WO T (fun p => T (80 + p)) (fun r => cntR sr r (T 6)) ∧ (∀ k, 95 ≤ k → k < 113 → T k = 0) ∧ ∀ r, T 0 ≤ r → r < 5 → T (36 + r) = 0) ∧
  ((∀ k, k < 113 → f k = rp T k) ∧ (∀ k, k < 78 → u k = rp T k) ∧ u 378 = nI (T 78) ∧ u 379 = nI (T 79)) ∧
  (∀ r, r < T 0 → u (210 + r) = nI (cntR sr r (T 6))) ∧
  ∀ i, i < T 6 → u (200 + i) = nI (sr i) ∧ sr i < T 0 ∧ T (80 + (3 * sr i + cntR sr (sr i) i)) = i + 1
section P78
variable {T sr : Nat → Nat} {u f : Nat → Int32}
/-- numbers that stand alone: over, most, rings -/
theorem TR.set (h : TR T sr u f) {j v : Nat} (hj : (j = 75 ∧ 1 ≤ v ∧ v ≤ 4) ∨ (j = 76 ∧ 1 ≤ v ∧ v ≤ 8) ∨ (j = 77 ∧ v ≤ 1)) : TR (up T j v) sr (upd u j (nI v)) (upd f j (nI v)) := by
  obtain ⟨⟨⟨w1, w2, w3, w4, w5⟩, hO, hZ, hw⟩, ⟨hf, hu, h78, h79⟩, hl, hs⟩ := h
  have hj2 : 75 ≤ j ∧ j ≤ 77 := by omega
  have f' := fr_up (j := j) (v := v) hf (rpv_n (by omega))
  have u' := fr_up (j := j) (v := v) hu (rpv_n (by omega))
  have hU : ∀ k, k ≠ j → up T j v k = T k := fun k hk => upn_f hk
  have hV : up T j v j = v := upn_t rfl
  generalize up T j v = U at f' u' hU hV ⊢
  have e6 : U 6 = T 6 := hU 6 (by omega)
  have e0 : U 0 = T 0 := hU 0 (by omega)
  refine ⟨⟨⟨?_, fun r hr => ?_, fun i hi => ?_, fun r l hr hl => ?_, fun m hm => ?_⟩, ⟨fun p hp => ?_, fun r l hr hl => ?_, fun r hr => ?_, fun p q hp hq h1 h2 => ?_⟩, fun k h1 h2 => ?_, fun r h1 h2 => ?_⟩, ⟨f', u', ?_, ?_⟩, fun r hr => ?_, fun i hi => ?_⟩
  · have a1 := hU 56 (by omega)
    have a4 := hU 78 (by omega)
    have a5 := hU 79 (by omega)
    rcases hj with ⟨rfl, h1, h2⟩ | ⟨rfl, h1, h2⟩ | ⟨rfl, h1⟩
    · have a2 := hU 76 (by omega)
      have a3 := hU 77 (by omega)
      omega
    · have a2 := hU 75 (by omega)
      have a3 := hU 77 (by omega)
      omega
    · have a2 := hU 75 (by omega)
      have a3 := hU 76 (by omega)
      omega
  · rw [hU (1 + r) (by omega), hU (31 + r) (by omega), hU (36 + r) (by omega), e0]
    exact w2 r hr
  · rw [hU (7 + i) (by omega), hU (15 + i) (by omega), hU (23 + i) (by omega)]
    exact w3 i hi
  · rw [hU (41 + (3 * r + l)) (by omega), hU (31 + r) (by omega)]
    exact w4 r l hr hl
  · rw [hU 56 (by omega)] at hm
    have h6 := w1.2.2.1
    rw [hU (57 + m) (by omega), hU (63 + m) (by omega), hU (69 + m) (by omega), e0]
    exact w5 m hm
  · show U (80 + p) ≤ U 6
    rw [hU (80 + p) (by omega), e6]
    exact hO.1 p hp
  · show 0 < U (80 + (3 * r + l)) ↔ l < cntR sr r (U 6)
    rw [hU (80 + (3 * r + l)) (by omega), e6]
    exact hO.2.1 r l hr hl
  · show cntR sr r (U 6) ≤ U (1 + r)
    rw [hU (1 + r) (by omega), e6]
    exact hO.2.2.1 r hr
  · have h1 : U (80 + p) = U (80 + q) := h1
    have h2 : 0 < U (80 + p) := h2
    rw [hU (80 + p) (by omega)] at h1 h2
    rw [hU (80 + q) (by omega)] at h1
    exact hO.2.2.2 p q hp hq h1 h2
  · rw [hU k (by omega)]
    exact hZ k h1 h2
  · rw [hU (36 + r) (by omega)]
    exact hw r (by omega) h2
  · rw [up_f (by omega), hU 78 (by omega)]
    exact h78
  · rw [up_f (by omega), hU 79 (by omega)]
    exact h79
  · rw [up_f (by omega), e6]
    exact hl r (by omega)
  · rw [e6] at hi
    have h1 := hs i hi
    have h2 := cntR_le sr (sr i) i
    have h3 := w1.2.1
    rw [up_f (by omega), hU (80 + (3 * sr i + cntR sr (sr i) i)) (by omega), e0]
    exact h1
/-- floods, lines -/
theorem TR.set2 (h : TR T sr u f) {j v : Nat} (hj : (j = 78 ∧ v ≤ 1) ∨ (j = 79 ∧ v ≤ 400)) : TR (up T j v) sr (upd u (300 + j) (nI v)) (upd f j (nI v)) := by
  obtain ⟨⟨⟨w1, w2, w3, w4, w5⟩, hO, hZ, hw⟩, ⟨hf, hu, h78, h79⟩, hl, hs⟩ := h
  have hj2 : 78 ≤ j ∧ j ≤ 79 := by omega
  have f' := fr_up (j := j) (v := v) hf (rpv_n (by omega))
  have hU : ∀ k, k ≠ j → up T j v k = T k := fun k hk => upn_f hk
  have hV : up T j v j = v := upn_t rfl
  generalize up T j v = U at f' hU hV ⊢
  have e6 : U 6 = T 6 := hU 6 (by omega)
  have e0 : U 0 = T 0 := hU 0 (by omega)
  refine ⟨⟨⟨?_, fun r hr => ?_, fun i hi => ?_, fun r l hr hl => ?_, fun m hm => ?_⟩, ⟨fun p hp => ?_, fun r l hr hl => ?_, fun r hr => ?_, fun p q hp hq h1 h2 => ?_⟩, fun k h1 h2 => ?_, fun r h1 h2 => ?_⟩, ⟨f', fun k hk => ?_, ?_, ?_⟩, fun r hr => ?_, fun i hi => ?_⟩
  · have a1 := hU 56 (by omega)
    have a2 := hU 75 (by omega)
    have a3 := hU 76 (by omega)
    have a4 := hU 77 (by omega)
    rcases hj with ⟨rfl, h1⟩ | ⟨rfl, h1⟩
    · have a5 := hU 79 (by omega)
      omega
    · have a5 := hU 78 (by omega)
      omega
  · rw [hU (1 + r) (by omega), hU (31 + r) (by omega), hU (36 + r) (by omega), e0]
    exact w2 r hr
  · rw [hU (7 + i) (by omega), hU (15 + i) (by omega), hU (23 + i) (by omega)]
    exact w3 i hi
  · rw [hU (41 + (3 * r + l)) (by omega), hU (31 + r) (by omega)]
    exact w4 r l hr hl
  · rw [hU 56 (by omega)] at hm
    have h6 := w1.2.2.1
    rw [hU (57 + m) (by omega), hU (63 + m) (by omega), hU (69 + m) (by omega), e0]
    exact w5 m hm
  · show U (80 + p) ≤ U 6
    rw [hU (80 + p) (by omega), e6]
    exact hO.1 p hp
  · show 0 < U (80 + (3 * r + l)) ↔ l < cntR sr r (U 6)
    rw [hU (80 + (3 * r + l)) (by omega), e6]
    exact hO.2.1 r l hr hl
  · show cntR sr r (U 6) ≤ U (1 + r)
    rw [hU (1 + r) (by omega), e6]
    exact hO.2.2.1 r hr
  · have h1 : U (80 + p) = U (80 + q) := h1
    have h2 : 0 < U (80 + p) := h2
    rw [hU (80 + p) (by omega)] at h1 h2
    rw [hU (80 + q) (by omega)] at h1
    exact hO.2.2.2 p q hp hq h1 h2
  · rw [hU k (by omega)]
    exact hZ k h1 h2
  · rw [hU (36 + r) (by omega)]
    exact hw r (by omega) h2
  · rw [up_f (by omega), hu k hk]
    exact (rp_cg (hU k (by omega))).symm
  · by_cases c : j = 78
    · subst c
      rw [up_t rfl, hV]
    · rw [up_f (by omega), hU 78 (by omega)]
      exact h78
  · by_cases c : j = 79
    · subst c
      rw [up_t rfl, hV]
    · rw [up_f (by omega), hU 79 (by omega)]
      exact h79
  · rw [up_f (by omega), e6]
    exact hl r (by omega)
  · rw [e6] at hi
    have h1 := hs i hi
    have h2 := cntR_le sr (sr i) i
    have h3 := w1.2.1
    rw [up_f (by omega), hU (80 + (3 * sr i + cntR sr (sr i) i)) (by omega), e0]
    exact h1
theorem TR.row (h : TR T sr u f) (hr5 : T 0 < 5) {v : Nat} (hv : 1 ≤ v ∧ v ≤ 3) : TR (up (up T (1 + T 0) v) 0 (T 0 + 1)) sr (addRow u (nI v)) (upd (upd f (1 + T 0) (nI v)) 0 (nI (T 0 + 1))) := by
  obtain ⟨⟨⟨w1, w2, w3, w4, w5⟩, hO, hZ, hw⟩, ⟨hf, hu, h78, h79⟩, hl, hs⟩ := h
  have f' := fr_up (j := 0) (v := T 0 + 1) (fr_up (j := 1 + T 0) (v := v) hf (rpv_n (by omega))) (rpv_n (by omega))
  have hU : ∀ k, k ≠ 0 → k ≠ 1 + T 0 → up (up T (1 + T 0) v) 0 (T 0 + 1) k = T k := fun k h1 h2 => (upn_f h1).trans (upn_f h2)
  have hV : up (up T (1 + T 0) v) 0 (T 0 + 1) 0 = T 0 + 1 := upn_t rfl
  have hV2 : up (up T (1 + T 0) v) 0 (T 0 + 1) (1 + T 0) = v := (upn_f (by omega)).trans (upn_t rfl)
  generalize up (up T (1 + T 0) v) 0 (T 0 + 1) = U at f' hU hV hV2 ⊢
  have e6 : U 6 = T 6 := hU 6 (by omega) (by omega)
  have u0 : (u 0).toNatClampNeg = T 0 := by rw [hu 0 (by omega), rp_n (by omega), cl_n (by omega)]
  have hn0 : cntR sr (T 0) (T 6) = 0 := cntR_none fun i hi => by have := (hs i hi).2.1; omega
  have hA : ∀ k, addRow u (nI v) k = if k = 0 then u 0 + 1 else if k = 1 + T 0 then nI v else if k = 31 + T 0 ∨ k = 36 + T 0 then -1 else if k = 210 + T 0 then 0 else if 41 + 3 * T 0 ≤ k ∧ k < 44 + 3 * T 0 then -1 else u k := fun k => by unfold addRow; rw [u0]
  have hR0 := w2 (T 0) hr5
  refine ⟨⟨⟨?_, fun r hr => ?_, fun i hi => ?_, fun r l hr hl => ?_, fun m hm => ?_⟩, ⟨fun p hp => ?_, fun r l hr hl => ?_, fun r hr => ?_, fun p q hp hq h1 h2 => ?_⟩, fun k h1 h2 => ?_, fun r h1 h2 => ?_⟩, ⟨f', fun k hk => ?_, ?_, ?_⟩, fun r hr => ?_, fun i hi => ?_⟩
  · rw [hV, e6, hU 56 (by omega) (by omega), hU 75 (by omega) (by omega), hU 76 (by omega) (by omega), hU 77 (by omega) (by omega), hU 78 (by omega) (by omega), hU 79 (by omega) (by omega)]
    omega
  · rw [hU (31 + r) (by omega) (by omega), hU (36 + r) (by omega) (by omega), hV]
    have h1 := w2 r hr
    by_cases c : r = T 0
    · rw [c, hV2]
      rw [c] at h1
      omega
    · rw [hU (1 + r) (by omega) (by omega)]
      omega
  · rw [hU (7 + i) (by omega) (by omega), hU (15 + i) (by omega) (by omega), hU (23 + i) (by omega) (by omega)]
    exact w3 i hi
  · rw [hU (41 + (3 * r + l)) (by omega) (by omega), hU (31 + r) (by omega) (by omega)]
    exact w4 r l hr hl
  · rw [hU 56 (by omega) (by omega)] at hm
    have h6 := w1.2.2.1
    rw [hU (57 + m) (by omega) (by omega), hU (63 + m) (by omega) (by omega), hU (69 + m) (by omega) (by omega), hV]
    have := w5 m hm
    omega
  · show U (80 + p) ≤ U 6
    rw [hU (80 + p) (by omega) (by omega), e6]
    exact hO.1 p hp
  · show 0 < U (80 + (3 * r + l)) ↔ l < cntR sr r (U 6)
    rw [hU (80 + (3 * r + l)) (by omega) (by omega), e6]
    exact hO.2.1 r l hr hl
  · show cntR sr r (U 6) ≤ U (1 + r)
    rw [e6]
    by_cases c : r = T 0
    · rw [c, hn0]
      exact Nat.zero_le _
    · rw [hU (1 + r) (by omega) (by omega)]
      exact hO.2.2.1 r hr
  · have h1 : U (80 + p) = U (80 + q) := h1
    have h2 : 0 < U (80 + p) := h2
    rw [hU (80 + p) (by omega) (by omega)] at h1 h2
    rw [hU (80 + q) (by omega) (by omega)] at h1
    exact hO.2.2.2 p q hp hq h1 h2
  · rw [hU k (by omega) (by omega)]
    exact hZ k h1 h2
  · rw [hU (36 + r) (by omega) (by omega)]
    exact hw r (by omega) h2
  · rw [hA]
    by_cases c1 : k = 0
    · rw [if_pos c1, c1, rp_n (by omega), hV, hu 0 (by omega), rp_n (by omega)]
      exact n_add _ 1
    rw [if_neg c1]
    by_cases c2 : k = 1 + T 0
    · rw [if_pos c2, c2, rp_n (by omega), hV2]
    rw [if_neg c2, rp_cg (hU k c1 c2)]
    by_cases c3 : k = 31 + T 0 ∨ k = 36 + T 0
    · rw [if_pos c3, rp_d (by omega)]
      have h4 := hw (T 0) (Nat.le_refl _) hr5
      have h5 : T k = 0 := by
        rcases c3 with c3 | c3
        · rw [c3]; omega
        · rw [c3]; exact h4
      rw [h5]
      exact nD_zero.symm
    rw [if_neg c3, if_neg (by omega)]
    by_cases c4 : 41 + 3 * T 0 ≤ k ∧ k < 44 + 3 * T 0
    · rw [if_pos c4, rp_d (by omega)]
      obtain ⟨l, hl3, rfl⟩ : ∃ l, l < 3 ∧ k = 41 + (3 * T 0 + l) := ⟨k - 41 - 3 * T 0, by omega, by omega⟩
      have h5 := w4 (T 0) l hr5 hl3
      have h6 : T (41 + (3 * T 0 + l)) = 0 := by omega
      rw [h6]
      exact nD_zero.symm
    rw [if_neg c4]
    exact hu k hk
  · rw [hA, if_neg (by omega), if_neg (by omega), if_neg (by omega), if_neg (by omega), if_neg (by omega), hU 78 (by omega) (by omega)]
    exact h78
  · rw [hA, if_neg (by omega), if_neg (by omega), if_neg (by omega), if_neg (by omega), if_neg (by omega), hU 79 (by omega) (by omega)]
    exact h79
  · rw [hA, if_neg (by omega), if_neg (by omega), if_neg (by omega), e6]
    by_cases c : r = T 0
    · rw [if_pos (by omega), c, hn0]
      rfl
    · rw [if_neg (by omega), if_neg (by omega)]
      exact hl r (by omega)
  · rw [e6] at hi
    have h1 := hs i hi
    have h2 := cntR_le sr (sr i) i
    have h3 := w1.2.1
    rw [hA, if_neg (by omega), if_neg (by omega), if_neg (by omega), if_neg (by omega), if_neg (by omega), hU (80 + (3 * sr i + cntR sr (sr i) i)) (by omega) (by omega), hV]
    exact ⟨h1.1, by omega, h1.2.2⟩
theorem TR.must (h : TR T sr u f) (hn6 : T 56 < 6) {kd r v : Nat} (hk : kd ≤ 1) (hr : r < T 0) (hv : v ≤ 3) : TR (up (up (up (up T (57 + T 56) kd) (63 + T 56) r) (69 + T 56) v) 56 (T 56 + 1)) sr (addMust u (nI kd) (nI r) (nI v)) (upd (upd (upd (upd f (57 + T 56) (nI kd)) (63 + T 56) (nI r)) (69 + T 56) (nI v)) 56 (nI (T 56 + 1))) := by
  obtain ⟨⟨⟨w1, w2, w3, w4, w5⟩, hO, hZ, hw⟩, ⟨hf, hu, h78, h79⟩, hl, hs⟩ := h
  have f' := fr_up (j := 56) (v := T 56 + 1) (fr_up (j := 69 + T 56) (v := v) (fr_up (j := 63 + T 56) (v := r) (fr_up (j := 57 + T 56) (v := kd) hf (rpv_n (by omega))) (rpv_n (by omega))) (rpv_n (by omega))) (rpv_n (by omega))
  have hU : ∀ k, ¬ (56 ≤ k ∧ k < 75) → up (up (up (up T (57 + T 56) kd) (63 + T 56) r) (69 + T 56) v) 56 (T 56 + 1) k = T k := fun k h1 => (upn_f (by omega)).trans ((upn_f (by omega)).trans ((upn_f (by omega)).trans (upn_f (by omega))))
  have hG : ∀ k, up (up (up (up T (57 + T 56) kd) (63 + T 56) r) (69 + T 56) v) 56 (T 56 + 1) k = if k = 56 then T 56 + 1 else if k = 69 + T 56 then v else if k = 63 + T 56 then r else if k = 57 + T 56 then kd else T k := fun k => rfl
  generalize up (up (up (up T (57 + T 56) kd) (63 + T 56) r) (69 + T 56) v) 56 (T 56 + 1) = U at f' hU hG ⊢
  have e6 : U 6 = T 6 := hU 6 (by omega)
  have e0 : U 0 = T 0 := hU 0 (by omega)
  have u0 : (u 56).toNatClampNeg = T 56 := by rw [hu 56 (by omega), rp_n (by omega), cl_n (by omega)]
  have hA : ∀ k, addMust u (nI kd) (nI r) (nI v) k = if k = 56 then u 56 + 1 else if k = 57 + T 56 then nI kd else if k = 63 + T 56 then nI r else if k = 69 + T 56 then nI v else u k := fun k => by unfold addMust; rw [u0]
  have hA2 : ∀ k, ¬ (56 ≤ k ∧ k < 75) → addMust u (nI kd) (nI r) (nI v) k = u k := fun k h1 => by rw [hA, if_neg (by omega), if_neg (by omega), if_neg (by omega), if_neg (by omega)]
  refine ⟨⟨⟨?_, fun r hr => ?_, fun i hi => ?_, fun r l hr hl => ?_, fun m hm => ?_⟩, ⟨fun p hp => ?_, fun r l hr hl => ?_, fun r hr => ?_, fun p q hp hq h1 h2 => ?_⟩, fun k h1 h2 => ?_, fun r h1 h2 => ?_⟩, ⟨f', fun k hk => ?_, ?_, ?_⟩, fun r hr => ?_, fun i hi => ?_⟩
  · rw [e0, e6, hG 56, if_pos rfl, hU 75 (by omega), hU 76 (by omega), hU 77 (by omega), hU 78 (by omega), hU 79 (by omega)]
    omega
  · rw [hU (1 + r) (by omega), hU (31 + r) (by omega), hU (36 + r) (by omega), e0]
    exact w2 r hr
  · rw [hU (7 + i) (by omega), hU (15 + i) (by omega), hU (23 + i) (by omega)]
    exact w3 i hi
  · rw [hU (41 + (3 * r + l)) (by omega), hU (31 + r) (by omega)]
    exact w4 r l hr hl
  · rw [hG 56, if_pos rfl] at hm
    rw [e0]
    by_cases c : m = T 56
    · rw [c, hG, if_neg (by omega), if_neg (by omega), if_neg (by omega), if_pos rfl, hG, if_neg (by omega), if_neg (by omega), if_pos rfl, hG, if_neg (by omega), if_pos rfl]
      omega
    · rw [hG, if_neg (by omega), if_neg (by omega), if_neg (by omega), if_neg (by omega), hG, if_neg (by omega), if_neg (by omega), if_neg (by omega), if_neg (by omega), hG, if_neg (by omega), if_neg (by omega), if_neg (by omega), if_neg (by omega)]
      exact w5 m (by omega)
  · show U (80 + p) ≤ U 6
    rw [hU (80 + p) (by omega), e6]
    exact hO.1 p hp
  · show 0 < U (80 + (3 * r + l)) ↔ l < cntR sr r (U 6)
    rw [hU (80 + (3 * r + l)) (by omega), e6]
    exact hO.2.1 r l hr hl
  · show cntR sr r (U 6) ≤ U (1 + r)
    rw [hU (1 + r) (by omega), e6]
    exact hO.2.2.1 r hr
  · have h1 : U (80 + p) = U (80 + q) := h1
    have h2 : 0 < U (80 + p) := h2
    rw [hU (80 + p) (by omega)] at h1 h2
    rw [hU (80 + q) (by omega)] at h1
    exact hO.2.2.2 p q hp hq h1 h2
  · rw [hU k (by omega)]
    exact hZ k h1 h2
  · rw [hU (36 + r) (by omega)]
    exact hw r (by omega) h2
  · by_cases c : 56 ≤ k ∧ k < 75
    · rw [hA, rp_n (by omega), hG k]
      by_cases c1 : k = 56
      · rw [if_pos c1, if_pos c1, hu 56 (by omega), rp_n (by omega)]
        exact n_add _ 1
      rw [if_neg c1, if_neg c1]
      by_cases c2 : k = 57 + T 56
      · rw [if_pos c2, if_neg (by omega), if_neg (by omega), if_pos c2]
      rw [if_neg c2]
      by_cases c3 : k = 63 + T 56
      · rw [if_pos c3, if_neg (by omega), if_pos c3]
      rw [if_neg c3]
      by_cases c4 : k = 69 + T 56
      · rw [if_pos c4, if_pos c4]
      rw [if_neg c4, if_neg c4, if_neg c3, if_neg c2, hu k hk, rp_n (by omega)]
    · rw [hA2 k c, rp_cg (hU k c)]
      exact hu k hk
  · rw [hA2 378 (by omega), hU 78 (by omega)]
    exact h78
  · rw [hA2 379 (by omega), hU 79 (by omega)]
    exact h79
  · rw [hA2 _ (by omega), e6]
    exact hl r (by omega)
  · rw [e6] at hi
    have h1 := hs i hi
    have h2 := cntR_le sr (sr i) i
    have h3 := w1.2.1
    rw [hA2 _ (by omega), hU (80 + (3 * sr i + cntR sr (sr i) i)) (by omega), e0]
    exact h1
end P78
