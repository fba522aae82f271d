set_option maxRecDepth 100000
/-! easier: two wishes exchanged -/
def swT (T : Nat → Nat) (p q : Nat) : Nat → Nat := up (up T (41 + p) (T (41 + q))) (41 + q) (T (41 + p))
section P68
variable {all t : Nat → Int32} {T : Nat → Nat} {p q : Nat}
theorem swT_o {k : Nat} (h1 : k ≠ 41 + p) (h2 : k ≠ 41 + q) : swT T p q k = T k := by
  unfold swT
  rw [upn_f h2, upn_f h1]
theorem swT_q : swT T p q (41 + q) = T (41 + p) := upn_t rfl
theorem swT_p : swT T p q (41 + p) = T (41 + q) := by
  unfold swT
  by_cases c : p = q
  · subst c
    rw [upn_t rfl]
  · rw [upn_f (by omega), upn_t rfl]
theorem swT_w {k : Nat} (hp : 0 < T (41 + p)) (hq : 0 < T (41 + q)) : (0 < swT T p q (41 + k)) = (0 < T (41 + k)) := by
  by_cases c1 : k = p
  · rw [c1, swT_p]
    exact propext ⟨fun _ => hp, fun _ => hq⟩
  · by_cases c2 : k = q
    · rw [c2, swT_q]
      exact propext ⟨fun _ => hq, fun _ => hp⟩
    · rw [swT_o (by omega) (by omega)]
theorem WT_sw (hW : WT T) (hp : p < 15) (hq : q < 15) (wp : 0 < T (41 + p)) (wq : 0 < T (41 + q)) : WT (swT T p q) := by
  have o : ∀ k, k < 41 ∨ 56 ≤ k → swT T p q k = T k := fun k hk => swT_o (by omega) (by omega)
  obtain ⟨h1, h2, h3, h4, h5⟩ := hW
  refine ⟨?_, fun r hr => ?_, fun i hi => ?_, fun r l hr hl => ?_, fun m hm => ?_⟩
  · rw [o 0 (by omega), o 6 (by omega), o 56 (by omega), o 75 (by omega), o 76 (by omega), o 77 (by omega), o 78 (by omega), o 79 (by omega)]
    exact h1
  · rw [o 0 (by omega), o (1 + r) (by omega), o (31 + r) (by omega), o (36 + r) (by omega)]
    exact h2 r hr
  · rw [o (7 + i) (by omega), o (15 + i) (by omega), o (23 + i) (by omega)]
    exact h3 i hi
  · rw [swT_w wp wq, o (31 + r) (by omega)]
    refine ⟨?_, (h4 r l hr hl).2⟩
    have b : ∀ k, k < 15 → T (41 + k) ≤ 8 := fun k hk => by
      have := (h4 (k / 3) (k % 3) (by omega) (by omega)).1
      rw [Nat.div_add_mod] at this
      exact this
    by_cases c1 : 3 * r + l = p
    · rw [c1, swT_p]; exact b q hq
    · by_cases c2 : 3 * r + l = q
      · rw [c2, swT_q]; exact b p hp
      · rw [swT_o (by omega) (by omega)]; exact b _ (by omega)
  · rw [o 56 (by omega)] at hm
    rw [o (57 + m) (by omega), o (63 + m) (by omega), o (69 + m) (by omega), o 0 (by omega)]
    exact h5 m hm
theorem row_lt (hW : WT T) (hp : p < 15) (wp : 0 < T (41 + p)) : p / 3 < T 0 := by
  have h := (wsh hW hp).2.mp wp
  have h2 := (hW.2.1 (p / 3) (by omega)).2.2.2.1
  by_cases c : p / 3 < T 0
  · exact c
  · rw [h2 (by omega)] at h
    omega
theorem upto_ok {n k : Nat} (h : k ≤ n) (hk : k < 2147483648) : upto n (nI k) = some () := by
  unfold upto
  rw [if_neg]
  rintro (c | c)
  · have := Int32.lt_iff_toInt_lt.mp c
    rw [toN hk] at this
    simp at this
    omega
  · rw [nI_clamp hk] at c
    omega
theorem wrW_ok {u : Nat → Int32} {r j : Nat} {v : Int32} (hr : r < 5) (hj : j < 3) : wrW u (nI r) (nI j) v = some (upd u (41 + 3 * r + j) v) := by
  unfold wrW
  rw [nI_clamp (by omega), nI_clamp (by omega), if_neg]
  rintro (c | c)
  · have := Int32.lt_iff_toInt_lt.mp c
    rw [toN (by omega)] at this
    simp at this
    omega
  · omega
theorem exch0 (ht : TwAt t T) (hW : WT T) (hp : p < 15) (hq : q < 15) (hpq : p ≠ q) (wp : 0 < T (41 + p)) (wq : 0 < T (41 + q)) : ∃ u2, FX0_exchanged t (nI p) (nI q) = some u2 ∧ TwAt u2 (swT T p q) := by
  have hb := hW.b
  have e0 := ht.n (k := 0) (by omega) (by omega)
  have e6 := ht.n (k := 6) (by omega) (by omega)
  have e56 := ht.n (k := 56) (by omega) (by omega)
  have e77 := ht.n (k := 77) (by omega) (by omega)
  have rp := row_lt hW hp wp
  have rq := row_lt hW hq wq
  have d3 : ∀ k, k < 15 → nI k / 3 = nI (k / 3) := fun k hk => n_div (by omega) (by decide)
  have m3 : ∀ k, k < 15 → nI k - nI k / 3 * 3 = nI (k % 3) := fun k hk => by
    rw [d3 k hk, show (3 : Int32) = nI 3 from rfl, n_mul]
    by_cases c : k / 3 * 3 = 1
    · omega
    · rw [n_sub (by omega) c]
      congr 1
      omega
  have g77 : boG (t 77) = some () := by
    rw [e77]
    have : T 77 = 0 ∨ T 77 = 1 := by omega
    unfold boG
    rcases this with h | h
    · rw [h]; rfl
    · rw [h]; rfl
  refine ⟨upd (upd (exT t (p / 3) (q / 3)) (41 + 3 * (p / 3) + p % 3) (nD (T (41 + q)))) (41 + 3 * (q / 3) + q % 3) (nD (T (41 + p))), ?_, fun k hk => ?_⟩
  · have w1 := wished4n ht hW hp
    have w2 := wished4n ht hW hq
    have w1' : FX2_wished t (nI p) (-1) = some (nD (T (41 + p))) := w1
    have w2' : FX2_wished t (nI q) (-1) = some (nD (T (41 + q))) := w2
    unfold FX0_exchanged
    rw [m3 p hp, m3 q hq, d3 p hp, d3 q hq, e0, e6, e56, upto_ok (by omega) (by omega), bd0_s, upto_ok (by omega) (by omega), bd0_s, upto_ok (by omega) (by omega), bd0_s, g77, bd0_s, algN rp (by omega), bd0_s, algN rq (by omega), bd0_s, w1', bd1_s, w2', bd1_s, nI_clamp (by omega), nI_clamp (by omega), wrW_ok (by omega) (by omega), bd1_s, wrW_ok (by omega) (by omega)]
  · have ep : 41 + 3 * (p / 3) + p % 3 = 41 + p := by omega
    have eq : 41 + 3 * (q / 3) + q % 3 = 41 + q := by omega
    rw [ep, eq]
    show (if k = 41 + q then nD (T (41 + p)) else if k = 41 + p then nD (T (41 + q)) else exT t (p / 3) (q / 3) k) = _
    by_cases c1 : k = 41 + q
    · rw [if_pos c1, c1, rp_d (by omega), swT_q]
    · by_cases c2 : k = 41 + p
      · rw [if_neg c1, if_pos c2, c2, rp_d (by omega), swT_p]
      · rw [if_neg c1, if_neg c2, exT_o (by omega), ht k hk]
        exact (rp_cong (swT_o (by omega) (by omega))).symm
theorem isExch0 (ht : TwAt t T) (hW : WT T) (hp : p < 15) (hq : q < 15) : FX0_isExchange t (nI p) (nI q) = some (decide (0 < T (41 + p) ∧ 0 < T (41 + q) ∧ T (41 + p) ≠ T (41 + q))) := by
  have w1' : FX2_wished t (nI p) (-1) = some (nD (T (41 + p))) := wished4n ht hW hp
  have w2' : FX2_wished t (nI q) (-1) = some (nD (T (41 + q))) := wished4n ht hW hq
  have b1 := (wsh hW hp).1
  have b2 := (wsh hW hq).1
  have z : ∀ k, k < 100 → (nD k = (-1 : Int32)) = (k = 0) := fun k hk => propext ⟨fun h => by
    have := congrArg Int32.toInt h
    rw [toD (by omega)] at this
    have h2 : (-1 : Int32).toInt = -1 := by decide
    omega, fun h => by rw [h]; rfl⟩
  have z2 : (nD (T (41 + p)) = nD (T (41 + q))) = (T (41 + p) = T (41 + q)) := propext ⟨fun h => by
    have := congrArg Int32.toInt h
    rw [toD (by omega), toD (by omega)] at this
    omega, fun h => by rw [h]⟩
  unfold FX0_isExchange
  rw [w1', bd1_s, w2', bd1_s]
  simp only [z _ (show T (41 + p) < 100 by omega), z _ (show T (41 + q) < 100 by omega), z2]
  by_cases c1 : T (41 + p) = 0
  · rw [if_pos c1, decide_eq_false (by omega)]
  · rw [if_neg c1]
    by_cases c2 : T (41 + q) = 0
    · rw [if_pos c2, decide_eq_false (by omega)]
    · rw [if_neg c2]
      by_cases c3 : T (41 + p) = T (41 + q)
      · rw [if_pos c3, decide_eq_false (by omega)]
      · rw [if_neg c3, decide_eq_true (by omega)]
end P68
