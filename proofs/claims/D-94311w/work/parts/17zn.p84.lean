set_option maxRecDepth 100000
/-! a town as it begins -/
def T00 : Nat → Nat := fun k => if k = 75 then 4 else if k = 76 then 8 else 0
theorem or_pl {P : Nat → Nat} (hP : ∀ j, P j < 16) {k : Nat} (hk : k < 8) : pk (fun j => if j < k then P j else 0) 8 ||| (P k * 2 ^ (4 * k)) = pk (fun j => if j < k + 1 then P j else 0) 8 := by
  have e4 : (pk (fun j => if j < k then P j else 0) 8 + 0 * 16 ^ 8) ||| (P k * 2 ^ (4 * k)) = pk (fun j => if j < k + 1 then P j else 0) 8 + 0 * 16 ^ 8 := by
    have hle := hP k
    refine tb_ext fun q s hs => ?_
    rw [Nat.testBit_or, dk_bit (fun j _ => by have := hP j; show (if j < k then P j else 0) < 16; split <;> omega) q s hs, dk_bit (fun j _ => by have := hP j; show (if j < k + 1 then P j else 0) < 16; split <;> omega) q s hs, Nat.testBit_mul_two_pow]
    by_cases c : q = k
    · subst c
      rw [if_pos hk, if_pos hk, if_neg (Nat.lt_irrefl _), if_pos (Nat.lt_succ_self _), Nat.zero_testBit, decide_eq_true (by omega), Bool.true_and, Bool.false_or, show 4 * q + s - 4 * q = s by omega]
    · have z : (decide (4 * q + s ≥ 4 * k) && (P k).testBit (4 * q + s - 4 * k)) = false := by
        by_cases c2 : 4 * k ≤ 4 * q + s
        · rw [Nat.testBit_lt_two_pow (Nat.lt_of_lt_of_le hle (show (16 : Nat) ≤ 2 ^ (4 * q + s - 4 * k) from Nat.pow_le_pow_right (n := 2) (i := 4) (by decide) (by omega))), Bool.and_false]
        · rw [decide_eq_false (by omega), Bool.false_and]
      rw [z, Bool.or_false]
      by_cases c3 : q < 8
      · rw [if_pos c3, if_pos c3]
        by_cases c4 : q < k
        · rw [if_pos c4, if_pos (by omega)]
        · rw [if_neg c4, if_neg (by omega)]
      · rw [if_neg c3, if_neg c3]
  rw [Nat.zero_mul, Nat.add_zero, Nat.add_zero] at e4
  exact e4
section P84
variable {T sr : Nat → Nat} {u f : Nat → Int32}
theorem begins_law (h : TR T sr u f) (ca la : Nat → Int32) : ∃ c1 l1 m1, FX1_begins ca la u = some (lN (enc (fun p => T (80 + p)) 0), c1, l1, m1) ∧ (∀ i, i < 8 → c1 i = nI 0) ∧ ∀ i, i < 8 → l1 i = nD 0 := by
  have w0 : T 0 ≤ 5 := h.1.1.1.1
  have w6 : T 6 ≤ 8 := h.1.1.1.2.1
  have u6 : u 6 = nI (T 6) := h.uat (by omega) (by omega)
  have hO := h.1.2.1
  have hs := h.2.2.2
  have hl15 : ∀ j, pl (fun p => T (80 + p)) j < 16 := fun j => by have := pl_le (fun p => T (80 + p)) j; omega
  obtain ⟨r, h1, h2⟩ := up_rule (B := fun (s : Int32 × Int64 × (Nat → Int32) × (Nat → Int32) × (Nat → Int32)) => FX1_begins_b21 u s.1 s.2.1 s.2.2.1 s.2.2.2.1 s.2.2.2.2) (fun k (x : Int64 × (Nat → Int32) × (Nat → Int32) × (Nat → Int32)) => (nI k, x))
    (fun k x => x.1 = lN (pk (fun j => if j < k then pl (fun p => T (80 + p)) j else 0) 8) ∧ (∀ i, i < k → x.2.1 i = nI 0) ∧ (∀ i, i < k → x.2.2.1 i = nD 0) ∧ (k ≤ T 6 → ∀ r, r < 5 → x.2.2.2 r = nI (cntR sr r k)))
    (fun x => x.1 = lN (enc (fun p => T (80 + p)) 0) ∧ (∀ i, i < 8 → x.2.1 i = nI 0) ∧ ∀ i, i < 8 → x.2.2.1 i = nD 0) 8
    (by
      rintro k ⟨lv, c1, l1, m1⟩ hk ⟨i1, i2, i3, i4⟩
      dsimp only at i1 i2 i3 i4
      have e4 : (4 : Int32) * nI k = nI (4 * k) := n_mul 4 k
      have eor := or_pl hl15 hk
      have c1' : ∀ i, i < k + 1 → upd c1 k 0 i = nI 0 := fun i hi => by
        by_cases c : i = k
        · rw [up_t c]; rfl
        · rw [up_f c]; exact i2 i (by omega)
      have l1' : ∀ i, i < k + 1 → upd l1 k (-1) i = nD 0 := fun i hi => by
        by_cases c : i = k
        · rw [up_t c]; exact nD_zero.symm
        · rw [up_f c]; exact i3 i (by omega)
      refine Or.inl ?_
      by_cases c : T 6 ≤ k
      · have p15 : pl (fun p => T (80 + p)) k = 15 := by
          have q1 := pl_le (fun p => T (80 + p)) k
          by_cases q2 : pl (fun p => T (80 + p)) k < 15
          · have q3 : T (80 + pl (fun p => T (80 + p)) k) = k + 1 := pl_in q2
            have q4 : T (80 + pl (fun p => T (80 + p)) k) ≤ T 6 := hO.1 _ q2
            omega
          · omega
        refine ⟨(lN (pk (fun j => if j < k + 1 then pl (fun p => T (80 + p)) j else 0) 8), upd c1 k 0, upd l1 k (-1), m1), ?_, rfl, c1', l1', fun h0 => absurd h0 (by omega)⟩
        · show FX1_begins_b21 u (nI k) lv c1 l1 m1 = _
          unfold FX1_begins_b21 FX1_begins_j91
          rw [if_neg (by rw [show (8 : Int32) = nI 8 from rfl, le_f (by omega) (by omega)]; exact id), wr_n (by omega) (by omega), bd1_s, wr_n (by omega) (by omega), bd1_s, u6, if_pos (by rw [le_t c (by omega)]; trivial), e4, show (15 : Int32) = nI 15 from rfl, i2l (by omega), shlL_n _ (by omega), i1, fb_orL, ← p15, eor, show nI k + 1 = nI (k + 1) from n_add k 1]
      · obtain ⟨h5, h6, h7⟩ := hs k (by omega)
        have h8 := cntR_le sr (sr k) k
        have h9 : cntR sr (sr k) (T 6) ≤ T (1 + sr k) := hO.2.2.1 _ (by omega)
        have hw := h.1.1.2.1 (sr k) (by omega)
        have hmono : ∀ d, cntR sr (sr k) k + 1 ≤ cntR sr (sr k) (k + 1 + d) := by
          intro d
          induction d with
          | zero => rw [Nat.add_zero, cntR, if_pos rfl]; exact Nat.le_refl _
          | succ d ih => rw [← Nat.add_assoc, cntR]; omega
        have h10 := hmono (T 6 - (k + 1))
        rw [show k + 1 + (T 6 - (k + 1)) = T 6 by omega] at h10
        have pk2 : pl (fun p => T (80 + p)) k = 3 * sr k + cntR sr (sr k) k := pl_of hO (by omega) h7
        have hm := i4 (by omega) (sr k) (by omega)
        have al : alg (nI (T 6)) (nI k) = some () := al_n (by omega) (by omega)
        refine ⟨(lN (pk (fun j => if j < k + 1 then pl (fun p => T (80 + p)) j else 0) 8), upd c1 k 0, upd l1 k (-1), upd m1 (sr k) (nI (cntR sr (sr k) k + 1))), ?_, rfl, c1', l1', fun h0 r hr => ?_⟩
        · show FX1_begins_b21 u (nI k) lv c1 l1 m1 = _
          unfold FX1_begins_b21 FX1_begins_j91
          rw [if_neg (by rw [show (8 : Int32) = nI 8 from rfl, le_f (by omega) (by omega)]; exact id), wr_n (by omega) (by omega), bd1_s, wr_n (by omega) (by omega), bd1_s, u6, if_neg (by rw [le_f (by omega) (by omega)]; exact id), al, bd0_s, cl_n (by omega), h5, rdn (by omega) (by omega) hm, bd1_s, bd1_s, show nI (cntR sr (sr k) k) + 1 = nI (cntR sr (sr k) k + 1) from n_add _ 1, wr_n (by omega) (by omega), bd1_s, e4, show (3 : Int32) = nI 3 from rfl, n_mul, n_add, i2l (by omega), shlL_n _ (by omega), i1, fb_orL, ← pk2, eor, show nI k + 1 = nI (k + 1) from n_add k 1]
        · show upd m1 (sr k) (nI (cntR sr (sr k) k + 1)) r = nI (cntR sr r k + if sr k = r then 1 else 0)
          by_cases c2 : r = sr k
          · rw [up_t c2, if_pos c2.symm, c2]
          · rw [up_f c2, if_neg (fun h => c2 h.symm), Nat.add_zero]
            exact i4 (by omega) r hr)
    (by
      rintro ⟨lv, c1, l1, m1⟩ ⟨i1, i2, i3, -⟩
      refine ⟨(lv, c1, l1, m1), ?_, ?_, i2, i3⟩
      · show FX1_begins_b21 u (nI 8) lv c1 l1 m1 = _
        unfold FX1_begins_b21
        rw [if_pos (by decide)]
      · show lv = _
        have i1 : lv = _ := i1
        rw [i1, enc, Nat.zero_mul, Nat.add_zero, dk_cong 8 (fun j hj => (if_pos hj : (if j < 8 then pl (fun p => T (80 + p)) j else 0) = pl (fun p => T (80 + p)) j))])
    0 (0, ca, la, fun _ => 0) (by omega) ⟨by
      show (0 : Int64) = _
      rw [dk_cong (Q := fun _ => 0) 8 (fun j _ => if_neg (Nat.not_lt_zero j))]
      rfl, fun i hi => absurd hi (Nat.not_lt_zero i), fun i hi => absurd hi (Nat.not_lt_zero i), fun _ r _ => rfl⟩
  refine ⟨r.2.1, r.2.2.1, r.2.2.2, ?_, h2.2.1, h2.2.2⟩
  unfold FX1_begins
  have h3 : loopC (fun (s : Int32 × Int64 × (Nat → Int32) × (Nat → Int32) × (Nat → Int32)) => FX1_begins_b21 u s.1 s.2.1 s.2.2.1 s.2.2.2.1 s.2.2.2.2) (0, 0, ca, la, (fun _ => 0)) = some r := h1
  rw [h3, bd4_t, h2.1]
end P84
/-- a town without a text, on both sides -/
theorem TR00 {f : Nat → Int32} (hf : ∀ k, k < 113 → f k = rp T00 k) : TR T00 (fun _ => 0) u0F f := by
  have e : ∀ k, T00 k = if k = 75 then 4 else if k = 76 then 8 else 0 := fun k => rfl
  have e0 : ∀ k, k ≠ 75 → k ≠ 76 → T00 k = 0 := fun k h1 h2 => by rw [e, if_neg h1, if_neg h2]
  refine ⟨⟨⟨?_, fun r hr => ?_, fun i hi => ?_, fun r l hr hl => ?_, fun m hm => absurd hm (Nat.not_lt_zero m)⟩, ⟨fun p hp => ?_, fun r l hr hl => ?_, fun r hr => Nat.zero_le _, fun p q hp hq h1 h2 => ?_⟩, fun k h1 h2 => e0 k (by omega) (by omega), fun r h1 h2 => e0 _ (by omega) (by omega)⟩, ⟨hf, fun k hk => ?_, rfl, rfl⟩, fun r hr => absurd hr (Nat.not_lt_zero r), fun i hi => absurd hi (Nat.not_lt_zero i)⟩
  · decide
  · rw [e0 (1 + r) (by omega) (by omega), e0 (31 + r) (by omega) (by omega), e0 (36 + r) (by omega) (by omega), e0 0 (by omega) (by omega)]
    omega
  · rw [e0 (7 + i) (by omega) (by omega), e0 (15 + i) (by omega) (by omega), e0 (23 + i) (by omega) (by omega)]
    omega
  · rw [e0 (41 + (3 * r + l)) (by omega) (by omega), e0 (31 + r) (by omega) (by omega)]
    omega
  · show T00 (80 + p) ≤ _
    rw [e0 (80 + p) (by omega) (by omega)]
    exact Nat.zero_le _
  · show 0 < T00 (80 + (3 * r + l)) ↔ l < 0
    rw [e0 (80 + (3 * r + l)) (by omega) (by omega)]
    omega
  · have h2 : 0 < T00 (80 + p) := h2
    rw [e0 (80 + p) (by omega) (by omega)] at h2
    omega
  · unfold u0F rp
    rw [e k]
    by_cases c1 : k = 75
    · rw [if_pos c1, if_pos c1, if_neg (by omega)]
      rfl
    rw [if_neg c1, if_neg c1]
    by_cases c2 : k = 76
    · rw [if_pos c2, if_pos c2, if_neg (by omega)]
      rfl
    rw [if_neg c2, if_neg c2]
    by_cases c3 : 31 ≤ k ∧ k < 56
    · rw [if_pos c3, if_pos (by omega)]
      exact nD_zero.symm
    · rw [if_neg c3, if_neg (by omega)]
      rfl
/-- the model's town without a text -/
theorem plain_law (g : Nat → Int32) : ∃ f, FX8_plain_fresh g = some f ∧ (∀ k, k < 113 → f k = rp T00 k) ∧ ∀ k, 113 ≤ k → f k = g k := by
  have e1 : loopC (fun (s : Int32 × (Nat → Int32)) => FX8_plain_fresh_b2 s.1 s.2) (nI 0, (fun k => if k < 0 then (0 : Int32) else g k)) = some (fun k => if k < 113 then (0 : Int32) else g k) := up_eq (B := fun (s : Int32 × (Nat → Int32)) => FX8_plain_fresh_b2 s.1 s.2) (fun k (a : Nat → Int32) => (nI k, a)) (fun n k => if k < n then (0 : Int32) else g k) 113 (fun k hk => by
    show FX8_plain_fresh_b2 (nI k) _ = _
    unfold FX8_plain_fresh_b2
    rw [if_neg (by rw [show (113 : Int32) = nI 113 from rfl, le_f (by omega) (by omega)]; exact id), wr_n (by omega) (by omega), bd1_s, show nI k + 1 = nI (k + 1) from n_add k 1]
    congr 3
    funext j
    unfold upd
    by_cases c : j = k
    · rw [if_pos c, if_pos (by omega)]
    · rw [if_neg c]
      dsimp only
      by_cases c2 : j < k
      · rw [if_pos c2, if_pos (by omega)]
      · rw [if_neg c2, if_neg (by omega)]) (by
    show FX8_plain_fresh_b2 (nI 113) _ = _
    unfold FX8_plain_fresh_b2
    rw [if_pos (by decide)]) 0 (by omega)
  have e2 : ∀ h : Nat → Int32, loopC (fun (s : Int32 × (Nat → Int32)) => FX8_plain_fresh_b31 s.1 s.2) (nI 0, (fun k => if 31 ≤ k ∧ k < 31 + 0 ∨ 36 ≤ k ∧ k < 36 + 0 then (-1 : Int32) else h k)) = some (fun k => if 31 ≤ k ∧ k < 31 + 5 ∨ 36 ≤ k ∧ k < 36 + 5 then (-1 : Int32) else h k) := fun h => up_eq (B := fun (s : Int32 × (Nat → Int32)) => FX8_plain_fresh_b31 s.1 s.2) (fun k (a : Nat → Int32) => (nI k, a)) (fun n k => if 31 ≤ k ∧ k < 31 + n ∨ 36 ≤ k ∧ k < 36 + n then (-1 : Int32) else h k) 5 (fun k hk => by
    show FX8_plain_fresh_b31 (nI k) _ = _
    unfold FX8_plain_fresh_b31
    rw [if_neg (by rw [show (5 : Int32) = nI 5 from rfl, le_f (by omega) (by omega)]; exact id), show (31 : Int32) + nI k = nI (31 + k) from n_add 31 k, wr_n (by omega) (by omega), bd1_s, show (36 : Int32) + nI k = nI (36 + k) from n_add 36 k, wr_n (by omega) (by omega), bd1_s, show nI k + 1 = nI (k + 1) from n_add k 1]
    congr 3
    funext j
    unfold upd
    by_cases c : j = 36 + k
    · rw [if_pos c, if_pos (by omega)]
    · rw [if_neg c]
      by_cases c3 : j = 31 + k
      · rw [if_pos c3, if_pos (by omega)]
      · rw [if_neg c3]
        dsimp only
        by_cases c2 : 31 ≤ j ∧ j < 31 + k ∨ 36 ≤ j ∧ j < 36 + k
        · rw [if_pos c2, if_pos (by omega)]
        · rw [if_neg c2, if_neg (by omega)]) (by
    show FX8_plain_fresh_b31 (nI 5) _ = _
    unfold FX8_plain_fresh_b31
    rw [if_pos (by decide)]) 0 (by omega)
  have e3 : ∀ h : Nat → Int32, loopC (fun (s : Int32 × (Nat → Int32)) => FX8_plain_fresh_b58 s.1 s.2) (nI 0, (fun k => if 41 ≤ k ∧ k < 41 + 0 then (-1 : Int32) else h k)) = some (fun k => if 41 ≤ k ∧ k < 41 + 15 then (-1 : Int32) else h k) := fun h => up_eq (B := fun (s : Int32 × (Nat → Int32)) => FX8_plain_fresh_b58 s.1 s.2) (fun k (a : Nat → Int32) => (nI k, a)) (fun n k => if 41 ≤ k ∧ k < 41 + n then (-1 : Int32) else h k) 15 (fun k hk => by
    show FX8_plain_fresh_b58 (nI k) _ = _
    unfold FX8_plain_fresh_b58
    rw [if_neg (by rw [show (15 : Int32) = nI 15 from rfl, le_f (by omega) (by omega)]; exact id), show (41 : Int32) + nI k = nI (41 + k) from n_add 41 k, wr_n (by omega) (by omega), bd1_s, show nI k + 1 = nI (k + 1) from n_add k 1]
    congr 3
    funext j
    unfold upd
    by_cases c : j = 41 + k
    · rw [if_pos c, if_pos (by omega)]
    · rw [if_neg c]
      dsimp only
      by_cases c2 : 41 ≤ j ∧ j < 41 + k
      · rw [if_pos c2, if_pos (by omega)]
      · rw [if_neg c2, if_neg (by omega)]) (by
    show FX8_plain_fresh_b58 (nI 15) _ = _
    unfold FX8_plain_fresh_b58
    rw [if_pos (by decide)]) 0 (by omega)
  have e4 : ∀ h : Nat → Int32, loopC (fun (s : Int32 × (Nat → Int32)) => FX8_plain_fresh_b79 s.1 s.2) (nI 0, (fun k => if 104 ≤ k ∧ k < 104 + 0 then (-1 : Int32) else h k)) = some (fun k => if 104 ≤ k ∧ k < 104 + 8 then (-1 : Int32) else h k) := fun h => up_eq (B := fun (s : Int32 × (Nat → Int32)) => FX8_plain_fresh_b79 s.1 s.2) (fun k (a : Nat → Int32) => (nI k, a)) (fun n k => if 104 ≤ k ∧ k < 104 + n then (-1 : Int32) else h k) 8 (fun k hk => by
    show FX8_plain_fresh_b79 (nI k) _ = _
    unfold FX8_plain_fresh_b79
    rw [if_neg (by rw [show (8 : Int32) = nI 8 from rfl, le_f (by omega) (by omega)]; exact id), show (104 : Int32) + nI k = nI (104 + k) from n_add 104 k, wr_n (by omega) (by omega), bd1_s, show nI k + 1 = nI (k + 1) from n_add k 1]
    congr 3
    funext j
    unfold upd
    by_cases c : j = 104 + k
    · rw [if_pos c, if_pos (by omega)]
    · rw [if_neg c]
      dsimp only
      by_cases c2 : 104 ≤ j ∧ j < 104 + k
      · rw [if_pos c2, if_pos (by omega)]
      · rw [if_neg c2, if_neg (by omega)]) (by
    show FX8_plain_fresh_b79 (nI 8) _ = _
    unfold FX8_plain_fresh_b79
    rw [if_pos (by decide)]) 0 (by omega)
  have z0 : (fun k => if k < 0 then (0 : Int32) else g k) = g := funext fun k => if_neg (Nat.not_lt_zero k)
  have z2 : ∀ h : Nat → Int32, (fun k => if 31 ≤ k ∧ k < 31 + 0 ∨ 36 ≤ k ∧ k < 36 + 0 then (-1 : Int32) else h k) = h := fun h => funext fun k => if_neg (by omega)
  have z3 : ∀ h : Nat → Int32, (fun k => if 41 ≤ k ∧ k < 41 + 0 then (-1 : Int32) else h k) = h := fun h => funext fun k => if_neg (by omega)
  have z4 : ∀ h : Nat → Int32, (fun k => if 104 ≤ k ∧ k < 104 + 0 then (-1 : Int32) else h k) = h := fun h => funext fun k => if_neg (by omega)
  have w1 : ∀ h : Nat → Int32, wrI 531 h 75 4 = some (upd h 75 4) := fun h => wr_n (k := 75) (by omega) (by omega)
  have w2 : ∀ h : Nat → Int32, wrI 531 h 76 8 = some (upd h 76 8) := fun h => wr_n (k := 76) (by omega) (by omega)
  rw [z0] at e1
  have e2' := fun h => by have := e2 h; rw [z2] at this; exact this
  have e3' := fun h => by have := e3 h; rw [z3] at this; exact this
  have e4' := fun h => by have := e4 h; rw [z4] at this; exact this
  unfold FX8_plain_fresh
  rw [show (0 : Int32) = nI 0 from rfl, e1, bd1_s, w1, bd1_s, w2, bd1_s, e2', bd1_s, e3', bd1_s, e4', bd1_s]
  refine ⟨_, rfl, fun k hk => ?_, fun k hk => ?_⟩
  · unfold rp
    show _ = if _ then nD (if k = 75 then 4 else if k = 76 then 8 else 0) else nI (if k = 75 then 4 else if k = 76 then 8 else 0)
    by_cases c1 : 104 ≤ k ∧ k < 104 + 8
    · rw [if_pos c1, if_pos (by omega), if_neg (by omega), if_neg (by omega)]
      exact nD_zero.symm
    rw [if_neg c1]
    by_cases c2 : 41 ≤ k ∧ k < 41 + 15
    · rw [if_pos c2, if_pos (by omega), if_neg (by omega), if_neg (by omega)]
      exact nD_zero.symm
    rw [if_neg c2]
    by_cases c3 : 31 ≤ k ∧ k < 31 + 5 ∨ 36 ≤ k ∧ k < 36 + 5
    · rw [if_pos c3, if_pos (by omega), if_neg (by omega), if_neg (by omega)]
      exact nD_zero.symm
    rw [if_neg c3, if_neg (show ¬ ((31 ≤ k ∧ k < 56) ∨ (104 ≤ k ∧ k < 112)) by omega)]
    by_cases c4 : k = 76
    · rw [up_t c4, if_neg (by omega), if_pos c4]
      rfl
    rw [up_f c4]
    by_cases c5 : k = 75
    · rw [up_t c5, if_pos c5]
      rfl
    rw [up_f c5, if_pos hk, if_neg c5, if_neg c4]
    rfl
  · show (if _ then _ else _) = _
    rw [if_neg (by omega), if_neg (by omega), if_neg (by omega), up_f (by omega), up_f (by omega), if_neg (by omega)]
