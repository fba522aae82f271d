set_option maxRecDepth 100000
/-! image and restore: the model's loops -/
section P73
variable {all : Nat → Int32} {T : Nat → Nat} {i : Nat}
/-- what an image's part of the model's numbers holds -/
def ImM (all : Nat → Int32) (i : Nat) (T : Nat → Nat) : Prop := ∀ k, k < 531 → all (531 * (i + 1) + k) = rp T k
theorem im_at (hi : i < 2) {k : Nat} (hk : k < 531) : (531 : Int32) * (nI i + 1) + nI k = nI (531 * (i + 1) + k) := by
  rw [show (531 : Int32) = nI 531 from rfl, show nI i + 1 = nI (i + 1) from n_add i 1, n_mul, n_add]
theorem image_loop (all : Nat → Int32) (hi : i < 2) : ∃ all', loopC (fun (s : Int32 × (Nat → Int32)) => FX8_image_b20 (nI i) s.1 s.2) (0, all) = some all' ∧ (∀ k, k < 531 → all' (531 * (i + 1) + k) = all k) ∧ ∀ k, (k < 531 * (i + 1) ∨ 531 * (i + 2) ≤ k) → all' k = all k := by
  refine up_rule (B := fun (s : Int32 × (Nat → Int32)) => FX8_image_b20 (nI i) s.1 s.2) (fun k (a : Nat → Int32) => (nI k, a)) (fun n a => (∀ k, k < n → a (531 * (i + 1) + k) = all k) ∧ ∀ k, (k < 531 * (i + 1) ∨ 531 * (i + 1) + n ≤ k) → a k = all k) (fun r => (∀ k, k < 531 → r (531 * (i + 1) + k) = all k) ∧ ∀ k, (k < 531 * (i + 1) ∨ 531 * (i + 2) ≤ k) → r k = all k) 531 ?_ ?_ 0 all (by omega) ⟨fun k h => absurd h (Nat.not_lt_zero k), fun k _ => rfl⟩
  · rintro n a hn ⟨h1, h2⟩
    refine Or.inl ⟨upd a (531 * (i + 1) + n) (a n), ?_, fun k hk => ?_, fun k hk => ?_⟩
    · show FX8_image_b20 (nI i) (nI n) a = _
      unfold FX8_image_b20
      rw [if_neg (by rw [show (531 : Int32) = nI 531 from rfl, le_f (by omega) (by omega)]; exact id), rdn (by omega) (by omega) (show a n = a n from rfl), bd1_s, im_at hi hn, wr_n (by omega) (by omega), bd1_s, show nI n + 1 = nI (n + 1) from n_add n 1]
    · show (if 531 * (i + 1) + k = 531 * (i + 1) + n then a n else a (531 * (i + 1) + k)) = all k
      by_cases c : k = n
      · rw [if_pos (by omega), c]
        exact h2 n (by omega)
      · rw [if_neg (by omega)]
        exact h1 k (by omega)
    · show (if k = 531 * (i + 1) + n then a n else a k) = all k
      rw [if_neg (by omega)]
      exact h2 k (by omega)
  · rintro a ⟨h1, h2⟩
    refine ⟨a, ?_, h1, fun k hk => h2 k (by omega)⟩
    show FX8_image_b20 (nI i) (nI 531) a = _
    unfold FX8_image_b20
    rw [if_pos (show (531 : Int32) ≤ nI 531 by decide)]
theorem image8 (hA : AllAt all T) (hi : i < 2) (hI : Nat → Int32) : ∃ all' hI', FX8_image all hI (nI i) = some (0, all', hI') ∧ AllAt all' T ∧ ImM all' i T ∧ (∀ j U, j < 2 → j ≠ i → ImM all j U → ImM all' j U) ∧ hI' = upd hI i 1 := by
  obtain ⟨all', e1, h1, h2⟩ := image_loop all hi
  refine ⟨all', upd hI i 1, ?_, fun k hk => ?_, fun k hk => ?_, fun j U hj hji hU k hk => ?_, rfl⟩
  · unfold FX8_image
    rw [show FX8_within (nI i).toInt64 0 1 = some (decide (0 ≤ (nI i).toInt ∧ (nI i).toInt ≤ 1)) from wiL (by decide) (by decide), decide_eq_true (show 0 ≤ (nI i).toInt ∧ (nI i).toInt ≤ 1 by rw [toN (by omega)]; omega), bd1_s, if_neg (by decide), e1, bd1_s, wr_n (by omega) (by omega), bd1_s]
    rfl
  · rw [h2 k (by omega)]
    exact hA k hk
  · rw [h1 k hk]
    exact hA k hk
  · rw [h2 _ (by omega)]
    exact hU k hk
end P73
