set_option maxRecDepth 100000
/-! restore: the model's loop -/
section P74
variable {all : Nat → Int32} {T U : Nat → Nat} {i : Nat}
theorem restore_loop (all : Nat → Int32) (hi : i < 2) : ∃ all', loopC (fun (s : Int32 × (Nat → Int32)) => FX8_restore_b32 (nI i) s.1 s.2) (0, all) = some all' ∧ (∀ k, k < 531 → all' k = all (531 * (i + 1) + k)) ∧ ∀ k, 531 ≤ k → all' k = all k := by
  refine up_rule (B := fun (s : Int32 × (Nat → Int32)) => FX8_restore_b32 (nI i) s.1 s.2) (fun k (a : Nat → Int32) => (nI k, a)) (fun n a => (∀ k, k < n → a k = all (531 * (i + 1) + k)) ∧ ∀ k, n ≤ k → a k = all k) (fun r => (∀ k, k < 531 → r k = all (531 * (i + 1) + k)) ∧ ∀ k, 531 ≤ k → r k = all k) 531 ?_ ?_ 0 all (by omega) ⟨fun k h => absurd h (Nat.not_lt_zero k), fun k _ => rfl⟩
  · rintro n a hn ⟨h1, h2⟩
    refine Or.inl ⟨upd a n (a (531 * (i + 1) + n)), ?_, fun k hk => ?_, fun k hk => ?_⟩
    · show FX8_restore_b32 (nI i) (nI n) a = _
      unfold FX8_restore_b32
      rw [if_neg (by rw [show (531 : Int32) = nI 531 from rfl, le_f (by omega) (by omega)]; exact id), im_at hi hn, rdn (by omega) (by omega) (show a (531 * (i + 1) + n) = a (531 * (i + 1) + n) from rfl), bd1_s, wr_n (by omega) (by omega), bd1_s, show nI n + 1 = nI (n + 1) from n_add n 1]
    · show (if k = n then a (531 * (i + 1) + n) else a k) = all (531 * (i + 1) + k)
      by_cases c : k = n
      · rw [if_pos c, c]
        exact h2 _ (by omega)
      · rw [if_neg c]
        exact h1 k (by omega)
    · show (if k = n then a (531 * (i + 1) + n) else a k) = all k
      rw [if_neg (by omega)]
      exact h2 k (by omega)
  · rintro a ⟨h1, h2⟩
    refine ⟨a, ?_, h1, fun k hk => h2 k (by omega)⟩
    show FX8_restore_b32 (nI i) (nI 531) a = _
    unfold FX8_restore_b32
    rw [if_pos (show (531 : Int32) ≤ nI 531 by decide)]
theorem restore8 (hI : ImM all i U) (hi : i < 2) {im : Nat → Int32} (hm : im i = 1) : ∃ all', FX8_restore all im (nI i) = some (0, all') ∧ AllAt all' U ∧ ∀ j W, j < 2 → ImM all j W → ImM all' j W := by
  obtain ⟨all', e1, h1, h2⟩ := restore_loop all hi
  refine ⟨all', ?_, fun k hk => ?_, fun j W hj hW k hk => ?_⟩
  · unfold FX8_restore
    rw [show FX8_within (nI i).toInt64 0 1 = some (decide (0 ≤ (nI i).toInt ∧ (nI i).toInt ≤ 1)) from wiL (by decide) (by decide), decide_eq_true (show 0 ≤ (nI i).toInt ∧ (nI i).toInt ≤ 1 by rw [toN (by omega)]; omega), bd1_s, if_neg (by decide), rdn (by omega) (by omega) hm, bd1_s, if_neg (by decide), e1, bd1_s]
  · rw [h1 k hk]
    exact hI k hk
  · rw [h2 _ (by omega)]
    exact hW k hk
end P74
