set_option maxRecDepth 100000
section P47
variable {T O O' M : Nat → Nat} {mv : Nat}
/-- a code in which one stone has another place -/
theorem to_n (hm : mv < 256) {i p : Nat} (hi8 : i < 8) (hp : p < 16) (h : ∀ j, j < 8 → pl O' j = if j = i then p else pl O j) : FX0_to (lN (enc O mv)) (nI i) (nI p) = some (lN (enc O' (mv ||| 2 ^ i))) := by
  have e1 : shlL 15 (nI (4 * i)) = lN (15 * 2 ^ (4 * i)) := shlL_n 15 (by omega)
  have e2 : shlL 1 (nI (32 + i)) = lN (1 * 2 ^ (32 + i)) := shlL_n 1 (by omega)
  have e3 : shlL (nI p).toInt64 (nI (4 * i)) = lN (p * 2 ^ (4 * i)) := by rw [i2l (by omega)]; exact shlL_n p (by omega)
  unfold FX0_to
  rw [show (4 : Int32) = nI 4 from rfl, show (32 : Int32) = nI 32 from rfl, n_mul, n_add, e1, e2, e3, x1L, fb_andL, fb_orL, fb_orL]
  congr 2
  rw [Nat.one_mul]
  refine tb_ext fun q s hs => ?_
  have hA : ∀ j, j < 8 → pl O j < 16 := fun j _ => by have := pl_le O j; omega
  have hB : ∀ j, j < 8 → pl O' j < 16 := fun j _ => by have := pl_le O' j; omega
  have tp : ∀ q s, s < 4 → (p * 2 ^ (4 * i)).testBit (4 * q + s) = if q = i then p.testBit s else false := by
    intro q s hs
    rw [Nat.testBit_mul_two_pow]
    by_cases c : q = i
    · rw [if_pos c, c, decide_eq_true (by omega), Bool.true_and, show 4 * i + s - 4 * i = s by omega]
    · rw [if_neg c]
      by_cases d : 4 * i ≤ 4 * q + s
      · rw [decide_eq_true d, Bool.true_and]
        exact Nat.testBit_lt_two_pow (Nat.lt_of_lt_of_le hp (show (16 : Nat) ≤ 2 ^ (4 * q + s - 4 * i) from Nat.pow_le_pow_right (n := 2) (i := 4) (by decide) (by omega)))
      · rw [decide_eq_false d, Bool.false_and]
  rw [Nat.testBit_or, Nat.testBit_or, Nat.testBit_and, Nat.testBit_xor, enc, enc, dk_bit hA q s hs, dk_bit hB q s hs, t15 i q s hs, tp q s hs, Nat.testBit_two_pow, allB]
  by_cases c : q < 8
  · rw [if_pos c, if_pos c, h q c, decide_eq_false (show ¬ 32 + i = 4 * q + s by omega), decide_eq_true (show 4 * q + s < 64 by omega), Bool.or_false]
    by_cases c2 : q = i
    · rw [if_pos c2, if_pos c2, decide_eq_true c2]
      cases (pl O q).testBit s <;> rfl
    · rw [if_neg c2, if_neg c2, decide_eq_false c2]
      cases (pl O q).testBit s <;> rfl
  · rw [if_neg c, if_neg c, decide_eq_false (show ¬ q = i by omega), if_neg (show ¬ q = i by omega), Nat.testBit_or, Nat.testBit_two_pow, Bool.or_false]
    have e4 : decide (32 + i = 4 * q + s) = decide (i = 4 * (q - 8) + s) := by
      by_cases d : 32 + i = 4 * q + s
      · rw [decide_eq_true d, decide_eq_true (by omega)]
      · rw [decide_eq_false d, decide_eq_false (by omega)]
    rw [e4]
    by_cases c3 : 4 * q + s < 64
    · rw [decide_eq_true c3, Bool.false_xor, Bool.and_true]
    · have : mv.testBit (4 * (q - 8) + s) = false := Nat.testBit_lt_two_pow (Nat.lt_of_lt_of_le hm (show (256 : Nat) ≤ 2 ^ (4 * (q - 8) + s) from Nat.pow_le_pow_right (n := 2) (i := 8) (by decide) (by omega)))
      rw [this, Bool.false_and]
theorem pl_ex (hW : WT T) (hS : WO T O M) {a b : Nat} (ha : a < T 0) (hb : b < T 0) (hab : a ≠ b) (h1 : M a ≠ 0) (h2 : M b ≠ 0) (j : Nat) : pl (exO O M a b) j = if j + 1 = O (3 * b + (M b - 1)) then 3 * a + (M a - 1) else if j + 1 = O (3 * a + (M a - 1)) then 3 * b + (M b - 1) else pl O j := by
  have hw := hW.b
  have hS' := hS.ex hW ha hb hab h1 h2
  obtain ⟨n1, n2, n3⟩ := ex_ne hS hW ha hb hab h1 h2
  obtain ⟨s1, s2, s3⟩ := hS.st hW (show a < 5 by omega) (show M a - 1 < M a by omega)
  obtain ⟨r1, r2, r3⟩ := hS.st hW (show b < 5 by omega) (show M b - 1 < M b by omega)
  have hO : ∀ p, exO O M a b p = if p = 3 * b + (M b - 1) then O (3 * a + (M a - 1)) else if p = 3 * a + (M a - 1) then O (3 * b + (M b - 1)) else O p := fun p => rfl
  have hne : O (3 * a + (M a - 1)) ≠ O (3 * b + (M b - 1)) := fun z => n1 (hS.2.2.2 _ _ n2 n3 z (by omega))
  by_cases c : j + 1 = O (3 * b + (M b - 1))
  · rw [if_pos c]
    exact pl_of hS' n2 (by rw [hO, if_neg n1, if_pos rfl]; exact c.symm)
  · rw [if_neg c]
    by_cases c' : j + 1 = O (3 * a + (M a - 1))
    · rw [if_pos c']
      exact pl_of hS' n3 (by rw [hO, if_pos rfl]; exact c'.symm)
    · rw [if_neg c']
      have hle := pl_le O j
      have hle' := pl_le (exO O M a b) j
      by_cases c2 : pl O j = 15
      · by_cases c3 : pl (exO O M a b) j = 15
        · rw [c3, c2]
        · have h3 := pl_in (O := exO O M a b) (i := j) (by omega)
          rw [hO] at h3
          split at h3
          · exact absurd h3.symm c'
          · split at h3
            · exact absurd h3.symm c
            · exact absurd h3 (pl_out c2 _ (by omega))
      · have h3 := pl_in (O := O) (i := j) (by omega)
        refine pl_of hS' (by omega) ?_
        rw [hO, if_neg (fun z => by rw [z] at h3; exact c h3.symm), if_neg (fun z => by rw [z] at h3; exact c' h3.symm)]
        exact h3
end P47
