set_option maxRecDepth 100000
/-- two loops, step by step; n bounds the rounds that are left -/
theorem loop2 {σ1 ρ1 σ2 ρ2 : Type} {B1 : σ1 → Option (σ1 ⊕ ρ1)} {B2 : σ2 → Option (σ2 ⊕ ρ2)} (R : Nat → σ1 → σ2 → Prop) (P : ρ1 → ρ2 → Prop)
    (step : ∀ n s1 s2, R (n + 1) s1 s2 → (∃ t1 t2, B1 s1 = some (.inl t1) ∧ B2 s2 = some (.inl t2) ∧ R n t1 t2) ∨ ∃ r1 r2, B1 s1 = some (.inr r1) ∧ B2 s2 = some (.inr r2) ∧ P r1 r2)
    (zero : ∀ s1 s2, R 0 s1 s2 → ∃ r1 r2, B1 s1 = some (.inr r1) ∧ B2 s2 = some (.inr r2) ∧ P r1 r2) : ∀ n s1 s2, R n s1 s2 → ∃ r1 r2, loopC B1 s1 = some r1 ∧ loopC B2 s2 = some r2 ∧ P r1 r2 := by
  intro n
  induction n with
  | zero =>
    intro s1 s2 h
    obtain ⟨r1, r2, h1, h2, h3⟩ := zero s1 s2 h
    exact ⟨r1, r2, loopC_inr h1, loopC_inr h2, h3⟩
  | succ n ih =>
    intro s1 s2 h
    rcases step n s1 s2 h with ⟨t1, t2, h1, h2, h3⟩ | ⟨r1, r2, h1, h2, h3⟩
    · rw [loopC_inl h1, loopC_inl h2]
      exact ih t1 t2 h3
    · exact ⟨r1, r2, loopC_inr h1, loopC_inr h2, h3⟩
/-! a stone is taken away -/
def mvC (mv i : Nat) : Nat := mv &&& (255 - 2 ^ i)
theorem mvC_lt {mv i : Nat} (h : mv < 256) : mvC mv i < 256 := Nat.lt_of_le_of_lt Nat.and_le_left h
theorem mvC_32 : ∀ mv, mv < 256 → ∀ i, i < 8 → nI mv &&& ((nI 1 <<< (nI i &&& nI 31)) ^^^ nM) = nI (mvC mv i) := by decide +kernel
theorem mvC_bit {mv i j : Nat} (hm : mv < 256) (hi : i < 8) : (mvC mv i).testBit j = (mv.testBit j && decide (j ≠ i)) := by
  unfold mvC
  rw [Nat.testBit_and]
  by_cases c : j < 8
  · have : ∀ i, i < 8 → ∀ j, j < 8 → (255 - 2 ^ i).testBit j = decide (j ≠ i) := by decide +kernel
    rw [this i hi j c]
  · have : mv.testBit j = false := Nat.testBit_lt_two_pow (Nat.lt_of_lt_of_le hm (show (256 : Nat) ≤ 2 ^ j from Nat.pow_le_pow_right (n := 2) (i := 8) (by decide) (by omega)))
    rw [this, Bool.false_and, Bool.false_and]
theorem t15 (i q s : Nat) (hs : s < 4) : (15 * 2 ^ (4 * i)).testBit (4 * q + s) = decide (q = i) := by
  rw [Nat.testBit_mul_two_pow]
  by_cases c : q = i
  · subst c
    rw [decide_eq_true (by omega), Bool.true_and, show 4 * q + s - 4 * q = s by omega, decide_eq_true rfl]
    have : ∀ s, s < 4 → (15 : Nat).testBit s = true := by decide
    exact this s hs
  · rw [decide_eq_false c]
    by_cases c2 : 4 * i ≤ 4 * q + s
    · rw [Nat.testBit_lt_two_pow (Nat.lt_of_lt_of_le (show (15 : Nat) < 16 by decide) (show (16 : Nat) ≤ 2 ^ (4 * q + s - 4 * i) from Nat.pow_le_pow_right (n := 2) (i := 4) (by decide) (by omega))), Bool.and_false]
    · rw [decide_eq_false (by omega), Bool.false_and]
theorem m1L : (-1 : Int64) = lN 18446744073709551615 := by decide
theorem x1L (a : Nat) : lN a ^^^ (-1) = lN (a ^^^ 18446744073709551615) := by rw [m1L, fb_xorL]
theorem allB (j : Nat) : (18446744073709551615 : Nat).testBit j = decide (j < 64) := Nat.testBit_two_pow_sub_one (n := 64) (i := j)
section P30
variable {all t on at' many ca la : Nat → Int32} {T O M M' : Nat → Nat} {V : Nat → BvT} {mv as1 a b : Nat} {p q : Int32} {lies : Int64} {year : Int32}
def roO (O : Nat → Nat) (i : Nat) : Nat → Nat := up O (pl O i) 0
def roM (O M : Nat → Nat) (i : Nat) : Nat → Nat := up M (pl O i / 3) (M (pl O i / 3) - 1)
theorem pl_ro (hS : WO T O M) {i j : Nat} (hi : pl O i < 15) : pl (roO O i) j = if j = i then 15 else pl O j := by
  have hin := pl_in hi
  have hO : ∀ p, roO O i p = if p = pl O i then 0 else O p := fun p => rfl
  by_cases c : j = i
  · subst c
    rw [if_pos rfl]
    have hle := pl_le (roO O j) j
    by_cases c2 : pl (roO O j) j = 15
    · exact c2
    · have h := pl_in (O := roO O j) (i := j) (by omega)
      rw [hO] at h
      split at h
      · omega
      · rename_i h3
        exact absurd (hS.2.2.2 _ _ (by omega) hi (h.trans hin.symm) (by omega)) h3
  · rw [if_neg c]
    have hle := pl_le (roO O i) j
    have hle' := pl_le O j
    by_cases c3 : pl O j = 15
    · have h0 := pl_out c3
      by_cases c2 : pl (roO O i) j = 15
      · rw [c2, c3]
      · have h := pl_in (O := roO O i) (i := j) (by omega)
        rw [hO] at h
        split at h
        · omega
        · exact absurd h (h0 _ (by omega))
    · have h := pl_in (O := O) (i := j) (by omega)
      have hne : pl O j ≠ pl O i := fun z => by rw [z, hin] at h; omega
      by_cases c2 : pl (roO O i) j = 15
      · have h2 := pl_out c2 (pl O j) (by omega)
        rw [hO, if_neg hne] at h2
        exact absurd h h2
      · have h2 := pl_in (O := roO O i) (i := j) (by omega)
        rw [hO] at h2
        split at h2
        · omega
        · exact hS.2.2.2 _ _ (by omega) (by omega) (h2.trans h.symm) (by omega)
theorem robbed_n (hS : WO T O M) {i : Nat} (hi8 : i < 8) (hi : pl O i < 15) (hm : mv < 256) : FX0_robbed (lN (enc O mv)) (nI i) = some (lN (enc (roO O i) (mvC mv i))) := by
  have e1 : shlL 15 (nI (4 * i)) = lN (15 * 2 ^ (4 * i)) := shlL_n 15 (by omega)
  have e2 : shlL 1 (nI (32 + i)) = lN (1 * 2 ^ (32 + i)) := shlL_n 1 (by omega)
  unfold FX0_robbed
  rw [show (4 : Int32) = nI 4 from rfl, show (32 : Int32) = nI 32 from rfl, n_mul, n_add, e1, e2, x1L, fb_orL, fb_andL]
  congr 2
  rw [Nat.one_mul]
  refine tb_ext fun q s hs => ?_
  have hA : ∀ j, j < 8 → pl O j < 16 := fun j _ => by have := pl_le O j; omega
  have hB : ∀ j, j < 8 → pl (roO O i) j < 16 := fun j _ => by have := pl_le (roO O i) j; omega
  rw [Nat.testBit_and, Nat.testBit_or, Nat.testBit_xor, enc, enc, dk_bit hA q s hs, dk_bit hB q s hs, t15 i q s hs, Nat.testBit_two_pow, allB]
  by_cases c : q < 8
  · rw [if_pos c, if_pos c, pl_ro hS hi, decide_eq_false (show ¬ 32 + i = 4 * q + s by omega), decide_eq_true (show 4 * q + s < 64 by omega), Bool.false_xor, Bool.and_true]
    by_cases c2 : q = i
    · have : ∀ s, s < 4 → (15 : Nat).testBit s = true := by decide
      rw [if_pos c2, decide_eq_true c2, Bool.or_true, this s hs]
    · rw [if_neg c2, decide_eq_false c2, Bool.or_false]
  · rw [if_neg c, if_neg c, mvC_bit hm hi8, decide_eq_false (show ¬ q = i by omega), Bool.or_false]
    by_cases c3 : 4 * q + s < 64
    · rw [decide_eq_true c3]
      by_cases c4 : 4 * (q - 8) + s = i
      · rw [decide_eq_true (show 32 + i = 4 * q + s by omega), decide_eq_false (show ¬ 4 * (q - 8) + s ≠ i from fun z => z c4)]
        rfl
      · rw [decide_eq_false (show ¬ 32 + i = 4 * q + s by omega), decide_eq_true c4]
        rfl
    · have : mv.testBit (4 * (q - 8) + s) = false := Nat.testBit_lt_two_pow (Nat.lt_of_lt_of_le hm (show (256 : Nat) ≤ 2 ^ (4 * (q - 8) + s) from Nat.pow_le_pow_right (n := 2) (i := 8) (by decide) (by omega)))
      rw [this, Bool.false_and, Bool.false_and]
theorem WO.ro (hS : WO T O M) (hW : WT T) {i : Nat} (hi : pl O i < 15) (ht : pl O i % 3 + 1 = M (pl O i / 3)) : WO T (roO O i) (roM O M i) := by
  have hin := pl_in hi
  have m3 := hS.m3 hW (show pl O i / 3 < 5 by omega)
  have hO : ∀ p, roO O i p = if p = pl O i then 0 else O p := fun p => rfl
  have hM : ∀ r, roM O M i r = if r = pl O i / 3 then M (pl O i / 3) - 1 else M r := fun r => rfl
  refine ⟨fun p hp => ?_, fun r l hr hl => ?_, fun r hr => ?_, fun p q hp hq h h0 => ?_⟩
  · rw [hO]
    split
    · omega
    · exact hS.1 p hp
  · have h := hS.2.1 r l hr hl
    rw [hO, hM]
    by_cases c1 : 3 * r + l = pl O i
    · rw [if_pos c1, if_pos (by omega)]
      omega
    · rw [if_neg c1, h]
      by_cases c2 : r = pl O i / 3
      · subst c2
        rw [if_pos rfl]
        omega
      · rw [if_neg c2]
  · have := hS.2.2.1 r hr
    rw [hM]
    by_cases c2 : r = pl O i / 3
    · subst c2
      rw [if_pos rfl]
      omega
    · rw [if_neg c2]
      exact this
  · rw [hO p] at h h0
    rw [hO q] at h
    split at h0
    · omega
    · rename_i c1
      rw [if_neg c1] at h
      split at h
      · omega
      · exact hS.2.2.2 p q hp hq h h0
theorem top_iff (hS : WO T O M) (hW : WT T) {p : Nat} (hp : p < 15) (h0 : O p ≠ 0) : (p % 3 + 1 = M (p / 3)) ↔ (p % 3 = 2 ∨ O (p + 1) = 0) := by
  have m3 := hS.m3 hW (show p / 3 < 5 by omega)
  have h1 := hS.2.1 (p / 3) (p % 3) (by omega) (by omega)
  rw [Nat.div_add_mod] at h1
  have h2 := h1.mp (by omega)
  by_cases c : p % 3 = 2
  · constructor
    · intro _; exact Or.inl c
    · intro _; omega
  · have h3 := hS.2.1 (p / 3) (p % 3 + 1) (by omega) (by omega)
    rw [show 3 * (p / 3) + (p % 3 + 1) = p + 1 by omega] at h3
    constructor
    · intro h
      refine Or.inr ?_
      have : ¬ 0 < O (p + 1) := fun z => by have := h3.mp z; omega
      omega
    · intro h
      rcases h with h | h
      · exact absurd h c
      · have : ¬ p % 3 + 1 < M (p / 3) := fun z => by have := h3.mpr z; omega
        omega
theorem topPlace8 (hA : AllAt all T) (hW : WT T) {M : Nat → Nat} (hS : WO T (fun p => T (80 + p)) M) {i : Nat} (hi : i < 8) (hp : pl (fun p => T (80 + p)) i < 15) : FX8_topPlace all (nI i) = some (nD (if pl (fun p => T (80 + p)) i % 3 + 1 = M (pl (fun p => T (80 + p)) i / 3) then pl (fun p => T (80 + p)) i + 1 else 0)) := by
  have hb := hW.b
  have hin := pl_in hp
  have e1 := placeOf8 hA hW hS hi
  have h6 : ∀ p, p < 15 → T (80 + p) ≤ T 6 := fun p hp => hS.1 p hp
  have hiff := top_iff hS hW hp (by omega)
  rw [plD, if_neg (by omega), nD_succ] at e1
  generalize pl (fun p => T (80 + p)) i = p at *
  have e5 : p - p / 3 * 3 = p % 3 := by omega
  unfold FX8_topPlace FX8_topPlace_j32
  by_cases c : p % 3 = 2
  · rw [if_pos (hiff.mpr (Or.inl c)), nD_succ]
    simp (disch := omega) only [i_0, i_1, i_2, i_3, i_4, i_5, i_6, i_7, i_8, i_9, i_10, i_11, i_12, i_13, i_14, i_15, i_16, i_17, i_18, i_19, i_20, i_21, i_22, i_23, i_24, i_25, i_26, i_27, i_28, i_29, i_30, i_31, i_32, i_36, i_40, i_41, i_43, i_48, i_50, i_56, i_57, i_59, i_63, i_64, i_69, i_75, i_76, i_77, i_78, i_79, i_80, i_95, i_96, i_97, i_98, i_99, i_100, i_101, i_102, i_103, i_104, i_105, i_108, i_109, i_110, i_111, i_112, i_113, i_114, i_115, i_116, i_117, i_118, i_119, i_121, i_122, i_123, i_131, i_160, i_199, i_220, i_255, i_256, i_400, i_531, i_999, i_1000, i_1593, i_6000, i_6001, i_6002, i_10000, i_16383, i_16384, i_32768, i_100000, i_294912, i_1000000, bd0_s, bdS2_0, bdS2_1, bdS3_0, bdS3_1, bdS3_2, bdS4_0, bdS4_1, bdS4_2, bdS4_3, un0_s, bd1_s, bd2_s, bd3_s, bd4_s, bd5_s, bd6_s, bd7_s, bd8_s, bd9_s, bd10_s, bd11_s, bd12_s, bd13_s, bd14_s, bd15_s, bd16_s, un1_s, un2_s, un3_s, un4_s, un5_s, un6_s, un7_s, n_add, n_mul, n_addM, n_addD, n_Dadd, n_subD, n_sub, n_div, nD_succ, nD_zero, n_negM, cl_n, cl_d, rd_n, rd_d, wr_n, wr_d, al_n, al_d, b2i_t, b2i_f, lt_t, lt_f, le_t, le_f, eq_t, eq_f, dlt_t, dlt_f, ltd_t, ltd_f, ddl_t, ddl_f, dle_t, dle_f, led_t, led_f, deq_t, deq_f, eqd_t, eqd_f, dde_t, dde_f, m_ne, n_neM, m_lt, n_ltM, m_le, n_leM, m_eqD, m_neD, d_eqM, d_neM, up_t, up_f, bit_n, bit_d, rp_n, rp_d, asb1, sh1_n, sh1_d, or_n, ↓reduceIte, ite_self, Nat.add_sub_cancel, Nat.sub_self, Nat.add_zero, Nat.zero_add, Nat.mul_zero, Nat.zero_mul, eq_self, and_true, true_and, or_true, true_or, and_self, or_self, not_true_eq_false, not_false_eq_true, e1, e5]
  · have e2 := hA.n (k := 80 + p + 1) (by omega) (by omega)
    have h7 : T (80 + p + 1) ≤ T 6 := h6 (p + 1) (by omega)
    by_cases c2 : T (80 + p + 1) = 0
    · rw [if_pos (hiff.mpr (Or.inr c2)), nD_succ]
      simp (disch := omega) only [i_0, i_1, i_2, i_3, i_4, i_5, i_6, i_7, i_8, i_9, i_10, i_11, i_12, i_13, i_14, i_15, i_16, i_17, i_18, i_19, i_20, i_21, i_22, i_23, i_24, i_25, i_26, i_27, i_28, i_29, i_30, i_31, i_32, i_36, i_40, i_41, i_43, i_48, i_50, i_56, i_57, i_59, i_63, i_64, i_69, i_75, i_76, i_77, i_78, i_79, i_80, i_95, i_96, i_97, i_98, i_99, i_100, i_101, i_102, i_103, i_104, i_105, i_108, i_109, i_110, i_111, i_112, i_113, i_114, i_115, i_116, i_117, i_118, i_119, i_121, i_122, i_123, i_131, i_160, i_199, i_220, i_255, i_256, i_400, i_531, i_999, i_1000, i_1593, i_6000, i_6001, i_6002, i_10000, i_16383, i_16384, i_32768, i_100000, i_294912, i_1000000, bd0_s, bdS2_0, bdS2_1, bdS3_0, bdS3_1, bdS3_2, bdS4_0, bdS4_1, bdS4_2, bdS4_3, un0_s, bd1_s, bd2_s, bd3_s, bd4_s, bd5_s, bd6_s, bd7_s, bd8_s, bd9_s, bd10_s, bd11_s, bd12_s, bd13_s, bd14_s, bd15_s, bd16_s, un1_s, un2_s, un3_s, un4_s, un5_s, un6_s, un7_s, n_add, n_mul, n_addM, n_addD, n_Dadd, n_subD, n_sub, n_div, nD_succ, nD_zero, n_negM, cl_n, cl_d, rd_n, rd_d, wr_n, wr_d, al_n, al_d, b2i_t, b2i_f, lt_t, lt_f, le_t, le_f, eq_t, eq_f, dlt_t, dlt_f, ltd_t, ltd_f, ddl_t, ddl_f, dle_t, dle_f, led_t, led_f, deq_t, deq_f, eqd_t, eqd_f, dde_t, dde_f, m_ne, n_neM, m_lt, n_ltM, m_le, n_leM, m_eqD, m_neD, d_eqM, d_neM, up_t, up_f, bit_n, bit_d, rp_n, rp_d, asb1, sh1_n, sh1_d, or_n, ↓reduceIte, ite_self, Nat.add_sub_cancel, Nat.sub_self, Nat.add_zero, Nat.zero_add, Nat.mul_zero, Nat.zero_mul, eq_self, and_true, true_and, or_true, true_or, and_self, or_self, not_true_eq_false, not_false_eq_true, e1, e5, e2, c2]
    · rw [if_neg (fun z => by rcases hiff.mp z with z | z; exact c z; exact c2 z), nD_zero]
      simp (disch := omega) only [i_0, i_1, i_2, i_3, i_4, i_5, i_6, i_7, i_8, i_9, i_10, i_11, i_12, i_13, i_14, i_15, i_16, i_17, i_18, i_19, i_20, i_21, i_22, i_23, i_24, i_25, i_26, i_27, i_28, i_29, i_30, i_31, i_32, i_36, i_40, i_41, i_43, i_48, i_50, i_56, i_57, i_59, i_63, i_64, i_69, i_75, i_76, i_77, i_78, i_79, i_80, i_95, i_96, i_97, i_98, i_99, i_100, i_101, i_102, i_103, i_104, i_105, i_108, i_109, i_110, i_111, i_112, i_113, i_114, i_115, i_116, i_117, i_118, i_119, i_121, i_122, i_123, i_131, i_160, i_199, i_220, i_255, i_256, i_400, i_531, i_999, i_1000, i_1593, i_6000, i_6001, i_6002, i_10000, i_16383, i_16384, i_32768, i_100000, i_294912, i_1000000, bd0_s, bdS2_0, bdS2_1, bdS3_0, bdS3_1, bdS3_2, bdS4_0, bdS4_1, bdS4_2, bdS4_3, un0_s, bd1_s, bd2_s, bd3_s, bd4_s, bd5_s, bd6_s, bd7_s, bd8_s, bd9_s, bd10_s, bd11_s, bd12_s, bd13_s, bd14_s, bd15_s, bd16_s, un1_s, un2_s, un3_s, un4_s, un5_s, un6_s, un7_s, n_add, n_mul, n_addM, n_addD, n_Dadd, n_subD, n_sub, n_div, nD_succ, nD_zero, n_negM, cl_n, cl_d, rd_n, rd_d, wr_n, wr_d, al_n, al_d, b2i_t, b2i_f, lt_t, lt_f, le_t, le_f, eq_t, eq_f, dlt_t, dlt_f, ltd_t, ltd_f, ddl_t, ddl_f, dle_t, dle_f, led_t, led_f, deq_t, deq_f, eqd_t, eqd_f, dde_t, dde_f, m_ne, n_neM, m_lt, n_ltM, m_le, n_leM, m_eqD, m_neD, d_eqM, d_neM, up_t, up_f, bit_n, bit_d, rp_n, rp_d, asb1, sh1_n, sh1_d, or_n, ↓reduceIte, ite_self, Nat.add_sub_cancel, Nat.sub_self, Nat.add_zero, Nat.zero_add, Nat.mul_zero, Nat.zero_mul, eq_self, and_true, true_and, or_true, true_or, and_self, or_self, not_true_eq_false, not_false_eq_true, e1, e5, e2, c2]
theorem isTop4 (ht : TwAt t T) (hW : WT T) (hS : WO T O M) (hm : mv < 256) {i : Nat} (hi : i < 8) (hp : pl O i < 15) (hAt hMany : Nat → Int32) : ∃ a1 m1, FX0_isTop hAt hMany (lN (enc O mv)) t (nI i) = some (decide (pl O i % 3 + 1 = M (pl O i / 3)), a1, m1, nI mv) ∧ AtAt a1 m1 O M := by
  have hb := hW.b
  have hin := pl_in hp
  obtain ⟨a1, m1, e1, hO⟩ := lays4 ht hW hS hm hAt hMany
  have e2 := placeIn_n (O := O) (mv := mv) hi hm
  have h1 := hS.2.1 (pl O i / 3) (pl O i % 3) (by omega) (by omega)
  rw [Nat.div_add_mod] at h1
  have h2 := h1.mp (by omega)
  have m3 := hS.m3 hW (show pl O i / 3 < 5 by omega)
  have e3 := top4 hO hW hS (a := pl O i / 3) (by omega) (by omega)
  obtain ⟨s1, s2, s3⟩ := hS.st hW (show pl O i / 3 < 5 by omega) (show M (pl O i / 3) - 1 < M (pl O i / 3) by omega)
  refine ⟨a1, m1, ?_, hO⟩
  unfold FX0_isTop FX0_here
  by_cases c : pl O i % 3 + 1 = M (pl O i / 3)
  · have e4 : 3 * (pl O i / 3) + (M (pl O i / 3) - 1) = pl O i := by omega
    rw [e4, hin] at e3
    simp (disch := omega) only [i_0, i_1, i_2, i_3, i_4, i_5, i_6, i_7, i_8, i_9, i_10, i_11, i_12, i_13, i_14, i_15, i_16, i_17, i_18, i_19, i_20, i_21, i_22, i_23, i_24, i_25, i_26, i_27, i_28, i_29, i_30, i_31, i_32, i_36, i_40, i_41, i_43, i_48, i_50, i_56, i_57, i_59, i_63, i_64, i_69, i_75, i_76, i_77, i_78, i_79, i_80, i_95, i_96, i_97, i_98, i_99, i_100, i_101, i_102, i_103, i_104, i_105, i_108, i_109, i_110, i_111, i_112, i_113, i_114, i_115, i_116, i_117, i_118, i_119, i_121, i_122, i_123, i_131, i_160, i_199, i_220, i_255, i_256, i_400, i_531, i_999, i_1000, i_1593, i_6000, i_6001, i_6002, i_10000, i_16383, i_16384, i_32768, i_100000, i_294912, i_1000000, bd0_s, bdS2_0, bdS2_1, bdS3_0, bdS3_1, bdS3_2, bdS4_0, bdS4_1, bdS4_2, bdS4_3, un0_s, bd1_s, bd2_s, bd3_s, bd4_s, bd5_s, bd6_s, bd7_s, bd8_s, bd9_s, bd10_s, bd11_s, bd12_s, bd13_s, bd14_s, bd15_s, bd16_s, un1_s, un2_s, un3_s, un4_s, un5_s, un6_s, un7_s, n_add, n_mul, n_addM, n_addD, n_Dadd, n_subD, n_sub, n_div, nD_succ, nD_zero, n_negM, cl_n, cl_d, rd_n, rd_d, wr_n, wr_d, al_n, al_d, b2i_t, b2i_f, lt_t, lt_f, le_t, le_f, eq_t, eq_f, dlt_t, dlt_f, ltd_t, ltd_f, ddl_t, ddl_f, dle_t, dle_f, led_t, led_f, deq_t, deq_f, eqd_t, eqd_f, dde_t, dde_f, m_ne, n_neM, m_lt, n_ltM, m_le, n_leM, m_eqD, m_neD, d_eqM, d_neM, up_t, up_f, bit_n, bit_d, rp_n, rp_d, asb1, sh1_n, sh1_d, or_n, ↓reduceIte, ite_self, Nat.add_sub_cancel, Nat.sub_self, Nat.add_zero, Nat.zero_add, Nat.mul_zero, Nat.zero_mul, eq_self, and_true, true_and, or_true, true_or, and_self, or_self, not_true_eq_false, not_false_eq_true, e2, e1, e3, c, decide_true]
  · have e4 : O (3 * (pl O i / 3) + (M (pl O i / 3) - 1)) - 1 ≠ i := fun z => by
      have := hS.2.2.2 (3 * (pl O i / 3) + (M (pl O i / 3) - 1)) (pl O i) (by omega) hp (by omega) (by omega)
      omega
    simp (disch := omega) only [i_0, i_1, i_2, i_3, i_4, i_5, i_6, i_7, i_8, i_9, i_10, i_11, i_12, i_13, i_14, i_15, i_16, i_17, i_18, i_19, i_20, i_21, i_22, i_23, i_24, i_25, i_26, i_27, i_28, i_29, i_30, i_31, i_32, i_36, i_40, i_41, i_43, i_48, i_50, i_56, i_57, i_59, i_63, i_64, i_69, i_75, i_76, i_77, i_78, i_79, i_80, i_95, i_96, i_97, i_98, i_99, i_100, i_101, i_102, i_103, i_104, i_105, i_108, i_109, i_110, i_111, i_112, i_113, i_114, i_115, i_116, i_117, i_118, i_119, i_121, i_122, i_123, i_131, i_160, i_199, i_220, i_255, i_256, i_400, i_531, i_999, i_1000, i_1593, i_6000, i_6001, i_6002, i_10000, i_16383, i_16384, i_32768, i_100000, i_294912, i_1000000, bd0_s, bdS2_0, bdS2_1, bdS3_0, bdS3_1, bdS3_2, bdS4_0, bdS4_1, bdS4_2, bdS4_3, un0_s, bd1_s, bd2_s, bd3_s, bd4_s, bd5_s, bd6_s, bd7_s, bd8_s, bd9_s, bd10_s, bd11_s, bd12_s, bd13_s, bd14_s, bd15_s, bd16_s, un1_s, un2_s, un3_s, un4_s, un5_s, un6_s, un7_s, n_add, n_mul, n_addM, n_addD, n_Dadd, n_subD, n_sub, n_div, nD_succ, nD_zero, n_negM, cl_n, cl_d, rd_n, rd_d, wr_n, wr_d, al_n, al_d, b2i_t, b2i_f, lt_t, lt_f, le_t, le_f, eq_t, eq_f, dlt_t, dlt_f, ltd_t, ltd_f, ddl_t, ddl_f, dle_t, dle_f, led_t, led_f, deq_t, deq_f, eqd_t, eqd_f, dde_t, dde_f, m_ne, n_neM, m_lt, n_ltM, m_le, n_leM, m_eqD, m_neD, d_eqM, d_neM, up_t, up_f, bit_n, bit_d, rp_n, rp_d, asb1, sh1_n, sh1_d, or_n, ↓reduceIte, ite_self, Nat.add_sub_cancel, Nat.sub_self, Nat.add_zero, Nat.zero_add, Nat.mul_zero, Nat.zero_mul, eq_self, and_true, true_and, or_true, true_or, and_self, or_self, not_true_eq_false, not_false_eq_true, e2, e1, e3, c, e4, decide_false]
theorem steal_law (h : Cur T M V all t lies ca la year) (hAt hMany : Nat → Int32) (hMoved p : Int32) : ∃ ans a1 m1 v1 lies' all' U M', FX0_steal hAt hMany hMoved lies t p = some (ans, a1, m1, v1, lies') ∧ FX8_steal all p = some (ans, all') ∧ (∀ k, 531 ≤ k → all' k = all k) ∧ (∀ k, (k < 80 ∨ 112 ≤ k) → U k = T k) ∧ Cur U M' V all' t lies' ca la year := by
  have h0 := h
  obtain ⟨⟨hW, hS, hm, hy, hB⟩, hA, ht, rfl, hc, hl, rfl⟩ := h
  have hb := hW.b
  rcases rng p (n := T 6) (by omega) with ⟨i, hi, rfl⟩ | hp
  · have e1 := isStone8 hA hW (nI i)
    have e2 := isThere4 (O := fun p => T (80 + p)) ht hW hm hi
    have e3 := placeOf8 hA hW hS (i := i) (by omega)
    have hle := pl_le (fun p => T (80 + p)) i
    by_cases c : pl (fun p => T (80 + p)) i = 15
    · rw [plD, if_pos c] at e3
      exact ⟨-2, _, _, _, _, _, T, M, by unfold FX0_steal; (simp (disch := omega) only [i_0, i_1, i_2, i_3, i_4, i_5, i_6, i_7, i_8, i_9, i_10, i_11, i_12, i_13, i_14, i_15, i_16, i_17, i_18, i_19, i_20, i_21, i_22, i_23, i_24, i_25, i_26, i_27, i_28, i_29, i_30, i_31, i_32, i_36, i_40, i_41, i_43, i_48, i_50, i_56, i_57, i_59, i_63, i_64, i_69, i_75, i_76, i_77, i_78, i_79, i_80, i_95, i_96, i_97, i_98, i_99, i_100, i_101, i_102, i_103, i_104, i_105, i_108, i_109, i_110, i_111, i_112, i_113, i_114, i_115, i_116, i_117, i_118, i_119, i_121, i_122, i_123, i_131, i_160, i_199, i_220, i_255, i_256, i_400, i_531, i_999, i_1000, i_1593, i_6000, i_6001, i_6002, i_10000, i_16383, i_16384, i_32768, i_100000, i_294912, i_1000000, bd0_s, bdS2_0, bdS2_1, bdS3_0, bdS3_1, bdS3_2, bdS4_0, bdS4_1, bdS4_2, bdS4_3, un0_s, bd1_s, bd2_s, bd3_s, bd4_s, bd5_s, bd6_s, bd7_s, bd8_s, bd9_s, bd10_s, bd11_s, bd12_s, bd13_s, bd14_s, bd15_s, bd16_s, un1_s, un2_s, un3_s, un4_s, un5_s, un6_s, un7_s, n_add, n_mul, n_addM, n_addD, n_Dadd, n_subD, n_sub, n_div, nD_succ, nD_zero, n_negM, cl_n, cl_d, rd_n, rd_d, wr_n, wr_d, al_n, al_d, b2i_t, b2i_f, lt_t, lt_f, le_t, le_f, eq_t, eq_f, dlt_t, dlt_f, ltd_t, ltd_f, ddl_t, ddl_f, dle_t, dle_f, led_t, led_f, deq_t, deq_f, eqd_t, eqd_f, dde_t, dde_f, m_ne, n_neM, m_lt, n_ltM, m_le, n_leM, m_eqD, m_neD, d_eqM, d_neM, up_t, up_f, bit_n, bit_d, rp_n, rp_d, asb1, sh1_n, sh1_d, or_n, ↓reduceIte, ite_self, Nat.add_sub_cancel, Nat.sub_self, Nat.add_zero, Nat.zero_add, Nat.mul_zero, Nat.zero_mul, eq_self, and_true, true_and, or_true, true_or, and_self, or_self, not_true_eq_false, not_false_eq_true, e2, c, ne_eq, decide_false]; try rfl), by unfold FX8_steal; (simp (disch := omega) only [i_0, i_1, i_2, i_3, i_4, i_5, i_6, i_7, i_8, i_9, i_10, i_11, i_12, i_13, i_14, i_15, i_16, i_17, i_18, i_19, i_20, i_21, i_22, i_23, i_24, i_25, i_26, i_27, i_28, i_29, i_30, i_31, i_32, i_36, i_40, i_41, i_43, i_48, i_50, i_56, i_57, i_59, i_63, i_64, i_69, i_75, i_76, i_77, i_78, i_79, i_80, i_95, i_96, i_97, i_98, i_99, i_100, i_101, i_102, i_103, i_104, i_105, i_108, i_109, i_110, i_111, i_112, i_113, i_114, i_115, i_116, i_117, i_118, i_119, i_121, i_122, i_123, i_131, i_160, i_199, i_220, i_255, i_256, i_400, i_531, i_999, i_1000, i_1593, i_6000, i_6001, i_6002, i_10000, i_16383, i_16384, i_32768, i_100000, i_294912, i_1000000, bd0_s, bdS2_0, bdS2_1, bdS3_0, bdS3_1, bdS3_2, bdS4_0, bdS4_1, bdS4_2, bdS4_3, un0_s, bd1_s, bd2_s, bd3_s, bd4_s, bd5_s, bd6_s, bd7_s, bd8_s, bd9_s, bd10_s, bd11_s, bd12_s, bd13_s, bd14_s, bd15_s, bd16_s, un1_s, un2_s, un3_s, un4_s, un5_s, un6_s, un7_s, n_add, n_mul, n_addM, n_addD, n_Dadd, n_subD, n_sub, n_div, nD_succ, nD_zero, n_negM, cl_n, cl_d, rd_n, rd_d, wr_n, wr_d, al_n, al_d, b2i_t, b2i_f, lt_t, lt_f, le_t, le_f, eq_t, eq_f, dlt_t, dlt_f, ltd_t, ltd_f, ddl_t, ddl_f, dle_t, dle_f, led_t, led_f, deq_t, deq_f, eqd_t, eqd_f, dde_t, dde_f, m_ne, n_neM, m_lt, n_ltM, m_le, n_leM, m_eqD, m_neD, d_eqM, d_neM, up_t, up_f, bit_n, bit_d, rp_n, rp_d, asb1, sh1_n, sh1_d, or_n, ↓reduceIte, ite_self, Nat.add_sub_cancel, Nat.sub_self, Nat.add_zero, Nat.zero_add, Nat.mul_zero, Nat.zero_mul, eq_self, and_true, true_and, or_true, true_or, and_self, or_self, not_true_eq_false, not_false_eq_true, e1, dT, e3]; try rfl), fun k hk => rfl, fun k hk => rfl, h0⟩
    · have hp15 : pl (fun p => T (80 + p)) i < 15 := by omega
      rw [plD, if_neg c] at e3
      have e4 := topPlace8 hA hW hS (show i < 8 by omega) hp15
      obtain ⟨a1, m1, e5, hO⟩ := isTop4 (O := fun p => T (80 + p)) ht hW hS hm (show i < 8 by omega) hp15 hAt hMany
      have e6 := placeIn_n (O := fun p => T (80 + p)) (mv := T 95) (i := i) (by omega) hm
      have e7 := robbed_n (mv := T 95) hS (show i < 8 by omega) hp15 hm
      by_cases c2 : pl (fun p => T (80 + p)) i % 3 + 1 = M (pl (fun p => T (80 + p)) i / 3)
      · have hS' := hS.ro hW hp15 c2
        rw [if_pos c2] at e4
        have e8 := mvC_32 (T 95) hm i (by omega)
        rw [sh1_n (by omega)] at e8
        have e9 := hA.n (k := 95) (by omega) (by omega)
        have hro : ∀ p, roO (fun p => T (80 + p)) i p = if p = pl (fun p => T (80 + p)) i then 0 else T (80 + p) := fun p => rfl
        have hUo : ∀ k, (k < 80 ∨ 96 ≤ k) → kpT T (roO (fun p => T (80 + p)) i) (mvC (T 95) i) k = T k := fun k hk => kpT_o (by omega)
        refine ⟨nI (pl (fun p => T (80 + p)) i), _, _, _, _, upd (upd all (80 + pl (fun p => T (80 + p)) i) (nI 0)) 95 (nI (mvC (T 95) i)), kpT T (roO (fun p => T (80 + p)) i) (mvC (T 95) i), roM (fun p => T (80 + p)) M i, by
          unfold FX0_steal
          (simp (disch := omega) only [i_0, i_1, i_2, i_3, i_4, i_5, i_6, i_7, i_8, i_9, i_10, i_11, i_12, i_13, i_14, i_15, i_16, i_17, i_18, i_19, i_20, i_21, i_22, i_23, i_24, i_25, i_26, i_27, i_28, i_29, i_30, i_31, i_32, i_36, i_40, i_41, i_43, i_48, i_50, i_56, i_57, i_59, i_63, i_64, i_69, i_75, i_76, i_77, i_78, i_79, i_80, i_95, i_96, i_97, i_98, i_99, i_100, i_101, i_102, i_103, i_104, i_105, i_108, i_109, i_110, i_111, i_112, i_113, i_114, i_115, i_116, i_117, i_118, i_119, i_121, i_122, i_123, i_131, i_160, i_199, i_220, i_255, i_256, i_400, i_531, i_999, i_1000, i_1593, i_6000, i_6001, i_6002, i_10000, i_16383, i_16384, i_32768, i_100000, i_294912, i_1000000, bd0_s, bdS2_0, bdS2_1, bdS3_0, bdS3_1, bdS3_2, bdS4_0, bdS4_1, bdS4_2, bdS4_3, un0_s, bd1_s, bd2_s, bd3_s, bd4_s, bd5_s, bd6_s, bd7_s, bd8_s, bd9_s, bd10_s, bd11_s, bd12_s, bd13_s, bd14_s, bd15_s, bd16_s, un1_s, un2_s, un3_s, un4_s, un5_s, un6_s, un7_s, n_add, n_mul, n_addM, n_addD, n_Dadd, n_subD, n_sub, n_div, nD_succ, nD_zero, n_negM, cl_n, cl_d, rd_n, rd_d, wr_n, wr_d, al_n, al_d, b2i_t, b2i_f, lt_t, lt_f, le_t, le_f, eq_t, eq_f, dlt_t, dlt_f, ltd_t, ltd_f, ddl_t, ddl_f, dle_t, dle_f, led_t, led_f, deq_t, deq_f, eqd_t, eqd_f, dde_t, dde_f, m_ne, n_neM, m_lt, n_ltM, m_le, n_leM, m_eqD, m_neD, d_eqM, d_neM, up_t, up_f, bit_n, bit_d, rp_n, rp_d, asb1, sh1_n, sh1_d, or_n, ↓reduceIte, ite_self, Nat.add_sub_cancel, Nat.sub_self, Nat.add_zero, Nat.zero_add, Nat.mul_zero, Nat.zero_mul, eq_self, and_true, true_and, or_true, true_or, and_self, or_self, not_true_eq_false, not_false_eq_true, e2, c, ne_eq, decide_true, e5, c2, e6, e7]; try rfl), by
          unfold FX8_steal
          (simp (disch := omega) only [i_0, i_1, i_2, i_3, i_4, i_5, i_6, i_7, i_8, i_9, i_10, i_11, i_12, i_13, i_14, i_15, i_16, i_17, i_18, i_19, i_20, i_21, i_22, i_23, i_24, i_25, i_26, i_27, i_28, i_29, i_30, i_31, i_32, i_36, i_40, i_41, i_43, i_48, i_50, i_56, i_57, i_59, i_63, i_64, i_69, i_75, i_76, i_77, i_78, i_79, i_80, i_95, i_96, i_97, i_98, i_99, i_100, i_101, i_102, i_103, i_104, i_105, i_108, i_109, i_110, i_111, i_112, i_113, i_114, i_115, i_116, i_117, i_118, i_119, i_121, i_122, i_123, i_131, i_160, i_199, i_220, i_255, i_256, i_400, i_531, i_999, i_1000, i_1593, i_6000, i_6001, i_6002, i_10000, i_16383, i_16384, i_32768, i_100000, i_294912, i_1000000, bd0_s, bdS2_0, bdS2_1, bdS3_0, bdS3_1, bdS3_2, bdS4_0, bdS4_1, bdS4_2, bdS4_3, un0_s, bd1_s, bd2_s, bd3_s, bd4_s, bd5_s, bd6_s, bd7_s, bd8_s, bd9_s, bd10_s, bd11_s, bd12_s, bd13_s, bd14_s, bd15_s, bd16_s, un1_s, un2_s, un3_s, un4_s, un5_s, un6_s, un7_s, n_add, n_mul, n_addM, n_addD, n_Dadd, n_subD, n_sub, n_div, nD_succ, nD_zero, n_negM, cl_n, cl_d, rd_n, rd_d, wr_n, wr_d, al_n, al_d, b2i_t, b2i_f, lt_t, lt_f, le_t, le_f, eq_t, eq_f, dlt_t, dlt_f, ltd_t, ltd_f, ddl_t, ddl_f, dle_t, dle_f, led_t, led_f, deq_t, deq_f, eqd_t, eqd_f, dde_t, dde_f, m_ne, n_neM, m_lt, n_ltM, m_le, n_leM, m_eqD, m_neD, d_eqM, d_neM, up_t, up_f, bit_n, bit_d, rp_n, rp_d, asb1, sh1_n, sh1_d, or_n, ↓reduceIte, ite_self, Nat.add_sub_cancel, Nat.sub_self, Nat.add_zero, Nat.zero_add, Nat.mul_zero, Nat.zero_mul, eq_self, and_true, true_and, or_true, true_or, and_self, or_self, not_true_eq_false, not_false_eq_true, e1, dT, e3, e4, e9, e8]; try rfl), fun k hk => by rw [up_f (by omega), up_f (by omega)], fun k hk => hUo k (by omega), ?_⟩
        refine Cur.step hW hB ht hy (O' := roO (fun p => T (80 + p)) i) hS' (mvC_lt hm) (fun k hk => hUo k (by omega)) (fun p hp => kpT_p hp) kpT_m (fun k hk => ?_) rfl (fun j hj => by rw [hUo _ (by omega)]; exact hc j hj) (fun j hj => by rw [hUo _ (by omega)]; exact hl j hj)
        by_cases c3 : k = 95
        · rw [up_t c3, c3, rp_n (by omega), kpT_m]
        · rw [up_f c3]
          by_cases c4 : 80 ≤ k ∧ k < 95
          · obtain ⟨p, rfl⟩ : ∃ p, k = 80 + p := ⟨k - 80, by omega⟩
            rw [rp_n (by omega), kpT_p (by omega), hro]
            by_cases c5 : p = pl (fun p => T (80 + p)) i
            · rw [if_pos c5, up_t (by omega)]
            · rw [if_neg c5, up_f (by omega), hA.n hk (by omega)]
          · rw [up_f (by omega), hA k hk, rp_cong (hUo k (by omega))]
      · rw [if_neg c2] at e4
        exact ⟨-5, _, _, _, _, _, T, M, by unfold FX0_steal; (simp (disch := omega) only [i_0, i_1, i_2, i_3, i_4, i_5, i_6, i_7, i_8, i_9, i_10, i_11, i_12, i_13, i_14, i_15, i_16, i_17, i_18, i_19, i_20, i_21, i_22, i_23, i_24, i_25, i_26, i_27, i_28, i_29, i_30, i_31, i_32, i_36, i_40, i_41, i_43, i_48, i_50, i_56, i_57, i_59, i_63, i_64, i_69, i_75, i_76, i_77, i_78, i_79, i_80, i_95, i_96, i_97, i_98, i_99, i_100, i_101, i_102, i_103, i_104, i_105, i_108, i_109, i_110, i_111, i_112, i_113, i_114, i_115, i_116, i_117, i_118, i_119, i_121, i_122, i_123, i_131, i_160, i_199, i_220, i_255, i_256, i_400, i_531, i_999, i_1000, i_1593, i_6000, i_6001, i_6002, i_10000, i_16383, i_16384, i_32768, i_100000, i_294912, i_1000000, bd0_s, bdS2_0, bdS2_1, bdS3_0, bdS3_1, bdS3_2, bdS4_0, bdS4_1, bdS4_2, bdS4_3, un0_s, bd1_s, bd2_s, bd3_s, bd4_s, bd5_s, bd6_s, bd7_s, bd8_s, bd9_s, bd10_s, bd11_s, bd12_s, bd13_s, bd14_s, bd15_s, bd16_s, un1_s, un2_s, un3_s, un4_s, un5_s, un6_s, un7_s, n_add, n_mul, n_addM, n_addD, n_Dadd, n_subD, n_sub, n_div, nD_succ, nD_zero, n_negM, cl_n, cl_d, rd_n, rd_d, wr_n, wr_d, al_n, al_d, b2i_t, b2i_f, lt_t, lt_f, le_t, le_f, eq_t, eq_f, dlt_t, dlt_f, ltd_t, ltd_f, ddl_t, ddl_f, dle_t, dle_f, led_t, led_f, deq_t, deq_f, eqd_t, eqd_f, dde_t, dde_f, m_ne, n_neM, m_lt, n_ltM, m_le, n_leM, m_eqD, m_neD, d_eqM, d_neM, up_t, up_f, bit_n, bit_d, rp_n, rp_d, asb1, sh1_n, sh1_d, or_n, ↓reduceIte, ite_self, Nat.add_sub_cancel, Nat.sub_self, Nat.add_zero, Nat.zero_add, Nat.mul_zero, Nat.zero_mul, eq_self, and_true, true_and, or_true, true_or, and_self, or_self, not_true_eq_false, not_false_eq_true, e2, c, ne_eq, decide_true, e5, c2, decide_false]; try rfl), by unfold FX8_steal; (simp (disch := omega) only [i_0, i_1, i_2, i_3, i_4, i_5, i_6, i_7, i_8, i_9, i_10, i_11, i_12, i_13, i_14, i_15, i_16, i_17, i_18, i_19, i_20, i_21, i_22, i_23, i_24, i_25, i_26, i_27, i_28, i_29, i_30, i_31, i_32, i_36, i_40, i_41, i_43, i_48, i_50, i_56, i_57, i_59, i_63, i_64, i_69, i_75, i_76, i_77, i_78, i_79, i_80, i_95, i_96, i_97, i_98, i_99, i_100, i_101, i_102, i_103, i_104, i_105, i_108, i_109, i_110, i_111, i_112, i_113, i_114, i_115, i_116, i_117, i_118, i_119, i_121, i_122, i_123, i_131, i_160, i_199, i_220, i_255, i_256, i_400, i_531, i_999, i_1000, i_1593, i_6000, i_6001, i_6002, i_10000, i_16383, i_16384, i_32768, i_100000, i_294912, i_1000000, bd0_s, bdS2_0, bdS2_1, bdS3_0, bdS3_1, bdS3_2, bdS4_0, bdS4_1, bdS4_2, bdS4_3, un0_s, bd1_s, bd2_s, bd3_s, bd4_s, bd5_s, bd6_s, bd7_s, bd8_s, bd9_s, bd10_s, bd11_s, bd12_s, bd13_s, bd14_s, bd15_s, bd16_s, un1_s, un2_s, un3_s, un4_s, un5_s, un6_s, un7_s, n_add, n_mul, n_addM, n_addD, n_Dadd, n_subD, n_sub, n_div, nD_succ, nD_zero, n_negM, cl_n, cl_d, rd_n, rd_d, wr_n, wr_d, al_n, al_d, b2i_t, b2i_f, lt_t, lt_f, le_t, le_f, eq_t, eq_f, dlt_t, dlt_f, ltd_t, ltd_f, ddl_t, ddl_f, dle_t, dle_f, led_t, led_f, deq_t, deq_f, eqd_t, eqd_f, dde_t, dde_f, m_ne, n_neM, m_lt, n_ltM, m_le, n_leM, m_eqD, m_neD, d_eqM, d_neM, up_t, up_f, bit_n, bit_d, rp_n, rp_d, asb1, sh1_n, sh1_d, or_n, ↓reduceIte, ite_self, Nat.add_sub_cancel, Nat.sub_self, Nat.add_zero, Nat.zero_add, Nat.mul_zero, Nat.zero_mul, eq_self, and_true, true_and, or_true, true_or, and_self, or_self, not_true_eq_false, not_false_eq_true, e1, dT, e3, e4]; try rfl), fun k hk => rfl, fun k hk => rfl, h0⟩
  · exact ⟨-2, _, _, _, _, _, T, M, by unfold FX0_steal; (simp (disch := omega) only [i_0, i_1, i_2, i_3, i_4, i_5, i_6, i_7, i_8, i_9, i_10, i_11, i_12, i_13, i_14, i_15, i_16, i_17, i_18, i_19, i_20, i_21, i_22, i_23, i_24, i_25, i_26, i_27, i_28, i_29, i_30, i_31, i_32, i_36, i_40, i_41, i_43, i_48, i_50, i_56, i_57, i_59, i_63, i_64, i_69, i_75, i_76, i_77, i_78, i_79, i_80, i_95, i_96, i_97, i_98, i_99, i_100, i_101, i_102, i_103, i_104, i_105, i_108, i_109, i_110, i_111, i_112, i_113, i_114, i_115, i_116, i_117, i_118, i_119, i_121, i_122, i_123, i_131, i_160, i_199, i_220, i_255, i_256, i_400, i_531, i_999, i_1000, i_1593, i_6000, i_6001, i_6002, i_10000, i_16383, i_16384, i_32768, i_100000, i_294912, i_1000000, bd0_s, bdS2_0, bdS2_1, bdS3_0, bdS3_1, bdS3_2, bdS4_0, bdS4_1, bdS4_2, bdS4_3, un0_s, bd1_s, bd2_s, bd3_s, bd4_s, bd5_s, bd6_s, bd7_s, bd8_s, bd9_s, bd10_s, bd11_s, bd12_s, bd13_s, bd14_s, bd15_s, bd16_s, un1_s, un2_s, un3_s, un4_s, un5_s, un6_s, un7_s, n_add, n_mul, n_addM, n_addD, n_Dadd, n_subD, n_sub, n_div, nD_succ, nD_zero, n_negM, cl_n, cl_d, rd_n, rd_d, wr_n, wr_d, al_n, al_d, b2i_t, b2i_f, lt_t, lt_f, le_t, le_f, eq_t, eq_f, dlt_t, dlt_f, ltd_t, ltd_f, ddl_t, ddl_f, dle_t, dle_f, led_t, led_f, deq_t, deq_f, eqd_t, eqd_f, dde_t, dde_f, m_ne, n_neM, m_lt, n_ltM, m_le, n_leM, m_eqD, m_neD, d_eqM, d_neM, up_t, up_f, bit_n, bit_d, rp_n, rp_d, asb1, sh1_n, sh1_d, or_n, ↓reduceIte, ite_self, Nat.add_sub_cancel, Nat.sub_self, Nat.add_zero, Nat.zero_add, Nat.mul_zero, Nat.zero_mul, eq_self, and_true, true_and, or_true, true_or, and_self, or_self, not_true_eq_false, not_false_eq_true, isThere4f ht hW _ hp]; try rfl), by unfold FX8_steal; (simp (disch := omega) only [i_0, i_1, i_2, i_3, i_4, i_5, i_6, i_7, i_8, i_9, i_10, i_11, i_12, i_13, i_14, i_15, i_16, i_17, i_18, i_19, i_20, i_21, i_22, i_23, i_24, i_25, i_26, i_27, i_28, i_29, i_30, i_31, i_32, i_36, i_40, i_41, i_43, i_48, i_50, i_56, i_57, i_59, i_63, i_64, i_69, i_75, i_76, i_77, i_78, i_79, i_80, i_95, i_96, i_97, i_98, i_99, i_100, i_101, i_102, i_103, i_104, i_105, i_108, i_109, i_110, i_111, i_112, i_113, i_114, i_115, i_116, i_117, i_118, i_119, i_121, i_122, i_123, i_131, i_160, i_199, i_220, i_255, i_256, i_400, i_531, i_999, i_1000, i_1593, i_6000, i_6001, i_6002, i_10000, i_16383, i_16384, i_32768, i_100000, i_294912, i_1000000, bd0_s, bdS2_0, bdS2_1, bdS3_0, bdS3_1, bdS3_2, bdS4_0, bdS4_1, bdS4_2, bdS4_3, un0_s, bd1_s, bd2_s, bd3_s, bd4_s, bd5_s, bd6_s, bd7_s, bd8_s, bd9_s, bd10_s, bd11_s, bd12_s, bd13_s, bd14_s, bd15_s, bd16_s, un1_s, un2_s, un3_s, un4_s, un5_s, un6_s, un7_s, n_add, n_mul, n_addM, n_addD, n_Dadd, n_subD, n_sub, n_div, nD_succ, nD_zero, n_negM, cl_n, cl_d, rd_n, rd_d, wr_n, wr_d, al_n, al_d, b2i_t, b2i_f, lt_t, lt_f, le_t, le_f, eq_t, eq_f, dlt_t, dlt_f, ltd_t, ltd_f, ddl_t, ddl_f, dle_t, dle_f, led_t, led_f, deq_t, deq_f, eqd_t, eqd_f, dde_t, dde_f, m_ne, n_neM, m_lt, n_ltM, m_le, n_leM, m_eqD, m_neD, d_eqM, d_neM, up_t, up_f, bit_n, bit_d, rp_n, rp_d, asb1, sh1_n, sh1_d, or_n, ↓reduceIte, ite_self, Nat.add_sub_cancel, Nat.sub_self, Nat.add_zero, Nat.zero_add, Nat.mul_zero, Nat.zero_mul, eq_self, and_true, true_and, or_true, true_or, and_self, or_self, not_true_eq_false, not_false_eq_true, isStone8 hA hW p, decide_eq_false hp]; try rfl), fun k hk => rfl, fun k hk => rfl, h0⟩
/-! a flood -/
theorem bt0 : (b2i true = 0) = False := eq_false (by decide)
theorem bf0 : (b2i false = 0) = True := eq_true (by decide)
theorem nt0 : (!true) = false := rfl
theorem nf0 : (!false) = true := rfl
theorem Cur.hw (h : Cur T M V all t lies ca la year) : WT T := h.1.1
theorem ctT_lo {i k : Nat} (hi : i < 8) (hk : k < 96 ∨ 112 ≤ k) : ctT T i k = T k := ctT_o (by omega) (by omega)
theorem flood_law (hTF : t 378 = t 78 ∧ t 379 = t 79) (h : Cur T M V all t lies ca la year) (on many hAt hMany : Nat → Int32) (p : Int32) : ∃ ans a1 m1 ca' la' x' v1 lies' all' o2 m2 v2 U M', FX0_flood hAt hMany ca la year lies t p = some (ans, a1, m1, ca', la', x', v1, lies') ∧ FX8_flood all on many p = some (ans, all', o2, m2, v2) ∧ (∀ k, 531 ≤ k → all' k = all k) ∧ (∀ k, (k < 80 ∨ 112 ≤ k) → U k = T k) ∧ Cur U M' V all' t lies' ca' la' year := by
  obtain ⟨⟨hW, hS, hm, hy, hB⟩, hA, ht, rfl, hc, hl, rfl⟩ := h
  have hb := hW.b
  obtain ⟨a1, m1, e1, hat⟩ := lays4 ht hW hS hm hAt hMany
  obtain ⟨o2, m2, e2, hon⟩ := looksNow8 hA hW hS on many
  have key := loop2 (B1 := fun (s : Int32 × Int32 × (Nat → Int32) × (Nat → Int32) × (Nat → Int32) × (Nat → Int32) × Int32 × Int32) => FX0_flood_b15 (nI (T 112)) t s.1 s.2.1 s.2.2.1 s.2.2.2.1 s.2.2.2.2.1 s.2.2.2.2.2.1 s.2.2.2.2.2.2.1 s.2.2.2.2.2.2.2)
    (B2 := fun (s : Int32 × Int32 × Int32 × (Nat → Int32) × (Nat → Int32) × (Nat → Int32) × Int32) => FX8_flood_b22 s.1 s.2.1 s.2.2.1 s.2.2.2.1 s.2.2.2.2.1 s.2.2.2.2.2.1 s.2.2.2.2.2.2)
    (fun n s1 s2 => ∃ (r : Nat) (g : Nat) (x : Int32) (O N : Nat → Nat) (mv : Nat) (U : Nat → Nat) (a0 m0 c0 l0 al on0 mn0 : Nat → Int32), r + n = T 0 ∧ g ≤ r ∧ WO T O N ∧ mv < 256 ∧ AtAt a0 m0 O N ∧ OnAt on0 mn0 O N ∧ AllAt al U ∧ (∀ k, (k < 96 ∨ 112 ≤ k) → U k = T k) ∧ (∀ k, 531 ≤ k → al k = all k) ∧ (∀ i, i < 8 → c0 i = nI (U (96 + i))) ∧ (∀ i, i < 8 → l0 i = nD (U (104 + i))) ∧ s1 = (nI g, nI r, a0, m0, c0, l0, x, nI (if T 78 = 0 then T 95 else mv)) ∧ s2 = (x, nI g, nI r, al, on0, mn0, nI mv))
    (fun r1 r2 => ∃ (g : Nat) (x : Int32) (O N : Nat → Nat) (mv : Nat) (U : Nat → Nat) (a0 m0 c0 l0 al on0 mn0 : Nat → Int32), WO T O N ∧ mv < 256 ∧ AtAt a0 m0 O N ∧ OnAt on0 mn0 O N ∧ AllAt al U ∧ (∀ k, (k < 96 ∨ 112 ≤ k) → U k = T k) ∧ (∀ k, 531 ≤ k → al k = all k) ∧ (∀ i, i < 8 → c0 i = nI (U (96 + i))) ∧ (∀ i, i < 8 → l0 i = nD (U (104 + i))) ∧ r1 = (nI g, a0, m0, c0, l0, x, nI (if T 78 = 0 then T 95 else mv)) ∧ r2 = (nI g, al, on0, mn0, nI mv))
    (by
      rintro n _ _ ⟨r, g, x, O, N, mv, U, a0, m0, c0, l0, al, on0, mn0, hr, hg, hSO, hmv, hat, hon, hAl, hU, hk, hc0, hl0, rfl, rfl⟩
      refine Or.inl ?_
      have hWU : WT U := hW.cong fun k hk => hU k (by omega)
      have m3 := hSO.m3 hW (show r < 5 by omega)
      have e0 := ht.n (k := 0) (by omega) (by omega)
      have f0 := hAl.n (k := 0) (by omega) (by omega)
      rw [hU 0 (by omega)] at f0
      have e3 := hat.2 r (by omega)
      have f3 := hon.2 r (by omega)
      by_cases c0' : N r = 0
      · refine ⟨_, _, ?_, ?_, r + 1, g, x, O, N, mv, U, a0, m0, c0, l0, al, on0, mn0, by omega, by omega, hSO, hmv, hat, hon, hAl, hU, hk, hc0, hl0, rfl, rfl⟩
        · show FX0_flood_b15 (nI (T 112)) t (nI g) (nI r) a0 m0 c0 l0 x _ = _
          unfold FX0_flood_b15 FX0_flood_j162
          (simp (disch := omega) only [i_0, i_1, i_2, i_3, i_4, i_5, i_6, i_7, i_8, i_9, i_10, i_11, i_12, i_13, i_14, i_15, i_16, i_17, i_18, i_19, i_20, i_21, i_22, i_23, i_24, i_25, i_26, i_27, i_28, i_29, i_30, i_31, i_32, i_36, i_40, i_41, i_43, i_48, i_50, i_56, i_57, i_59, i_63, i_64, i_69, i_75, i_76, i_77, i_78, i_79, i_80, i_95, i_96, i_97, i_98, i_99, i_100, i_101, i_102, i_103, i_104, i_105, i_108, i_109, i_110, i_111, i_112, i_113, i_114, i_115, i_116, i_117, i_118, i_119, i_121, i_122, i_123, i_131, i_160, i_199, i_220, i_255, i_256, i_400, i_531, i_999, i_1000, i_1593, i_6000, i_6001, i_6002, i_10000, i_16383, i_16384, i_32768, i_100000, i_294912, i_1000000, bd0_s, bdS2_0, bdS2_1, bdS3_0, bdS3_1, bdS3_2, bdS4_0, bdS4_1, bdS4_2, bdS4_3, un0_s, bd1_s, bd2_s, bd3_s, bd4_s, bd5_s, bd6_s, bd7_s, bd8_s, bd9_s, bd10_s, bd11_s, bd12_s, bd13_s, bd14_s, bd15_s, bd16_s, un1_s, un2_s, un3_s, un4_s, un5_s, un6_s, un7_s, n_add, n_mul, n_addM, n_addD, n_Dadd, n_subD, n_sub, n_div, nD_succ, nD_zero, n_negM, cl_n, cl_d, rd_n, rd_d, wr_n, wr_d, al_n, al_d, b2i_t, b2i_f, lt_t, lt_f, le_t, le_f, eq_t, eq_f, dlt_t, dlt_f, ltd_t, ltd_f, ddl_t, ddl_f, dle_t, dle_f, led_t, led_f, deq_t, deq_f, eqd_t, eqd_f, dde_t, dde_f, m_ne, n_neM, m_lt, n_ltM, m_le, n_leM, m_eqD, m_neD, d_eqM, d_neM, up_t, up_f, bit_n, bit_d, rp_n, rp_d, asb1, sh1_n, sh1_d, or_n, ↓reduceIte, ite_self, Nat.add_sub_cancel, Nat.sub_self, Nat.add_zero, Nat.zero_add, Nat.mul_zero, Nat.zero_mul, eq_self, and_true, true_and, or_true, true_or, and_self, or_self, not_true_eq_false, not_false_eq_true, e0, e3, c0']; try rfl)
        · show FX8_flood_b22 x (nI g) (nI r) al on0 mn0 (nI mv) = _
          unfold FX8_flood_b22 FX8_flood_j173
          (simp (disch := omega) only [i_0, i_1, i_2, i_3, i_4, i_5, i_6, i_7, i_8, i_9, i_10, i_11, i_12, i_13, i_14, i_15, i_16, i_17, i_18, i_19, i_20, i_21, i_22, i_23, i_24, i_25, i_26, i_27, i_28, i_29, i_30, i_31, i_32, i_36, i_40, i_41, i_43, i_48, i_50, i_56, i_57, i_59, i_63, i_64, i_69, i_75, i_76, i_77, i_78, i_79, i_80, i_95, i_96, i_97, i_98, i_99, i_100, i_101, i_102, i_103, i_104, i_105, i_108, i_109, i_110, i_111, i_112, i_113, i_114, i_115, i_116, i_117, i_118, i_119, i_121, i_122, i_123, i_131, i_160, i_199, i_220, i_255, i_256, i_400, i_531, i_999, i_1000, i_1593, i_6000, i_6001, i_6002, i_10000, i_16383, i_16384, i_32768, i_100000, i_294912, i_1000000, bd0_s, bdS2_0, bdS2_1, bdS3_0, bdS3_1, bdS3_2, bdS4_0, bdS4_1, bdS4_2, bdS4_3, un0_s, bd1_s, bd2_s, bd3_s, bd4_s, bd5_s, bd6_s, bd7_s, bd8_s, bd9_s, bd10_s, bd11_s, bd12_s, bd13_s, bd14_s, bd15_s, bd16_s, un1_s, un2_s, un3_s, un4_s, un5_s, un6_s, un7_s, n_add, n_mul, n_addM, n_addD, n_Dadd, n_subD, n_sub, n_div, nD_succ, nD_zero, n_negM, cl_n, cl_d, rd_n, rd_d, wr_n, wr_d, al_n, al_d, b2i_t, b2i_f, lt_t, lt_f, le_t, le_f, eq_t, eq_f, dlt_t, dlt_f, ltd_t, ltd_f, ddl_t, ddl_f, dle_t, dle_f, led_t, led_f, deq_t, deq_f, eqd_t, eqd_f, dde_t, dde_f, m_ne, n_neM, m_lt, n_ltM, m_le, n_leM, m_eqD, m_neD, d_eqM, d_neM, up_t, up_f, bit_n, bit_d, rp_n, rp_d, asb1, sh1_n, sh1_d, or_n, ↓reduceIte, ite_self, Nat.add_sub_cancel, Nat.sub_self, Nat.add_zero, Nat.zero_add, Nat.mul_zero, Nat.zero_mul, eq_self, and_true, true_and, or_true, true_or, and_self, or_self, not_true_eq_false, not_false_eq_true, f0, f3, c0']; try rfl)
      · -- a draw
        have draw : FX0_draw x 3 = some (((ushI ((1103515245 * x) + 12345) 16) - (ushI ((1103515245 * x) + 12345) 16) / 3 * 3), ((1103515245 * x) + 12345)) := by
          unfold FX0_draw
          rw [show nzI 3 = some () from rfl, bd0_s]
        have body : ∀ (d to : Int32), (to = nD r ∨ to = nI (r + 1)) → ∃ t1 t2, FX0_flood_j70 (nI (T 112)) t (nI g) (nI r) a0 m0 c0 l0 (nI (if T 78 = 0 then T 95 else mv)) d ((1103515245 * x) + 12345) to = some (.inl t1) ∧ (if d = 0 then FX8_flood_j173 (nI r) ((1103515245 * x) + 12345) (nI g) al on0 mn0 (nI mv) else
            bd1 (FX8_isRow al to) fun b_90 =>
            if (b2i b_90) = 0 then
              FX8_flood_j173 (nI r) ((1103515245 * x) + 12345) (nI g) al on0 mn0 (nI mv)
            else
              bd1 (rd 5 mn0 to) fun x_92 =>
              bd1 (rd 1593 al (1 + to)) fun x_93 =>
              if x_92 = x_93 then
                FX8_flood_j173 (nI r) ((1103515245 * x) + 12345) (nI g) al on0 mn0 (nI mv)
              else
                bd1 (FX8_topOf on0 mn0 (nI r)) fun x_95 =>
                bd1 (rd 5 mn0 to) fun x_96 =>
                bd1 (rd 1593 al (15 + x_95)) fun x_97 =>
                bd1 (FX8_isHeavy al on0 to x_96 x_97) fun b_98 =>
                if (b2i b_98) = 0 then
                  bd3 (FX8_carries on0 mn0 (nI mv) (nI r) to) fun a_on_100 a_many_101 v_moved_102 =>
                  bd1 (FX8_counted al x_95) fun a_all_103 =>
                  FX8_flood_j173 (nI r) ((1103515245 * x) + 12345) ((nI g) + 1) a_all_103 a_on_100 a_many_101 v_moved_102
                else
                  FX8_flood_j173 (nI r) ((1103515245 * x) + 12345) (nI g) al on0 mn0 (nI mv)) = some (.inl t2) ∧ ∃ (r : Nat) (g : Nat) (x : Int32) (O N : Nat → Nat) (mv : Nat) (U : Nat → Nat) (a0 m0 c0 l0 al on0 mn0 : Nat → Int32), r + n = T 0 ∧ g ≤ r ∧ WO T O N ∧ mv < 256 ∧ AtAt a0 m0 O N ∧ OnAt on0 mn0 O N ∧ AllAt al U ∧ (∀ k, (k < 96 ∨ 112 ≤ k) → U k = T k) ∧ (∀ k, 531 ≤ k → al k = all k) ∧ (∀ i, i < 8 → c0 i = nI (U (96 + i))) ∧ (∀ i, i < 8 → l0 i = nD (U (104 + i))) ∧ t1 = (nI g, nI r, a0, m0, c0, l0, x, nI (if T 78 = 0 then T 95 else mv)) ∧ t2 = (x, nI g, nI r, al, on0, mn0, nI mv) := by
          intro d to hto
          have hsame : ∃ (r' : Nat) (g' : Nat) (x' : Int32) (O' N' : Nat → Nat) (mv' : Nat) (U' : Nat → Nat) (a0' m0' c0'' l0' al' on0' mn0' : Nat → Int32), r' + n = T 0 ∧ g' ≤ r' ∧ WO T O' N' ∧ mv' < 256 ∧ AtAt a0' m0' O' N' ∧ OnAt on0' mn0' O' N' ∧ AllAt al' U' ∧ (∀ k, (k < 96 ∨ 112 ≤ k) → U' k = T k) ∧ (∀ k, 531 ≤ k → al' k = all k) ∧ (∀ i, i < 8 → c0'' i = nI (U' (96 + i))) ∧ (∀ i, i < 8 → l0' i = nD (U' (104 + i))) ∧ (nI g, nI r + 1, a0, m0, c0, l0, (1103515245 * x) + 12345, nI (if T 78 = 0 then T 95 else mv)) = (nI g', nI r', a0', m0', c0'', l0', x', nI (if T 78 = 0 then T 95 else mv')) ∧ ((1103515245 * x) + 12345, nI g, nI r + 1, al, on0, mn0, nI mv) = (x', nI g', nI r', al', on0', mn0', nI mv') := by
            refine ⟨r + 1, g, (1103515245 * x) + 12345, O, N, mv, U, a0, m0, c0, l0, al, on0, mn0, by omega, by omega, hSO, hmv, hat, hon, hAl, hU, hk, hc0, hl0, ?_, ?_⟩
            · rw [show nI r + 1 = nI (r + 1) from n_add r 1]
            · rw [show nI r + 1 = nI (r + 1) from n_add r 1]
          have s1 : FX0_flood_j162 (nI r) (nI g) a0 m0 c0 l0 ((1103515245 * x) + 12345) (nI (if T 78 = 0 then T 95 else mv)) = some (.inl (nI g, nI r + 1, a0, m0, c0, l0, (1103515245 * x) + 12345, nI (if T 78 = 0 then T 95 else mv))) := rfl
          have s2 : FX8_flood_j173 (nI r) ((1103515245 * x) + 12345) (nI g) al on0 mn0 (nI mv) = some (.inl ((1103515245 * x) + 12345, nI g, nI r + 1, al, on0, mn0, nI mv)) := rfl
          unfold FX0_flood_j70
          by_cases d0 : d = 0
          · exact ⟨_, _, by rw [if_pos d0, s1], by rw [if_pos d0, s2], hsame⟩
          · rw [if_neg d0, if_neg d0]
            have hb0 := hWU.b
            rcases rng to (n := T 0) (by omega) with ⟨k, hk0, rfl⟩ | hto'
            · have hkr : k ≠ r := by
                rcases hto with z | z
                · intro y
                  rw [y] at z
                  have : (nI r = nD r) = False := eqd_f (by omega) (by omega) (by omega)
                  rw [this] at z
                  exact z
                · intro y
                  rw [y] at z
                  have : (nI r = nI (r + 1)) = False := eq_f (by omega) (by omega) (by omega)
                  rw [this] at z
                  exact z
              have n3 := hSO.m3 hW (show k < 5 by omega)
              have w3 := hW.hi (show k < 5 by omega)
              have i1 := isRow4 ht hW hk0
              have i2 := isRow8 hAl hWU (a := k) (by rw [hU 0 (by omega)]; exact hk0)
              have e4 := hat.2 k (by omega)
              have f4 := hon.2 k (by omega)
              have e5 : FX2_high t (nI k) = some (nI (T (1 + k))) := by
                have := ht.n (k := 1 + k) (by omega) (by omega)
                unfold FX2_high
                simp (disch := omega) only [i_0, i_1, i_2, i_3, i_4, i_5, i_6, i_7, i_8, i_9, i_10, i_11, i_12, i_13, i_14, i_15, i_16, i_17, i_18, i_19, i_20, i_21, i_22, i_23, i_24, i_25, i_26, i_27, i_28, i_29, i_30, i_31, i_32, i_36, i_40, i_41, i_43, i_48, i_50, i_56, i_57, i_59, i_63, i_64, i_69, i_75, i_76, i_77, i_78, i_79, i_80, i_95, i_96, i_97, i_98, i_99, i_100, i_101, i_102, i_103, i_104, i_105, i_108, i_109, i_110, i_111, i_112, i_113, i_114, i_115, i_116, i_117, i_118, i_119, i_121, i_122, i_123, i_131, i_160, i_199, i_220, i_255, i_256, i_400, i_531, i_999, i_1000, i_1593, i_6000, i_6001, i_6002, i_10000, i_16383, i_16384, i_32768, i_100000, i_294912, i_1000000, bd0_s, bdS2_0, bdS2_1, bdS3_0, bdS3_1, bdS3_2, bdS4_0, bdS4_1, bdS4_2, bdS4_3, un0_s, bd1_s, bd2_s, bd3_s, bd4_s, bd5_s, bd6_s, bd7_s, bd8_s, bd9_s, bd10_s, bd11_s, bd12_s, bd13_s, bd14_s, bd15_s, bd16_s, un1_s, un2_s, un3_s, un4_s, un5_s, un6_s, un7_s, n_add, n_mul, n_addM, n_addD, n_Dadd, n_subD, n_sub, n_div, nD_succ, nD_zero, n_negM, cl_n, cl_d, rd_n, rd_d, wr_n, wr_d, al_n, al_d, b2i_t, b2i_f, lt_t, lt_f, le_t, le_f, eq_t, eq_f, dlt_t, dlt_f, ltd_t, ltd_f, ddl_t, ddl_f, dle_t, dle_f, led_t, led_f, deq_t, deq_f, eqd_t, eqd_f, dde_t, dde_f, m_ne, n_neM, m_lt, n_ltM, m_le, n_leM, m_eqD, m_neD, d_eqM, d_neM, up_t, up_f, bit_n, bit_d, rp_n, rp_d, asb1, sh1_n, sh1_d, or_n, ↓reduceIte, ite_self, Nat.add_sub_cancel, Nat.sub_self, Nat.add_zero, Nat.zero_add, Nat.mul_zero, Nat.zero_mul, eq_self, and_true, true_and, or_true, true_or, and_self, or_self, not_true_eq_false, not_false_eq_true, e0, this]
              have f5 : rd 1593 al (1 + nI k) = some (nI (T (1 + k))) := by
                have := hAl.n (k := 1 + k) (by omega) (by omega)
                rw [hU (1 + k) (by omega)] at this
                simp (disch := omega) only [i_0, i_1, i_2, i_3, i_4, i_5, i_6, i_7, i_8, i_9, i_10, i_11, i_12, i_13, i_14, i_15, i_16, i_17, i_18, i_19, i_20, i_21, i_22, i_23, i_24, i_25, i_26, i_27, i_28, i_29, i_30, i_31, i_32, i_36, i_40, i_41, i_43, i_48, i_50, i_56, i_57, i_59, i_63, i_64, i_69, i_75, i_76, i_77, i_78, i_79, i_80, i_95, i_96, i_97, i_98, i_99, i_100, i_101, i_102, i_103, i_104, i_105, i_108, i_109, i_110, i_111, i_112, i_113, i_114, i_115, i_116, i_117, i_118, i_119, i_121, i_122, i_123, i_131, i_160, i_199, i_220, i_255, i_256, i_400, i_531, i_999, i_1000, i_1593, i_6000, i_6001, i_6002, i_10000, i_16383, i_16384, i_32768, i_100000, i_294912, i_1000000, bd0_s, bdS2_0, bdS2_1, bdS3_0, bdS3_1, bdS3_2, bdS4_0, bdS4_1, bdS4_2, bdS4_3, un0_s, bd1_s, bd2_s, bd3_s, bd4_s, bd5_s, bd6_s, bd7_s, bd8_s, bd9_s, bd10_s, bd11_s, bd12_s, bd13_s, bd14_s, bd15_s, bd16_s, un1_s, un2_s, un3_s, un4_s, un5_s, un6_s, un7_s, n_add, n_mul, n_addM, n_addD, n_Dadd, n_subD, n_sub, n_div, nD_succ, nD_zero, n_negM, cl_n, cl_d, rd_n, rd_d, wr_n, wr_d, al_n, al_d, b2i_t, b2i_f, lt_t, lt_f, le_t, le_f, eq_t, eq_f, dlt_t, dlt_f, ltd_t, ltd_f, ddl_t, ddl_f, dle_t, dle_f, led_t, led_f, deq_t, deq_f, eqd_t, eqd_f, dde_t, dde_f, m_ne, n_neM, m_lt, n_ltM, m_le, n_leM, m_eqD, m_neD, d_eqM, d_neM, up_t, up_f, bit_n, bit_d, rp_n, rp_d, asb1, sh1_n, sh1_d, or_n, ↓reduceIte, ite_self, Nat.add_sub_cancel, Nat.sub_self, Nat.add_zero, Nat.zero_add, Nat.mul_zero, Nat.zero_mul, eq_self, and_true, true_and, or_true, true_or, and_self, or_self, not_true_eq_false, not_false_eq_true, this]
              have E4 : rd 5 m0 (nI k) = some (nI (N k)) := rdn (by omega) (by omega) e4
              have F4 : rd 5 mn0 (nI k) = some (nI (N k)) := rdn (by omega) (by omega) f4
              simp only [i1, i2, bd1_s, bt0, ↓reduceIte, E4, F4, e5, f5]
              by_cases h4 : N k = T (1 + k)
              · have h4' : (nI (N k) = nI (T (1 + k))) = True := eq_true (by rw [h4])
                simp only [h4', ↓reduceIte]
                exact ⟨_, _, s1, s2, hsame⟩
              · have h4' : (nI (N k) = nI (T (1 + k))) = False := eq_f h4 (by omega) (by omega)
                have et := top4 hat hW hSO (show r < 5 by omega) (by omega)
                have ft := top8 hon hW hSO (show r < 5 by omega) (by omega)
                obtain ⟨q1, q2, q3⟩ := hSO.st hW (show r < 5 by omega) (show N r - 1 < N r by omega)
                have k3 := hW.so (i := O (3 * r + (N r - 1)) - 1) (by omega)
                have e6 := ht.n (k := 6) (by omega) (by omega)
                have e15 := ht.n (k := 15 + (O (3 * r + (N r - 1)) - 1)) (by omega) (by omega)
                have ez : FX4_size t (nI (O (3 * r + (N r - 1)) - 1)) = some (nI (T (15 + (O (3 * r + (N r - 1)) - 1)))) := by
                  unfold FX4_size
                  simp (disch := omega) only [i_0, i_1, i_2, i_3, i_4, i_5, i_6, i_7, i_8, i_9, i_10, i_11, i_12, i_13, i_14, i_15, i_16, i_17, i_18, i_19, i_20, i_21, i_22, i_23, i_24, i_25, i_26, i_27, i_28, i_29, i_30, i_31, i_32, i_36, i_40, i_41, i_43, i_48, i_50, i_56, i_57, i_59, i_63, i_64, i_69, i_75, i_76, i_77, i_78, i_79, i_80, i_95, i_96, i_97, i_98, i_99, i_100, i_101, i_102, i_103, i_104, i_105, i_108, i_109, i_110, i_111, i_112, i_113, i_114, i_115, i_116, i_117, i_118, i_119, i_121, i_122, i_123, i_131, i_160, i_199, i_220, i_255, i_256, i_400, i_531, i_999, i_1000, i_1593, i_6000, i_6001, i_6002, i_10000, i_16383, i_16384, i_32768, i_100000, i_294912, i_1000000, bd0_s, bdS2_0, bdS2_1, bdS3_0, bdS3_1, bdS3_2, bdS4_0, bdS4_1, bdS4_2, bdS4_3, un0_s, bd1_s, bd2_s, bd3_s, bd4_s, bd5_s, bd6_s, bd7_s, bd8_s, bd9_s, bd10_s, bd11_s, bd12_s, bd13_s, bd14_s, bd15_s, bd16_s, un1_s, un2_s, un3_s, un4_s, un5_s, un6_s, un7_s, n_add, n_mul, n_addM, n_addD, n_Dadd, n_subD, n_sub, n_div, nD_succ, nD_zero, n_negM, cl_n, cl_d, rd_n, rd_d, wr_n, wr_d, al_n, al_d, b2i_t, b2i_f, lt_t, lt_f, le_t, le_f, eq_t, eq_f, dlt_t, dlt_f, ltd_t, ltd_f, ddl_t, ddl_f, dle_t, dle_f, led_t, led_f, deq_t, deq_f, eqd_t, eqd_f, dde_t, dde_f, m_ne, n_neM, m_lt, n_ltM, m_le, n_leM, m_eqD, m_neD, d_eqM, d_neM, up_t, up_f, bit_n, bit_d, rp_n, rp_d, asb1, sh1_n, sh1_d, or_n, ↓reduceIte, ite_self, Nat.add_sub_cancel, Nat.sub_self, Nat.add_zero, Nat.zero_add, Nat.mul_zero, Nat.zero_mul, eq_self, and_true, true_and, or_true, true_or, and_self, or_self, not_true_eq_false, not_false_eq_true, e6, e15]
                have fz : rd 1593 al (15 + nI (O (3 * r + (N r - 1)) - 1)) = some (nI (T (15 + (O (3 * r + (N r - 1)) - 1)))) := by
                  have := hAl.n (k := 15 + (O (3 * r + (N r - 1)) - 1)) (by omega) (by omega)
                  rw [hU (15 + (O (3 * r + (N r - 1)) - 1)) (by omega)] at this
                  simp (disch := omega) only [i_0, i_1, i_2, i_3, i_4, i_5, i_6, i_7, i_8, i_9, i_10, i_11, i_12, i_13, i_14, i_15, i_16, i_17, i_18, i_19, i_20, i_21, i_22, i_23, i_24, i_25, i_26, i_27, i_28, i_29, i_30, i_31, i_32, i_36, i_40, i_41, i_43, i_48, i_50, i_56, i_57, i_59, i_63, i_64, i_69, i_75, i_76, i_77, i_78, i_79, i_80, i_95, i_96, i_97, i_98, i_99, i_100, i_101, i_102, i_103, i_104, i_105, i_108, i_109, i_110, i_111, i_112, i_113, i_114, i_115, i_116, i_117, i_118, i_119, i_121, i_122, i_123, i_131, i_160, i_199, i_220, i_255, i_256, i_400, i_531, i_999, i_1000, i_1593, i_6000, i_6001, i_6002, i_10000, i_16383, i_16384, i_32768, i_100000, i_294912, i_1000000, bd0_s, bdS2_0, bdS2_1, bdS3_0, bdS3_1, bdS3_2, bdS4_0, bdS4_1, bdS4_2, bdS4_3, un0_s, bd1_s, bd2_s, bd3_s, bd4_s, bd5_s, bd6_s, bd7_s, bd8_s, bd9_s, bd10_s, bd11_s, bd12_s, bd13_s, bd14_s, bd15_s, bd16_s, un1_s, un2_s, un3_s, un4_s, un5_s, un6_s, un7_s, n_add, n_mul, n_addM, n_addD, n_Dadd, n_subD, n_sub, n_div, nD_succ, nD_zero, n_negM, cl_n, cl_d, rd_n, rd_d, wr_n, wr_d, al_n, al_d, b2i_t, b2i_f, lt_t, lt_f, le_t, le_f, eq_t, eq_f, dlt_t, dlt_f, ltd_t, ltd_f, ddl_t, ddl_f, dle_t, dle_f, led_t, led_f, deq_t, deq_f, eqd_t, eqd_f, dde_t, dde_f, m_ne, n_neM, m_lt, n_ltM, m_le, n_leM, m_eqD, m_neD, d_eqM, d_neM, up_t, up_f, bit_n, bit_d, rp_n, rp_d, asb1, sh1_n, sh1_d, or_n, ↓reduceIte, ite_self, Nat.add_sub_cancel, Nat.sub_self, Nat.add_zero, Nat.zero_add, Nat.mul_zero, Nat.zero_mul, eq_self, and_true, true_and, or_true, true_or, and_self, or_self, not_true_eq_false, not_false_eq_true, this]
                have ebe := bears4 ht hat hW hSO (show k < 5 by omega) (Nat.le_refl (N k)) (ab := T (15 + (O (3 * r + (N r - 1)) - 1))) (by omega)
                have hSU : WO U O N := hSO.congT fun k hk => hU k (by omega)
                have fbe := isHeavy8 hAl hon hWU hSU (show k < 5 by omega) (Nat.le_refl (N k)) (ab := T (15 + (O (3 * r + (N r - 1)) - 1))) (by omega)
                have hvU : ∀ f ab, hvS U O k f ab = hvS T O k f ab ∨ N k < f := by
                  intro f
                  induction f with
                  | zero => intro ab; exact Or.inl rfl
                  | succ f ih =>
                    intro ab
                    by_cases c : N k < f + 1
                    · exact Or.inr c
                    · have h8 := (hSO.st hW (show k < 5 by omega) (show f < N k by omega)).2.2
                      rcases ih (ab + T (15 + (O (3 * k + f) - 1))) with z | z
                      · refine Or.inl ?_
                        rw [hvS, hvS, hU (23 + (O (3 * k + f) - 1)) (by omega), hU (15 + (O (3 * k + f) - 1)) (by omega), z]
                      · omega
                have hvU := (hvU (N k) (T (15 + (O (3 * r + (N r - 1)) - 1)))).resolve_right (by omega)
                rw [hvU] at fbe
                simp only [h4', ↓reduceIte, et, bd1_s, ez, ebe, ft, fz, fbe]
                by_cases h6 : hvS T O k (N k) (T (15 + (O (3 * r + (N r - 1)) - 1))) = true
                · simp only [h6, nt0, bf0, bt0, ↓reduceIte]
                  exact ⟨_, _, s1, s2, hsame⟩
                · simp only [Bool.eq_false_iff.mpr h6, nf0, bf0, bt0, ↓reduceIte]
                  have hS' := hSO.ca hW (show r < T 0 by omega) hk0 (fun z => hkr z.symm) c0' h4
                  have hmz : (if T 78 = 0 then T 95 else mv) < 256 := by split <;> omega
                  obtain ⟨a2, m4, e7, hat2⟩ := carries4 (mv := if T 78 = 0 then T 95 else mv) hat hW hSO hmz (show r < T 0 by omega) hk0 (fun z => hkr z.symm) c0' h4 (T 78) (by omega)
                  obtain ⟨o3, m5, f7, hon2⟩ := carries8 (mv := mv) hon hW hSO hmv (show r < T 0 by omega) hk0 (fun z => hkr z.symm) c0' h4
                  generalize hi : O (3 * r + (N r - 1)) - 1 = i at *
                  have hi8 : i < 8 := by omega
                  have hy' : U 112 = T 112 := hU 112 (by omega)
                  obtain ⟨ca', la', e9, hc', hl'⟩ := counts0 (T := U) (i := i) hc0 hl0 hi8
                  rw [hy'] at e9
                  obtain ⟨al2, f8, hA2, hk2⟩ := counted8 hAl hi8
                  have e78 : t 378 = nI (T 78) := hTF.1.trans (ht.n (k := 78) (by omega) (by omega))
                  simp only [e78, e7, bd4_s, e9, bd2_s, f7, bd3_s, f8, bd1_s]
                  refine ⟨_, _, rfl, rfl, r + 1, g + 1, (1103515245 * x) + 12345, caO O N r k, caM N r k, mv ||| 2 ^ i, ctT U i, a2, m4, ca', la', al2, o3, m5, by omega, by omega, hS', or_lt hmv hi8, hat2, hon2, hA2, fun z hz => by rw [ctT_o (by omega) (by omega), hU z hz], fun z hz => (hk2 z hz).trans (hk z hz), hc', hl', ?_, ?_⟩
                  · rw [show nI r + 1 = nI (r + 1) from n_add r 1, show nI g + 1 = nI (g + 1) from n_add g 1]
                    by_cases c78 : T 78 = 0
                    · rw [if_pos c78, if_pos c78, if_pos c78]
                    · rw [if_neg c78, if_neg c78, if_neg c78]
                  · rw [show nI r + 1 = nI (r + 1) from n_add r 1, show nI g + 1 = nI (g + 1) from n_add g 1]
            · have i1 := isRow4f ht hW hto'
              have i2 := isRow8f hAl hWU (p := to) (by rw [hU 0 (by omega)]; exact hto')
              simp only [i1, i2, bd1_s, bf0, ↓reduceIte]
              exact ⟨_, _, s1, s2, hsame⟩
        have n1 : ¬ nI (N r) = 0 := by rw [show (0 : Int32) = nI 0 from rfl, eq_f c0' (by omega) (by omega)]; exact id
        have n2 : ¬ nI (T 0) ≤ nI r := by rw [le_f (by omega) (by omega)]; exact id
        by_cases d1 : ((ushI ((1103515245 * x) + 12345) 16) - (ushI ((1103515245 * x) + 12345) 16) / 3 * 3) = 1
        · obtain ⟨t1, t2, g1, g2, g3⟩ := body ((ushI ((1103515245 * x) + 12345) 16) - (ushI ((1103515245 * x) + 12345) 16) / 3 * 3) (nD r) (Or.inl rfl)
          refine ⟨t1, t2, ?_, ?_, g3⟩
          · show FX0_flood_b15 (nI (T 112)) t (nI g) (nI r) a0 m0 c0 l0 x _ = _
            unfold FX0_flood_b15
            rw [e0, if_neg n2, rdn (by omega) (by omega) e3, bd1_s, if_neg n1, draw, bd2_s, if_pos d1]
            exact g1
          · show FX8_flood_b22 x (nI g) (nI r) al on0 mn0 (nI mv) = _
            unfold FX8_flood_b22
            rw [show (0 : Int32) = nI 0 from rfl, rdn (by omega) (by omega) f0, bd1_s, if_neg n2, rdn (by omega) (by omega) f3, bd1_s, if_neg (show ¬ nI (N r) = nI 0 from n1), if_pos d1]
            exact g2
        · obtain ⟨t1, t2, g1, g2, g3⟩ := body ((ushI ((1103515245 * x) + 12345) 16) - (ushI ((1103515245 * x) + 12345) 16) / 3 * 3) (nI (r + 1)) (Or.inr rfl)
          refine ⟨t1, t2, ?_, ?_, g3⟩
          · show FX0_flood_b15 (nI (T 112)) t (nI g) (nI r) a0 m0 c0 l0 x _ = _
            unfold FX0_flood_b15
            rw [e0, if_neg n2, rdn (by omega) (by omega) e3, bd1_s, if_neg n1, draw, bd2_s, if_neg d1, show nI r + 1 = nI (r + 1) from n_add r 1]
            exact g1
          · show FX8_flood_b22 x (nI g) (nI r) al on0 mn0 (nI mv) = _
            unfold FX8_flood_b22
            rw [show (0 : Int32) = nI 0 from rfl, rdn (by omega) (by omega) f0, bd1_s, if_neg n2, rdn (by omega) (by omega) f3, bd1_s, if_neg (show ¬ nI (N r) = nI 0 from n1), if_neg d1, show nI r + 1 = nI (r + 1) from n_add r 1]
            exact g2)
    (by
      rintro _ _ ⟨r, g, x, O, N, mv, U, a0, m0, c0, l0, al, on0, mn0, hr, hg, hSO, hmv, hat, hon, hAl, hU, hk, hc0, hl0, rfl, rfl⟩
      have e0 := ht.n (k := 0) (by omega) (by omega)
      have f0 := hAl.n (k := 0) (by omega) (by omega)
      rw [hU 0 (by omega)] at f0
      refine ⟨_, _, ?_, ?_, g, x, O, N, mv, U, a0, m0, c0, l0, al, on0, mn0, hSO, hmv, hat, hon, hAl, hU, hk, hc0, hl0, rfl, rfl⟩
      · show FX0_flood_b15 (nI (T 112)) t (nI g) (nI r) a0 m0 c0 l0 x _ = _
        unfold FX0_flood_b15
        (simp (disch := omega) only [i_0, i_1, i_2, i_3, i_4, i_5, i_6, i_7, i_8, i_9, i_10, i_11, i_12, i_13, i_14, i_15, i_16, i_17, i_18, i_19, i_20, i_21, i_22, i_23, i_24, i_25, i_26, i_27, i_28, i_29, i_30, i_31, i_32, i_36, i_40, i_41, i_43, i_48, i_50, i_56, i_57, i_59, i_63, i_64, i_69, i_75, i_76, i_77, i_78, i_79, i_80, i_95, i_96, i_97, i_98, i_99, i_100, i_101, i_102, i_103, i_104, i_105, i_108, i_109, i_110, i_111, i_112, i_113, i_114, i_115, i_116, i_117, i_118, i_119, i_121, i_122, i_123, i_131, i_160, i_199, i_220, i_255, i_256, i_400, i_531, i_999, i_1000, i_1593, i_6000, i_6001, i_6002, i_10000, i_16383, i_16384, i_32768, i_100000, i_294912, i_1000000, bd0_s, bdS2_0, bdS2_1, bdS3_0, bdS3_1, bdS3_2, bdS4_0, bdS4_1, bdS4_2, bdS4_3, un0_s, bd1_s, bd2_s, bd3_s, bd4_s, bd5_s, bd6_s, bd7_s, bd8_s, bd9_s, bd10_s, bd11_s, bd12_s, bd13_s, bd14_s, bd15_s, bd16_s, un1_s, un2_s, un3_s, un4_s, un5_s, un6_s, un7_s, n_add, n_mul, n_addM, n_addD, n_Dadd, n_subD, n_sub, n_div, nD_succ, nD_zero, n_negM, cl_n, cl_d, rd_n, rd_d, wr_n, wr_d, al_n, al_d, b2i_t, b2i_f, lt_t, lt_f, le_t, le_f, eq_t, eq_f, dlt_t, dlt_f, ltd_t, ltd_f, ddl_t, ddl_f, dle_t, dle_f, led_t, led_f, deq_t, deq_f, eqd_t, eqd_f, dde_t, dde_f, m_ne, n_neM, m_lt, n_ltM, m_le, n_leM, m_eqD, m_neD, d_eqM, d_neM, up_t, up_f, bit_n, bit_d, rp_n, rp_d, asb1, sh1_n, sh1_d, or_n, ↓reduceIte, ite_self, Nat.add_sub_cancel, Nat.sub_self, Nat.add_zero, Nat.zero_add, Nat.mul_zero, Nat.zero_mul, eq_self, and_true, true_and, or_true, true_or, and_self, or_self, not_true_eq_false, not_false_eq_true, e0]; try rfl)
      · show FX8_flood_b22 x (nI g) (nI r) al on0 mn0 (nI mv) = _
        unfold FX8_flood_b22
        (simp (disch := omega) only [i_0, i_1, i_2, i_3, i_4, i_5, i_6, i_7, i_8, i_9, i_10, i_11, i_12, i_13, i_14, i_15, i_16, i_17, i_18, i_19, i_20, i_21, i_22, i_23, i_24, i_25, i_26, i_27, i_28, i_29, i_30, i_31, i_32, i_36, i_40, i_41, i_43, i_48, i_50, i_56, i_57, i_59, i_63, i_64, i_69, i_75, i_76, i_77, i_78, i_79, i_80, i_95, i_96, i_97, i_98, i_99, i_100, i_101, i_102, i_103, i_104, i_105, i_108, i_109, i_110, i_111, i_112, i_113, i_114, i_115, i_116, i_117, i_118, i_119, i_121, i_122, i_123, i_131, i_160, i_199, i_220, i_255, i_256, i_400, i_531, i_999, i_1000, i_1593, i_6000, i_6001, i_6002, i_10000, i_16383, i_16384, i_32768, i_100000, i_294912, i_1000000, bd0_s, bdS2_0, bdS2_1, bdS3_0, bdS3_1, bdS3_2, bdS4_0, bdS4_1, bdS4_2, bdS4_3, un0_s, bd1_s, bd2_s, bd3_s, bd4_s, bd5_s, bd6_s, bd7_s, bd8_s, bd9_s, bd10_s, bd11_s, bd12_s, bd13_s, bd14_s, bd15_s, bd16_s, un1_s, un2_s, un3_s, un4_s, un5_s, un6_s, un7_s, n_add, n_mul, n_addM, n_addD, n_Dadd, n_subD, n_sub, n_div, nD_succ, nD_zero, n_negM, cl_n, cl_d, rd_n, rd_d, wr_n, wr_d, al_n, al_d, b2i_t, b2i_f, lt_t, lt_f, le_t, le_f, eq_t, eq_f, dlt_t, dlt_f, ltd_t, ltd_f, ddl_t, ddl_f, dle_t, dle_f, led_t, led_f, deq_t, deq_f, eqd_t, eqd_f, dde_t, dde_f, m_ne, n_neM, m_lt, n_ltM, m_le, n_leM, m_eqD, m_neD, d_eqM, d_neM, up_t, up_f, bit_n, bit_d, rp_n, rp_d, asb1, sh1_n, sh1_d, or_n, ↓reduceIte, ite_self, Nat.add_sub_cancel, Nat.sub_self, Nat.add_zero, Nat.zero_add, Nat.mul_zero, Nat.zero_mul, eq_self, and_true, true_and, or_true, true_or, and_self, or_self, not_true_eq_false, not_false_eq_true, f0]; try rfl))
  obtain ⟨r1, r2, h1, h2, g, x, O, N, mv, U, a0, m0, c0, l0, al, on0, mn0, hSO, hmv, hat', hon', hAl, hU, hk, hc0, hl0, rfl, rfl⟩ := key (T 0) (nI 0, nI 0, a1, m1, ca, la, p, nI (T 95)) (p, nI 0, nI 0, all, o2, m2, nI (T 95)) ⟨0, 0, p, _, M, T 95, T, a1, m1, ca, la, all, o2, m2, by omega, by omega, hS, hm, hat, hon, hA, fun _ _ => rfl, fun _ _ => rfl, hc, hl, by rw [ite_self], rfl⟩
  have hmz : (if T 78 = 0 then T 95 else mv) < 256 := by split <;> omega
  have hb100 : ∀ p, p < 15 → O p < 100 := fun p hp => by have := hSO.1 p hp; omega
  have e10 := lies4 hat'.1 hb100 hmz (lN (enc (fun p => T (80 + p)) (T 95)))
  obtain ⟨al1, e7, hA1, hk1⟩ := keepsNow8 (O := O) hAl hon'.1 (if T 78 = 0 then T 95 else mv)
  have f78 := hAl.n (k := 78) (by omega) (by omega)
  rw [hU 78 (by omega)] at f78
  refine ⟨nI g, _, _, _, _, _, _, _, al1, on0, mn0, nI (if T 78 = 0 then T 95 else mv), kpT U O (if T 78 = 0 then T 95 else mv), N, by
    unfold FX0_flood FX0_here
    rw [e1, bd3_s, bd3_s, show (0 : Int32) = nI 0 from rfl, h1, bd7_s, e10]
    rfl, ?_, fun k hk' => (hk1 k hk').trans (hk k hk'), fun k hk' => by rw [kpT_o (by omega), hU k (by omega)], ?_⟩
  · unfold FX8_flood
    rw [e2, bd3_s, show (0 : Int32) = nI 0 from rfl, h2, bd5_s]
    unfold FX8_flood_j199
    by_cases c : T 78 = 0
    · rw [if_pos c] at e7 ⊢
      (simp (disch := omega) only [i_0, i_1, i_2, i_3, i_4, i_5, i_6, i_7, i_8, i_9, i_10, i_11, i_12, i_13, i_14, i_15, i_16, i_17, i_18, i_19, i_20, i_21, i_22, i_23, i_24, i_25, i_26, i_27, i_28, i_29, i_30, i_31, i_32, i_36, i_40, i_41, i_43, i_48, i_50, i_56, i_57, i_59, i_63, i_64, i_69, i_75, i_76, i_77, i_78, i_79, i_80, i_95, i_96, i_97, i_98, i_99, i_100, i_101, i_102, i_103, i_104, i_105, i_108, i_109, i_110, i_111, i_112, i_113, i_114, i_115, i_116, i_117, i_118, i_119, i_121, i_122, i_123, i_131, i_160, i_199, i_220, i_255, i_256, i_400, i_531, i_999, i_1000, i_1593, i_6000, i_6001, i_6002, i_10000, i_16383, i_16384, i_32768, i_100000, i_294912, i_1000000, bd0_s, bdS2_0, bdS2_1, bdS3_0, bdS3_1, bdS3_2, bdS4_0, bdS4_1, bdS4_2, bdS4_3, un0_s, bd1_s, bd2_s, bd3_s, bd4_s, bd5_s, bd6_s, bd7_s, bd8_s, bd9_s, bd10_s, bd11_s, bd12_s, bd13_s, bd14_s, bd15_s, bd16_s, un1_s, un2_s, un3_s, un4_s, un5_s, un6_s, un7_s, n_add, n_mul, n_addM, n_addD, n_Dadd, n_subD, n_sub, n_div, nD_succ, nD_zero, n_negM, cl_n, cl_d, rd_n, rd_d, wr_n, wr_d, al_n, al_d, b2i_t, b2i_f, lt_t, lt_f, le_t, le_f, eq_t, eq_f, dlt_t, dlt_f, ltd_t, ltd_f, ddl_t, ddl_f, dle_t, dle_f, led_t, led_f, deq_t, deq_f, eqd_t, eqd_f, dde_t, dde_f, m_ne, n_neM, m_lt, n_ltM, m_le, n_leM, m_eqD, m_neD, d_eqM, d_neM, up_t, up_f, bit_n, bit_d, rp_n, rp_d, asb1, sh1_n, sh1_d, or_n, ↓reduceIte, ite_self, Nat.add_sub_cancel, Nat.sub_self, Nat.add_zero, Nat.zero_add, Nat.mul_zero, Nat.zero_mul, eq_self, and_true, true_and, or_true, true_or, and_self, or_self, not_true_eq_false, not_false_eq_true, f78, c, e7]; try rfl)
    · have c1 : T 78 = 1 := by omega
      rw [if_neg c] at e7 ⊢
      (simp (disch := omega) only [i_0, i_1, i_2, i_3, i_4, i_5, i_6, i_7, i_8, i_9, i_10, i_11, i_12, i_13, i_14, i_15, i_16, i_17, i_18, i_19, i_20, i_21, i_22, i_23, i_24, i_25, i_26, i_27, i_28, i_29, i_30, i_31, i_32, i_36, i_40, i_41, i_43, i_48, i_50, i_56, i_57, i_59, i_63, i_64, i_69, i_75, i_76, i_77, i_78, i_79, i_80, i_95, i_96, i_97, i_98, i_99, i_100, i_101, i_102, i_103, i_104, i_105, i_108, i_109, i_110, i_111, i_112, i_113, i_114, i_115, i_116, i_117, i_118, i_119, i_121, i_122, i_123, i_131, i_160, i_199, i_220, i_255, i_256, i_400, i_531, i_999, i_1000, i_1593, i_6000, i_6001, i_6002, i_10000, i_16383, i_16384, i_32768, i_100000, i_294912, i_1000000, bd0_s, bdS2_0, bdS2_1, bdS3_0, bdS3_1, bdS3_2, bdS4_0, bdS4_1, bdS4_2, bdS4_3, un0_s, bd1_s, bd2_s, bd3_s, bd4_s, bd5_s, bd6_s, bd7_s, bd8_s, bd9_s, bd10_s, bd11_s, bd12_s, bd13_s, bd14_s, bd15_s, bd16_s, un1_s, un2_s, un3_s, un4_s, un5_s, un6_s, un7_s, n_add, n_mul, n_addM, n_addD, n_Dadd, n_subD, n_sub, n_div, nD_succ, nD_zero, n_negM, cl_n, cl_d, rd_n, rd_d, wr_n, wr_d, al_n, al_d, b2i_t, b2i_f, lt_t, lt_f, le_t, le_f, eq_t, eq_f, dlt_t, dlt_f, ltd_t, ltd_f, ddl_t, ddl_f, dle_t, dle_f, led_t, led_f, deq_t, deq_f, eqd_t, eqd_f, dde_t, dde_f, m_ne, n_neM, m_lt, n_ltM, m_le, n_leM, m_eqD, m_neD, d_eqM, d_neM, up_t, up_f, bit_n, bit_d, rp_n, rp_d, asb1, sh1_n, sh1_d, or_n, ↓reduceIte, ite_self, Nat.add_sub_cancel, Nat.sub_self, Nat.add_zero, Nat.zero_add, Nat.mul_zero, Nat.zero_mul, eq_self, and_true, true_and, or_true, true_or, and_self, or_self, not_true_eq_false, not_false_eq_true, f78, c1, e7]; try rfl)
  · have hUlo : ∀ k, (k < 80 ∨ 112 ≤ k) → kpT U O (if T 78 = 0 then T 95 else mv) k = T k := fun k hk' => by rw [kpT_o (by omega), hU k (by omega)]
    refine Cur.step hW hB ht hy (O' := O) hSO hmz hUlo (fun p hp => kpT_p hp) kpT_m hA1 rfl (fun j hj => ?_) (fun j hj => ?_)
    · rw [hc0 j hj, kpT_o (by omega)]
    · rw [hl0 j hj, kpT_o (by omega)]
end P30
