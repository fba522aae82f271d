set_option maxRecDepth 100000
/-! the component's matching goes by wished places alone -/
def cw (T : Nat → Nat) : Nat → Nat
  | 0 => 0
  | p + 1 => cw T p + if T (41 + p) = 0 then 0 else 1
theorem cw_y {T : Nat → Nat} {p : Nat} (h : T (41 + p) ≠ 0) : cw T (p + 1) = cw T p + 1 := by rw [cw, if_neg h]
theorem cw_n {T : Nat → Nat} {p : Nat} (h : T (41 + p) = 0) : cw T (p + 1) = cw T p := by rw [cw, if_pos h]; rfl
theorem cw_le (T : Nat → Nat) : ∀ p, cw T p ≤ p := by
  intro p
  induction p with
  | zero => exact Nat.le_refl _
  | succ p ih =>
    rw [cw]
    split <;> omega
theorem cw_mono (T : Nat → Nat) : ∀ d p, cw T p ≤ cw T (p + d) := by
  intro d
  induction d with
  | zero => intro p; exact Nat.le_refl _
  | succ d ih =>
    intro p
    refine Nat.le_trans (ih p) ?_
    rw [← Nat.add_assoc, cw]
    omega
theorem cw_lt {T : Nat → Nat} {p q : Nat} (h : T (41 + p) ≠ 0) (hpq : p < q) : cw T p < cw T q := by
  have h1 := cw_y h
  have h2 := cw_mono T (q - (p + 1)) (p + 1)
  rw [show p + 1 + (q - (p + 1)) = q by omega] at h2
  omega
theorem cw_inj {T : Nat → Nat} {p q : Nat} (hp : T (41 + p) ≠ 0) (hq : T (41 + q) ≠ 0) (h : cw T p = cw T q) : p = q := by
  rcases Nat.lt_trichotomy p q with c | c | c
  · have := cw_lt hp c; omega
  · exact c
  · have := cw_lt hq c; omega
/-- a set of wished places as a set of places -/
def em (T : Nat → Nat) (S : Nat) : Nat → Nat
  | 0 => 0
  | p + 1 => em T S p + if T (41 + p) ≠ 0 ∧ S.testBit (cw T p) = true then 2 ^ p else 0
theorem em_lt (T : Nat → Nat) (S : Nat) : ∀ n, em T S n < 2 ^ n := by
  intro n
  induction n with
  | zero => exact Nat.one_pos
  | succ n ih =>
    rw [em, Nat.pow_succ]
    split <;> omega
theorem em_bit (T : Nat → Nat) (S : Nat) : ∀ n p, (em T S n).testBit p = (decide (p < n) && decide (T (41 + p) ≠ 0) && S.testBit (cw T p)) := by
  intro n
  induction n with
  | zero =>
    intro p
    rw [em, Nat.zero_testBit, decide_eq_false (Nat.not_lt_zero p), Bool.false_and, Bool.false_and]
  | succ n ih =>
    intro p
    have hlt := em_lt T S n
    rw [em]
    by_cases c : T (41 + n) ≠ 0 ∧ S.testBit (cw T n) = true
    · rw [if_pos c, Nat.add_comm]
      by_cases e : p = n
      · subst e
        rw [Nat.testBit_two_pow_add_eq, Nat.testBit_lt_two_pow hlt, decide_eq_true (Nat.lt_succ_self p), decide_eq_true c.1, c.2]
        rfl
      · by_cases e2 : p < n
        · rw [Nat.testBit_two_pow_add_gt e2, ih p, decide_eq_true e2, decide_eq_true (show p < n + 1 by omega)]
        · rw [decide_eq_false (show ¬ p < n + 1 by omega), Bool.false_and, Bool.false_and]
          refine Nat.testBit_lt_two_pow ?_
          have : 2 ^ (n + 1) ≤ 2 ^ p := Nat.pow_le_pow_right (by decide) (by omega)
          rw [Nat.pow_succ] at this
          omega
    · rw [if_neg c, Nat.add_zero, ih p]
      by_cases e : p = n
      · subst e
        rw [decide_eq_false (Nat.lt_irrefl p), Bool.false_and, Bool.false_and, decide_eq_true (Nat.lt_succ_self p), Bool.true_and]
        by_cases c1 : T (41 + p) ≠ 0
        · rw [decide_eq_true c1, Bool.true_and]
          exact (Bool.eq_false_iff.mpr fun z => c ⟨c1, z⟩).symm
        · rw [decide_eq_false c1, Bool.false_and]
      · by_cases e2 : p < n
        · rw [decide_eq_true e2, decide_eq_true (show p < n + 1 by omega)]
        · rw [decide_eq_false e2, decide_eq_false (show ¬ p < n + 1 by omega)]
theorem em_or {T : Nat → Nat} {S p : Nat} (hp : p < 15) (hw : T (41 + p) ≠ 0) : em T (S ||| 2 ^ cw T p) 15 = em T S 15 ||| 2 ^ p := by
  refine Nat.eq_of_testBit_eq fun q => ?_
  rw [em_bit, Nat.testBit_or, Nat.testBit_or, em_bit, Nat.testBit_two_pow, Nat.testBit_two_pow]
  by_cases c : q < 15
  · simp only [decide_eq_true c, Bool.true_and]
    by_cases c1 : T (41 + q) ≠ 0
    · simp only [decide_eq_true c1, Bool.true_and]
      by_cases e : p = q
      · subst e
        rw [decide_eq_true rfl, decide_eq_true rfl]
      · rw [decide_eq_false e, decide_eq_false (fun z => e (cw_inj hw c1 z))]
    · simp only [decide_eq_false c1, Bool.false_and]
      rw [decide_eq_false (fun z => c1 (by rw [← z]; exact hw)), Bool.or_false]
  · simp only [decide_eq_false c, Bool.false_and]
    rw [decide_eq_false (show ¬ p = q by omega), Bool.or_false]
theorem em_0 (T : Nat → Nat) : em T 0 15 = 0 := by
  refine Nat.eq_of_testBit_eq fun q => ?_
  rw [em_bit, Nat.zero_testBit, Nat.zero_testBit, Bool.and_false]
/-- the list of wished places -/
def PlAt (T : Nat → Nat) (pc : Nat → Int32) : Prop := ∀ p, p < 15 → T (41 + p) ≠ 0 → pc (cw T p) = nI p
theorem shl15 : ∀ i, i < 9 → nI i <<< (nI 15 &&& nI 31) = nI (i * 32768) := by decide +kernel
theorem at5 {i S : Nat} (hi : i < 9) (hS : S < 32768) : FX5_at (nI i) (nI S) = some (nI (i * 32768 + S)) := by
  unfold FX5_at
  have h : nI i <<< ((15 : Int32) &&& 31) = nI (i * 32768) := shl15 i hi
  rw [h, or_n, Nat.mul_comm]
  have := Nat.two_pow_add_eq_or_of_lt (i := 15) hS i
  rw [show (2 : Nat) ^ 15 = 32768 from rfl] at this
  rw [this]
theorem abI_n {a b : Nat} (ha : a < 1000) (hb : b < 1000) : abI (nI a - nI b) = nI (if b ≤ a then a - b else b - a) := by
  have e : (nI a - nI b).toInt = (a : Int) - b := by
    rw [fb_subI (by rw [toN (by omega), toN (by omega)]; omega) (by rw [toN (by omega), toN (by omega)]; omega), toN (by omega), toN (by omega)]
  have z : (0 : Int32).toInt = 0 := by decide
  unfold abI
  by_cases c : b ≤ a
  · rw [if_pos (by rw [le_iff, e, z]; omega), if_pos c]
    exact e_i (by rw [e, toN (by omega)]; omega)
  · rw [if_neg (by rw [le_iff, e, z]; omega), if_neg c]
    refine e_i ?_
    rw [fb_subI (by rw [e, z]; omega) (by rw [e, z]; omega), e, z, toN (by omega)]
    omega
section P35
variable {all t on at' many ca la pc : Nat → Int32} {T O M M' : Nat → Nat} {V : Nat → BvT} {mv as1 a b : Nat} {p q : Int32} {lies : Int64} {year : Int32}
theorem cw15 (T : Nat → Nat) : cw T 15 ≤ 15 := cw_le T 15
theorem wished4n (ht : TwAt t T) (hW : WT T) {p : Nat} (hp : p < 15) : FX2_wished t (nI p) nM = some (nD (T (41 + p))) := by
  have h := wished4 (w := 0) ht hW hp (by omega)
  rw [nD_zero] at h
  rw [h]
  congr 2
  have hwp := wsh hW hp
  unfold wiS
  by_cases c : T (31 + p / 3) = 0
  · rw [if_pos c, if_neg Bool.false_ne_true]
    omega
  · rw [if_neg c, if_pos rfl, if_pos rfl]
theorem n01 : ((0 : Nat) = 1) = False := eq_false (by decide)
theorem can5 (ht : TwAt t T) (hW : WT T) (hm : mv < 256) (hP : PlAt T pc) {i S p : Nat} (hi : i < T 6) (hp : p < 15) (hw : T (41 + p) ≠ 0) (hS : S < 32768) : FX5_can pc (lN (enc O mv)) t (nI i) (nI (cw T p)) (nI S) = some (hit T O i p && !(em T S 15).testBit p) := by
  have hb := hW.b
  have e1 := isThere4 (O := O) (mv := mv) ht hW hm hi
  have hcl := cw_le T p
  have e2 := has4 (m := S) (i := cw T p) (by omega) (by omega)
  have e3 := hP p hp hw
  have e4 := wished4n ht hW hp
  have e5 := ht.n (k := 7 + i) (by omega) (by omega)
  have e6 := ht.n (k := 6) (by omega) (by omega)
  have hwp := wsh hW hp
  have k3 := hW.so (i := i) (by omega)
  have hle := pl_le O i
  have eb := bit_iff S (cw T p)
  rw [em_bit, decide_eq_true hp, decide_eq_true hw, Bool.true_and, Bool.true_and]
  unfold FX5_can hit
  rw [decide_eq_true hi, Bool.true_and]
  by_cases c : pl O i = 15
  · rw [decide_eq_false (show ¬ pl O i < 15 by omega), Bool.false_and, Bool.false_and]
    simp (disch := omega) only [i_0, i_1, i_2, i_3, i_4, i_5, i_6, i_7, i_8, i_9, i_10, i_11, i_12, i_13, i_14, i_15, i_16, i_17, i_18, i_19, i_20, i_21, i_22, i_23, i_24, i_25, i_26, i_27, i_28, i_29, i_30, i_31, i_32, i_36, i_40, i_41, i_43, i_48, i_50, i_56, i_57, i_59, i_63, i_64, i_69, i_75, i_76, i_77, i_78, i_79, i_80, i_95, i_96, i_97, i_98, i_99, i_100, i_101, i_102, i_103, i_104, i_105, i_108, i_109, i_110, i_111, i_112, i_113, i_114, i_115, i_116, i_117, i_118, i_119, i_121, i_122, i_123, i_131, i_160, i_199, i_220, i_255, i_256, i_400, i_531, i_999, i_1000, i_1593, i_6000, i_6001, i_6002, i_10000, i_16383, i_16384, i_32768, i_100000, i_294912, i_1000000, bd0_s, bdS2_0, bdS2_1, bdS3_0, bdS3_1, bdS3_2, bdS4_0, bdS4_1, bdS4_2, bdS4_3, un0_s, bd1_s, bd2_s, bd3_s, bd4_s, bd5_s, bd6_s, bd7_s, bd8_s, bd9_s, bd10_s, bd11_s, bd12_s, bd13_s, bd14_s, bd15_s, bd16_s, un1_s, un2_s, un3_s, un4_s, un5_s, un6_s, un7_s, n_add, n_mul, n_addM, n_addD, n_Dadd, n_subD, n_sub, n_div, nD_succ, nD_zero, n_negM, cl_n, cl_d, rd_n, rd_d, wr_n, wr_d, al_n, al_d, b2i_t, b2i_f, lt_t, lt_f, le_t, le_f, eq_t, eq_f, dlt_t, dlt_f, ltd_t, ltd_f, ddl_t, ddl_f, dle_t, dle_f, led_t, led_f, deq_t, deq_f, eqd_t, eqd_f, dde_t, dde_f, m_ne, n_neM, m_lt, n_ltM, m_le, n_leM, m_eqD, m_neD, d_eqM, d_neM, up_t, up_f, bit_n, bit_d, rp_n, rp_d, asb1, sh1_n, sh1_d, or_n, ↓reduceIte, ite_self, Nat.add_sub_cancel, Nat.sub_self, Nat.add_zero, Nat.zero_add, Nat.mul_zero, Nat.zero_mul, eq_self, and_true, true_and, or_true, true_or, and_self, or_self, not_true_eq_false, not_false_eq_true, e1, c, ne_eq, decide_false]
  · rw [decide_eq_true (show pl O i < 15 by omega), Bool.true_and]
    cases hs : S.testBit (cw T p) with
    | true =>
      rw [hs, if_pos rfl] at eb
      simp (disch := omega) only [i_0, i_1, i_2, i_3, i_4, i_5, i_6, i_7, i_8, i_9, i_10, i_11, i_12, i_13, i_14, i_15, i_16, i_17, i_18, i_19, i_20, i_21, i_22, i_23, i_24, i_25, i_26, i_27, i_28, i_29, i_30, i_31, i_32, i_36, i_40, i_41, i_43, i_48, i_50, i_56, i_57, i_59, i_63, i_64, i_69, i_75, i_76, i_77, i_78, i_79, i_80, i_95, i_96, i_97, i_98, i_99, i_100, i_101, i_102, i_103, i_104, i_105, i_108, i_109, i_110, i_111, i_112, i_113, i_114, i_115, i_116, i_117, i_118, i_119, i_121, i_122, i_123, i_131, i_160, i_199, i_220, i_255, i_256, i_400, i_531, i_999, i_1000, i_1593, i_6000, i_6001, i_6002, i_10000, i_16383, i_16384, i_32768, i_100000, i_294912, i_1000000, bd0_s, bdS2_0, bdS2_1, bdS3_0, bdS3_1, bdS3_2, bdS4_0, bdS4_1, bdS4_2, bdS4_3, un0_s, bd1_s, bd2_s, bd3_s, bd4_s, bd5_s, bd6_s, bd7_s, bd8_s, bd9_s, bd10_s, bd11_s, bd12_s, bd13_s, bd14_s, bd15_s, bd16_s, un1_s, un2_s, un3_s, un4_s, un5_s, un6_s, un7_s, n_add, n_mul, n_addM, n_addD, n_Dadd, n_subD, n_sub, n_div, nD_succ, nD_zero, n_negM, cl_n, cl_d, rd_n, rd_d, wr_n, wr_d, al_n, al_d, b2i_t, b2i_f, lt_t, lt_f, le_t, le_f, eq_t, eq_f, dlt_t, dlt_f, ltd_t, ltd_f, ddl_t, ddl_f, dle_t, dle_f, led_t, led_f, deq_t, deq_f, eqd_t, eqd_f, dde_t, dde_f, m_ne, n_neM, m_lt, n_ltM, m_le, n_leM, m_eqD, m_neD, d_eqM, d_neM, up_t, up_f, bit_n, bit_d, rp_n, rp_d, asb1, sh1_n, sh1_d, or_n, ↓reduceIte, ite_self, Nat.add_sub_cancel, Nat.sub_self, Nat.add_zero, Nat.zero_add, Nat.mul_zero, Nat.zero_mul, eq_self, and_true, true_and, or_true, true_or, and_self, or_self, not_true_eq_false, not_false_eq_true, e1, c, ne_eq, decide_true, e2, eb, Bool.not_true, Bool.and_false]
    | false =>
      rw [hs, if_neg Bool.false_ne_true] at eb
      by_cases c2 : T (41 + p) = T (7 + i) + 1
      · simp (disch := omega) only [i_0, i_1, i_2, i_3, i_4, i_5, i_6, i_7, i_8, i_9, i_10, i_11, i_12, i_13, i_14, i_15, i_16, i_17, i_18, i_19, i_20, i_21, i_22, i_23, i_24, i_25, i_26, i_27, i_28, i_29, i_30, i_31, i_32, i_36, i_40, i_41, i_43, i_48, i_50, i_56, i_57, i_59, i_63, i_64, i_69, i_75, i_76, i_77, i_78, i_79, i_80, i_95, i_96, i_97, i_98, i_99, i_100, i_101, i_102, i_103, i_104, i_105, i_108, i_109, i_110, i_111, i_112, i_113, i_114, i_115, i_116, i_117, i_118, i_119, i_121, i_122, i_123, i_131, i_160, i_199, i_220, i_255, i_256, i_400, i_531, i_999, i_1000, i_1593, i_6000, i_6001, i_6002, i_10000, i_16383, i_16384, i_32768, i_100000, i_294912, i_1000000, bd0_s, bdS2_0, bdS2_1, bdS3_0, bdS3_1, bdS3_2, bdS4_0, bdS4_1, bdS4_2, bdS4_3, un0_s, bd1_s, bd2_s, bd3_s, bd4_s, bd5_s, bd6_s, bd7_s, bd8_s, bd9_s, bd10_s, bd11_s, bd12_s, bd13_s, bd14_s, bd15_s, bd16_s, un1_s, un2_s, un3_s, un4_s, un5_s, un6_s, un7_s, n_add, n_mul, n_addM, n_addD, n_Dadd, n_subD, n_sub, n_div, nD_succ, nD_zero, n_negM, cl_n, cl_d, rd_n, rd_d, wr_n, wr_d, al_n, al_d, b2i_t, b2i_f, lt_t, lt_f, le_t, le_f, eq_t, eq_f, dlt_t, dlt_f, ltd_t, ltd_f, ddl_t, ddl_f, dle_t, dle_f, led_t, led_f, deq_t, deq_f, eqd_t, eqd_f, dde_t, dde_f, m_ne, n_neM, m_lt, n_ltM, m_le, n_leM, m_eqD, m_neD, d_eqM, d_neM, up_t, up_f, bit_n, bit_d, rp_n, rp_d, asb1, sh1_n, sh1_d, or_n, ↓reduceIte, ite_self, Nat.add_sub_cancel, Nat.sub_self, Nat.add_zero, Nat.zero_add, Nat.mul_zero, Nat.zero_mul, eq_self, and_true, true_and, or_true, true_or, and_self, or_self, not_true_eq_false, not_false_eq_true, e1, c, ne_eq, decide_true, e2, eb, n01, decide_false, e3, e4, e5, e6, c2, Bool.not_false, Bool.and_self]
      · simp (disch := omega) only [i_0, i_1, i_2, i_3, i_4, i_5, i_6, i_7, i_8, i_9, i_10, i_11, i_12, i_13, i_14, i_15, i_16, i_17, i_18, i_19, i_20, i_21, i_22, i_23, i_24, i_25, i_26, i_27, i_28, i_29, i_30, i_31, i_32, i_36, i_40, i_41, i_43, i_48, i_50, i_56, i_57, i_59, i_63, i_64, i_69, i_75, i_76, i_77, i_78, i_79, i_80, i_95, i_96, i_97, i_98, i_99, i_100, i_101, i_102, i_103, i_104, i_105, i_108, i_109, i_110, i_111, i_112, i_113, i_114, i_115, i_116, i_117, i_118, i_119, i_121, i_122, i_123, i_131, i_160, i_199, i_220, i_255, i_256, i_400, i_531, i_999, i_1000, i_1593, i_6000, i_6001, i_6002, i_10000, i_16383, i_16384, i_32768, i_100000, i_294912, i_1000000, bd0_s, bdS2_0, bdS2_1, bdS3_0, bdS3_1, bdS3_2, bdS4_0, bdS4_1, bdS4_2, bdS4_3, un0_s, bd1_s, bd2_s, bd3_s, bd4_s, bd5_s, bd6_s, bd7_s, bd8_s, bd9_s, bd10_s, bd11_s, bd12_s, bd13_s, bd14_s, bd15_s, bd16_s, un1_s, un2_s, un3_s, un4_s, un5_s, un6_s, un7_s, n_add, n_mul, n_addM, n_addD, n_Dadd, n_subD, n_sub, n_div, nD_succ, nD_zero, n_negM, cl_n, cl_d, rd_n, rd_d, wr_n, wr_d, al_n, al_d, b2i_t, b2i_f, lt_t, lt_f, le_t, le_f, eq_t, eq_f, dlt_t, dlt_f, ltd_t, ltd_f, ddl_t, ddl_f, dle_t, dle_f, led_t, led_f, deq_t, deq_f, eqd_t, eqd_f, dde_t, dde_f, m_ne, n_neM, m_lt, n_ltM, m_le, n_leM, m_eqD, m_neD, d_eqM, d_neM, up_t, up_f, bit_n, bit_d, rp_n, rp_d, asb1, sh1_n, sh1_d, or_n, ↓reduceIte, ite_self, Nat.add_sub_cancel, Nat.sub_self, Nat.add_zero, Nat.zero_add, Nat.mul_zero, Nat.zero_mul, eq_self, and_true, true_and, or_true, true_or, and_self, or_self, not_true_eq_false, not_false_eq_true, e1, c, ne_eq, decide_true, e2, eb, n01, decide_false, e3, e4, e5, e6, c2, Bool.false_and]
theorem costs5 (hm : mv < 256) (hP : PlAt T pc) {i p : Nat} (hi : i < 8) (ht : pl O i < 15) (hp : p < 15) (hw : T (41 + p) ≠ 0) : FX5_costs pc (lN (enc O mv)) (nI i) (nI (cw T p)) = some (nI (cst 100 p (pl O i))) := by
  have e1 := placeIn_n (O := O) (mv := mv) hi hm
  have e2 := hP p hp hw
  have hcl := cw_le T p
  have e3 := abI_n (a := pl O i / 3) (b := p / 3) (by omega) (by omega)
  unfold FX5_costs FX5_costs_j31 cst dst
  by_cases c : pl O i = p
  · have e4 : rd 15 pc (nI (cw T p)) = some (nI p) := rdn (by omega) (by omega) e2
    rw [e1, bd1_s, e4, bd1_s, if_pos (by rw [c]), bd1_s, show (3 : Int32) = nI 3 from rfl, n_div (by omega) (by omega), n_div (by omega) (by omega), e3, if_pos c, show (0 : Int32) = nI 0 from rfl, n_add]
  · have e4 : rd 15 pc (nI (cw T p)) = some (nI p) := rdn (by omega) (by omega) e2
    rw [e1, bd1_s, e4, bd1_s, if_neg (fun z => c (nI_inj z (by omega) (by omega))), bd1_s, show (3 : Int32) = nI 3 from rfl, n_div (by omega) (by omega), n_div (by omega) (by omega), e3, if_neg c, show (100 : Int32) = nI 100 from rfl, n_add]
theorem mF_skip {hi : Nat → Bool} {S : Nat} {co nx : Nat → Nat} {base p : Nat} (h : hi p = false) : mF hi S co nx base (p + 1) = mF hi S co nx base p := by rw [mF, h, Bool.false_and, if_neg Bool.false_ne_true]
theorem hit_w {i p : Nat} (h : T (41 + p) = 0) : hit T O i p = false := by
  unfold hit
  rw [decide_eq_false (show ¬ T (41 + p) = T (7 + i) + 1 by omega), Bool.and_false]
theorem pow_np {S k np : Nat} (hS : S < 2 ^ np) (hk : k < np) (hn : np ≤ 15) : S ||| 2 ^ k < 2 ^ np ∧ S < 32768 ∧ S ||| 2 ^ k < 32768 := by
  have h1 : S ||| 2 ^ k < 2 ^ np := Nat.or_lt_two_pow hS (Nat.pow_lt_pow_right (by decide) hk)
  have h2 : 2 ^ np ≤ 2 ^ 15 := Nat.pow_le_pow_right (by decide) hn
  rw [show (2 : Nat) ^ 15 = 32768 from rfl] at h2
  exact ⟨h1, by omega, by omega⟩
/-- what the array holds -/
def L0At (T O : Nat → Nat) (L : Nat → Int32) (i : Nat) : Prop := ∀ j S, i ≤ j → j ≤ T 6 → S < 2 ^ cw T 15 → L (j * 32768 + S) = nI (c0 T O (T 6 - j) (em T S 15))
theorem weighs5 (ht : TwAt t T) (hW : WT T) (hm : mv < 256) (hP : PlAt T pc) {i S : Nat} {L : Nat → Int32} (hi : i < T 6) (hS : S < 2 ^ cw T 15) (hL : L0At T O L (i + 1)) : FX5_weighs L pc (nI (cw T 15)) (lN (enc O mv)) t (nI i) (nI S) = some (upd L (i * 32768 + S) (nI (c0 T O (T 6 - i) (em T S 15)))) := by
  have hb := hW.b
  have hnp := cw15 T
  have h15 : 2 ^ cw T 15 ≤ 2 ^ 15 := Nat.pow_le_pow_right (by decide) hnp
  rw [show (2 : Nat) ^ 15 = 32768 from rfl] at h15
  have e1 := at5 (i := i + 1) (S := S) (by omega) (by omega)
  have e2 := at5 (i := i) (S := S) (by omega) (by omega)
  have e3 := hL (i + 1) S (by omega) (by omega) hS
  have h1 := c0_le (T := T) (O := O) (T 6 - (i + 1)) (em T S 15)
  have key : ∀ p, p ≤ 15 → loopC (fun s => FX5_weighs_b21 L pc (nI (cw T 15)) (lN (enc O mv)) t (nI i) (nI S) s.1 s.2) (nI (10000 + c0 T O (T 6 - (i + 1)) (em T S 15)), nI 0) = loopC (fun s => FX5_weighs_b21 L pc (nI (cw T 15)) (lN (enc O mv)) t (nI i) (nI S) s.1 s.2) (nI (mF (hit T O i) (em T S 15) (fun p => cst 100 p (pl O i)) (c0 T O (T 6 - (i + 1))) (10000 + c0 T O (T 6 - (i + 1)) (em T S 15)) p), nI (cw T p)) := by
    intro p
    induction p with
    | zero => intro _; rfl
    | succ p ih =>
      intro hp
      rw [ih (by omega)]
      by_cases c : T (41 + p) = 0
      · rw [mF_skip (hit_w c), cw_n c]
      · rw [cw_y c]
        refine loopC_inl ?_
        have hlt := cw_lt c (show p < 15 by omega)
        obtain ⟨b1, b2, b3⟩ := pow_np hS hlt hnp
        have f1 := can5 (O := O) (i := i) (S := S) ht hW hm hP hi (show p < 15 by omega) c (by omega)
        have h2 := mF_le (hit T O i) (em T S 15) (fun p => cst 100 p (pl O i)) (c0 T O (T 6 - (i + 1))) (10000 + c0 T O (T 6 - (i + 1)) (em T S 15)) p
        show FX5_weighs_b21 L pc (nI (cw T 15)) (lN (enc O mv)) t (nI i) (nI S) (nI (mF _ _ _ _ _ p)) (nI (cw T p)) = _
        rw [mF]
        generalize mF (hit T O i) (em T S 15) (fun p => cst 100 p (pl O i)) (c0 T O (T 6 - (i + 1))) (10000 + c0 T O (T 6 - (i + 1)) (em T S 15)) p = acc at *
        unfold FX5_weighs_b21 FX5_weighs_j72
        cases hc : (hit T O i p && !(em T S 15).testBit p) with
        | false =>
          rw [hc] at f1
          simp (disch := omega) only [i_0, i_1, i_2, i_3, i_4, i_5, i_6, i_7, i_8, i_9, i_10, i_11, i_12, i_13, i_14, i_15, i_16, i_17, i_18, i_19, i_20, i_21, i_22, i_23, i_24, i_25, i_26, i_27, i_28, i_29, i_30, i_31, i_32, i_36, i_40, i_41, i_43, i_48, i_50, i_56, i_57, i_59, i_63, i_64, i_69, i_75, i_76, i_77, i_78, i_79, i_80, i_95, i_96, i_97, i_98, i_99, i_100, i_101, i_102, i_103, i_104, i_105, i_108, i_109, i_110, i_111, i_112, i_113, i_114, i_115, i_116, i_117, i_118, i_119, i_121, i_122, i_123, i_131, i_160, i_199, i_220, i_255, i_256, i_400, i_531, i_999, i_1000, i_1593, i_6000, i_6001, i_6002, i_10000, i_16383, i_16384, i_32768, i_100000, i_294912, i_1000000, bd0_s, bdS2_0, bdS2_1, bdS3_0, bdS3_1, bdS3_2, bdS4_0, bdS4_1, bdS4_2, bdS4_3, un0_s, bd1_s, bd2_s, bd3_s, bd4_s, bd5_s, bd6_s, bd7_s, bd8_s, bd9_s, bd10_s, bd11_s, bd12_s, bd13_s, bd14_s, bd15_s, bd16_s, un1_s, un2_s, un3_s, un4_s, un5_s, un6_s, un7_s, n_add, n_mul, n_addM, n_addD, n_Dadd, n_subD, n_sub, n_div, nD_succ, nD_zero, n_negM, cl_n, cl_d, rd_n, rd_d, wr_n, wr_d, al_n, al_d, b2i_t, b2i_f, lt_t, lt_f, le_t, le_f, eq_t, eq_f, dlt_t, dlt_f, ltd_t, ltd_f, ddl_t, ddl_f, dle_t, dle_f, led_t, led_f, deq_t, deq_f, eqd_t, eqd_f, dde_t, dde_f, m_ne, n_neM, m_lt, n_ltM, m_le, n_leM, m_eqD, m_neD, d_eqM, d_neM, up_t, up_f, bit_n, bit_d, rp_n, rp_d, asb1, sh1_n, sh1_d, or_n, ↓reduceIte, ite_self, Nat.add_sub_cancel, Nat.sub_self, Nat.add_zero, Nat.zero_add, Nat.mul_zero, Nat.zero_mul, eq_self, and_true, true_and, or_true, true_or, and_self, or_self, not_true_eq_false, not_false_eq_true, f1, Bool.false_eq_true]
        | true =>
          have hpl : pl O i < 15 := by
            by_cases q : i < T 6 ∧ pl O i < 15
            · exact q.2
            · rw [hit_out q, Bool.false_and] at hc
              exact absurd hc Bool.false_ne_true
          rw [hc] at f1
          have f2 := costs5 (T := T) hm hP (i := i) (by omega) hpl (show p < 15 by omega) c
          have f3 := at5 (i := i + 1) (S := S ||| 2 ^ cw T p) (by omega) b3
          have f4 := hL (i + 1) (S ||| 2 ^ cw T p) (by omega) (by omega) b1
          rw [em_or (show p < 15 by omega) c] at f4
          have h3 := cst_le (w := 100) (by omega) (show p < 15 by omega) hpl
          have h4 := c0_le (T := T) (O := O) (T 6 - (i + 1)) (em T S 15 ||| 2 ^ p)
          have f5 : mnI (nI acc) (nI (cst 100 p (pl O i) + c0 T O (T 6 - (i + 1)) (em T S 15 ||| 2 ^ p))) = nI (min acc (cst 100 p (pl O i) + c0 T O (T 6 - (i + 1)) (em T S 15 ||| 2 ^ p))) := by
            unfold mnI
            by_cases q : cst 100 p (pl O i) + c0 T O (T 6 - (i + 1)) (em T S 15 ||| 2 ^ p) < acc
            · rw [if_pos (by rw [lt_t q (by omega)]; trivial), Nat.min_eq_right (by omega)]
            · rw [if_neg (by rw [lt_f (by omega) (by omega)]; exact id), Nat.min_eq_left (by omega)]
          simp (disch := omega) only [i_0, i_1, i_2, i_3, i_4, i_5, i_6, i_7, i_8, i_9, i_10, i_11, i_12, i_13, i_14, i_15, i_16, i_17, i_18, i_19, i_20, i_21, i_22, i_23, i_24, i_25, i_26, i_27, i_28, i_29, i_30, i_31, i_32, i_36, i_40, i_41, i_43, i_48, i_50, i_56, i_57, i_59, i_63, i_64, i_69, i_75, i_76, i_77, i_78, i_79, i_80, i_95, i_96, i_97, i_98, i_99, i_100, i_101, i_102, i_103, i_104, i_105, i_108, i_109, i_110, i_111, i_112, i_113, i_114, i_115, i_116, i_117, i_118, i_119, i_121, i_122, i_123, i_131, i_160, i_199, i_220, i_255, i_256, i_400, i_531, i_999, i_1000, i_1593, i_6000, i_6001, i_6002, i_10000, i_16383, i_16384, i_32768, i_100000, i_294912, i_1000000, bd0_s, bdS2_0, bdS2_1, bdS3_0, bdS3_1, bdS3_2, bdS4_0, bdS4_1, bdS4_2, bdS4_3, un0_s, bd1_s, bd2_s, bd3_s, bd4_s, bd5_s, bd6_s, bd7_s, bd8_s, bd9_s, bd10_s, bd11_s, bd12_s, bd13_s, bd14_s, bd15_s, bd16_s, un1_s, un2_s, un3_s, un4_s, un5_s, un6_s, un7_s, n_add, n_mul, n_addM, n_addD, n_Dadd, n_subD, n_sub, n_div, nD_succ, nD_zero, n_negM, cl_n, cl_d, rd_n, rd_d, wr_n, wr_d, al_n, al_d, b2i_t, b2i_f, lt_t, lt_f, le_t, le_f, eq_t, eq_f, dlt_t, dlt_f, ltd_t, ltd_f, ddl_t, ddl_f, dle_t, dle_f, led_t, led_f, deq_t, deq_f, eqd_t, eqd_f, dde_t, dde_f, m_ne, n_neM, m_lt, n_ltM, m_le, n_leM, m_eqD, m_neD, d_eqM, d_neM, up_t, up_f, bit_n, bit_d, rp_n, rp_d, asb1, sh1_n, sh1_d, or_n, ↓reduceIte, ite_self, Nat.add_sub_cancel, Nat.sub_self, Nat.add_zero, Nat.zero_add, Nat.mul_zero, Nat.zero_mul, eq_self, and_true, true_and, or_true, true_or, and_self, or_self, not_true_eq_false, not_false_eq_true, f1, f2, f3, f4, f5]
  have k15 := key 15 (by omega)
  have kend : loopC (fun s => FX5_weighs_b21 L pc (nI (cw T 15)) (lN (enc O mv)) t (nI i) (nI S) s.1 s.2) (nI (mF (hit T O i) (em T S 15) (fun p => cst 100 p (pl O i)) (c0 T O (T 6 - (i + 1))) (10000 + c0 T O (T 6 - (i + 1)) (em T S 15)) 15), nI (cw T 15)) = some (nI (mF (hit T O i) (em T S 15) (fun p => cst 100 p (pl O i)) (c0 T O (T 6 - (i + 1))) (10000 + c0 T O (T 6 - (i + 1)) (em T S 15)) 15)) := by
    refine loopC_inr ?_
    show FX5_weighs_b21 L pc (nI (cw T 15)) (lN (enc O mv)) t (nI i) (nI S) _ (nI (cw T 15)) = _
    unfold FX5_weighs_b21
    simp (disch := omega) only [i_0, i_1, i_2, i_3, i_4, i_5, i_6, i_7, i_8, i_9, i_10, i_11, i_12, i_13, i_14, i_15, i_16, i_17, i_18, i_19, i_20, i_21, i_22, i_23, i_24, i_25, i_26, i_27, i_28, i_29, i_30, i_31, i_32, i_36, i_40, i_41, i_43, i_48, i_50, i_56, i_57, i_59, i_63, i_64, i_69, i_75, i_76, i_77, i_78, i_79, i_80, i_95, i_96, i_97, i_98, i_99, i_100, i_101, i_102, i_103, i_104, i_105, i_108, i_109, i_110, i_111, i_112, i_113, i_114, i_115, i_116, i_117, i_118, i_119, i_121, i_122, i_123, i_131, i_160, i_199, i_220, i_255, i_256, i_400, i_531, i_999, i_1000, i_1593, i_6000, i_6001, i_6002, i_10000, i_16383, i_16384, i_32768, i_100000, i_294912, i_1000000, bd0_s, bdS2_0, bdS2_1, bdS3_0, bdS3_1, bdS3_2, bdS4_0, bdS4_1, bdS4_2, bdS4_3, un0_s, bd1_s, bd2_s, bd3_s, bd4_s, bd5_s, bd6_s, bd7_s, bd8_s, bd9_s, bd10_s, bd11_s, bd12_s, bd13_s, bd14_s, bd15_s, bd16_s, un1_s, un2_s, un3_s, un4_s, un5_s, un6_s, un7_s, n_add, n_mul, n_addM, n_addD, n_Dadd, n_subD, n_sub, n_div, nD_succ, nD_zero, n_negM, cl_n, cl_d, rd_n, rd_d, wr_n, wr_d, al_n, al_d, b2i_t, b2i_f, lt_t, lt_f, le_t, le_f, eq_t, eq_f, dlt_t, dlt_f, ltd_t, ltd_f, ddl_t, ddl_f, dle_t, dle_f, led_t, led_f, deq_t, deq_f, eqd_t, eqd_f, dde_t, dde_f, m_ne, n_neM, m_lt, n_ltM, m_le, n_leM, m_eqD, m_neD, d_eqM, d_neM, up_t, up_f, bit_n, bit_d, rp_n, rp_d, asb1, sh1_n, sh1_d, or_n, ↓reduceIte, ite_self, Nat.add_sub_cancel, Nat.sub_self, Nat.add_zero, Nat.zero_add, Nat.mul_zero, Nat.zero_mul, eq_self, and_true, true_and, or_true, true_or, and_self, or_self, not_true_eq_false, not_false_eq_true]
  rw [kend] at k15
  have ec : c0 T O (T 6 - i) (em T S 15) = mF (hit T O i) (em T S 15) (fun p => cst 100 p (pl O i)) (c0 T O (T 6 - (i + 1))) (10000 + c0 T O (T 6 - (i + 1)) (em T S 15)) 15 := by
    rw [show T 6 - i = (T 6 - (i + 1)) + 1 by omega, c0, show T 6 - 1 - (T 6 - (i + 1)) = i by omega]
  rw [ec]
  unfold FX5_weighs
  simp (disch := omega) only [i_0, i_1, i_2, i_3, i_4, i_5, i_6, i_7, i_8, i_9, i_10, i_11, i_12, i_13, i_14, i_15, i_16, i_17, i_18, i_19, i_20, i_21, i_22, i_23, i_24, i_25, i_26, i_27, i_28, i_29, i_30, i_31, i_32, i_36, i_40, i_41, i_43, i_48, i_50, i_56, i_57, i_59, i_63, i_64, i_69, i_75, i_76, i_77, i_78, i_79, i_80, i_95, i_96, i_97, i_98, i_99, i_100, i_101, i_102, i_103, i_104, i_105, i_108, i_109, i_110, i_111, i_112, i_113, i_114, i_115, i_116, i_117, i_118, i_119, i_121, i_122, i_123, i_131, i_160, i_199, i_220, i_255, i_256, i_400, i_531, i_999, i_1000, i_1593, i_6000, i_6001, i_6002, i_10000, i_16383, i_16384, i_32768, i_100000, i_294912, i_1000000, bd0_s, bdS2_0, bdS2_1, bdS3_0, bdS3_1, bdS3_2, bdS4_0, bdS4_1, bdS4_2, bdS4_3, un0_s, bd1_s, bd2_s, bd3_s, bd4_s, bd5_s, bd6_s, bd7_s, bd8_s, bd9_s, bd10_s, bd11_s, bd12_s, bd13_s, bd14_s, bd15_s, bd16_s, un1_s, un2_s, un3_s, un4_s, un5_s, un6_s, un7_s, n_add, n_mul, n_addM, n_addD, n_Dadd, n_subD, n_sub, n_div, nD_succ, nD_zero, n_negM, cl_n, cl_d, rd_n, rd_d, wr_n, wr_d, al_n, al_d, b2i_t, b2i_f, lt_t, lt_f, le_t, le_f, eq_t, eq_f, dlt_t, dlt_f, ltd_t, ltd_f, ddl_t, ddl_f, dle_t, dle_f, led_t, led_f, deq_t, deq_f, eqd_t, eqd_f, dde_t, dde_f, m_ne, n_neM, m_lt, n_ltM, m_le, n_leM, m_eqD, m_neD, d_eqM, d_neM, up_t, up_f, bit_n, bit_d, rp_n, rp_d, asb1, sh1_n, sh1_d, or_n, ↓reduceIte, ite_self, Nat.add_sub_cancel, Nat.sub_self, Nat.add_zero, Nat.zero_add, Nat.mul_zero, Nat.zero_mul, eq_self, and_true, true_and, or_true, true_or, and_self, or_self, not_true_eq_false, not_false_eq_true, e1, e3, k15, e2]
theorem pow_sh : ∀ np, np < 16 → (nI 1 <<< (nI np &&& nI 31)) = nI (2 ^ np) := by decide +kernel
theorem level5 (ht : TwAt t T) (hW : WT T) (hm : mv < 256) (hP : PlAt T pc) {i : Nat} (hi : i < T 6) (La : Nat → Int32) (hL : L0At T O La (i + 1)) : ∃ L1, loopC (fun s => FX5_finds_b123 (lN (enc O mv)) t pc (nI (cw T 15)) (nI i) s.1 s.2) (nI 0, La) = some L1 ∧ L0At T O L1 i := by
  have hb := hW.b
  have hnp := cw15 T
  have h15 : 2 ^ cw T 15 ≤ 2 ^ 15 := Nat.pow_le_pow_right (by decide) hnp
  rw [show (2 : Nat) ^ 15 = 32768 from rfl] at h15
  have esh := pow_sh (cw T 15) (by omega)
  exact up_rule (B := fun s => FX5_finds_b123 (lN (enc O mv)) t pc (nI (cw T 15)) (nI i) s.1 s.2) (fun k (a : Nat → Int32) => (nI k, a)) (fun k a => L0At T O a (i + 1) ∧ ∀ S, S < k → a (i * 32768 + S) = nI (c0 T O (T 6 - i) (em T S 15))) (fun a => L0At T O a i) (2 ^ cw T 15) (by
    rintro S L hS ⟨hL, hl⟩
    have e1 := weighs5 ht hW hm hP hi hS hL
    refine Or.inl ⟨upd L (i * 32768 + S) (nI (c0 T O (T 6 - i) (em T S 15))), ?_, fun j S' hj hj8 hS' => ?_, fun S' hS' => ?_⟩
    · show FX5_finds_b123 (lN (enc O mv)) t pc (nI (cw T 15)) (nI i) (nI S) L = _
      unfold FX5_finds_b123
      simp (disch := omega) only [i_0, i_1, i_2, i_3, i_4, i_5, i_6, i_7, i_8, i_9, i_10, i_11, i_12, i_13, i_14, i_15, i_16, i_17, i_18, i_19, i_20, i_21, i_22, i_23, i_24, i_25, i_26, i_27, i_28, i_29, i_30, i_31, i_32, i_36, i_40, i_41, i_43, i_48, i_50, i_56, i_57, i_59, i_63, i_64, i_69, i_75, i_76, i_77, i_78, i_79, i_80, i_95, i_96, i_97, i_98, i_99, i_100, i_101, i_102, i_103, i_104, i_105, i_108, i_109, i_110, i_111, i_112, i_113, i_114, i_115, i_116, i_117, i_118, i_119, i_121, i_122, i_123, i_131, i_160, i_199, i_220, i_255, i_256, i_400, i_531, i_999, i_1000, i_1593, i_6000, i_6001, i_6002, i_10000, i_16383, i_16384, i_32768, i_100000, i_294912, i_1000000, bd0_s, bdS2_0, bdS2_1, bdS3_0, bdS3_1, bdS3_2, bdS4_0, bdS4_1, bdS4_2, bdS4_3, un0_s, bd1_s, bd2_s, bd3_s, bd4_s, bd5_s, bd6_s, bd7_s, bd8_s, bd9_s, bd10_s, bd11_s, bd12_s, bd13_s, bd14_s, bd15_s, bd16_s, un1_s, un2_s, un3_s, un4_s, un5_s, un6_s, un7_s, n_add, n_mul, n_addM, n_addD, n_Dadd, n_subD, n_sub, n_div, nD_succ, nD_zero, n_negM, cl_n, cl_d, rd_n, rd_d, wr_n, wr_d, al_n, al_d, b2i_t, b2i_f, lt_t, lt_f, le_t, le_f, eq_t, eq_f, dlt_t, dlt_f, ltd_t, ltd_f, ddl_t, ddl_f, dle_t, dle_f, led_t, led_f, deq_t, deq_f, eqd_t, eqd_f, dde_t, dde_f, m_ne, n_neM, m_lt, n_ltM, m_le, n_leM, m_eqD, m_neD, d_eqM, d_neM, up_t, up_f, bit_n, bit_d, rp_n, rp_d, asb1, sh1_n, sh1_d, or_n, ↓reduceIte, ite_self, Nat.add_sub_cancel, Nat.sub_self, Nat.add_zero, Nat.zero_add, Nat.mul_zero, Nat.zero_mul, eq_self, and_true, true_and, or_true, true_or, and_self, or_self, not_true_eq_false, not_false_eq_true, esh, e1]
    · rw [up_f (by omega)]
      exact hL j S' hj hj8 hS'
    · by_cases c : S' = S
      · rw [c, up_t rfl]
      · rw [up_f (by omega), hl S' (by omega)]) (by
    rintro L ⟨hL, hl⟩
    refine ⟨L, ?_, fun j S hj hj8 hS => ?_⟩
    · show FX5_finds_b123 (lN (enc O mv)) t pc (nI (cw T 15)) (nI i) (nI (2 ^ cw T 15)) L = _
      unfold FX5_finds_b123
      simp (disch := omega) only [i_0, i_1, i_2, i_3, i_4, i_5, i_6, i_7, i_8, i_9, i_10, i_11, i_12, i_13, i_14, i_15, i_16, i_17, i_18, i_19, i_20, i_21, i_22, i_23, i_24, i_25, i_26, i_27, i_28, i_29, i_30, i_31, i_32, i_36, i_40, i_41, i_43, i_48, i_50, i_56, i_57, i_59, i_63, i_64, i_69, i_75, i_76, i_77, i_78, i_79, i_80, i_95, i_96, i_97, i_98, i_99, i_100, i_101, i_102, i_103, i_104, i_105, i_108, i_109, i_110, i_111, i_112, i_113, i_114, i_115, i_116, i_117, i_118, i_119, i_121, i_122, i_123, i_131, i_160, i_199, i_220, i_255, i_256, i_400, i_531, i_999, i_1000, i_1593, i_6000, i_6001, i_6002, i_10000, i_16383, i_16384, i_32768, i_100000, i_294912, i_1000000, bd0_s, bdS2_0, bdS2_1, bdS3_0, bdS3_1, bdS3_2, bdS4_0, bdS4_1, bdS4_2, bdS4_3, un0_s, bd1_s, bd2_s, bd3_s, bd4_s, bd5_s, bd6_s, bd7_s, bd8_s, bd9_s, bd10_s, bd11_s, bd12_s, bd13_s, bd14_s, bd15_s, bd16_s, un1_s, un2_s, un3_s, un4_s, un5_s, un6_s, un7_s, n_add, n_mul, n_addM, n_addD, n_Dadd, n_subD, n_sub, n_div, nD_succ, nD_zero, n_negM, cl_n, cl_d, rd_n, rd_d, wr_n, wr_d, al_n, al_d, b2i_t, b2i_f, lt_t, lt_f, le_t, le_f, eq_t, eq_f, dlt_t, dlt_f, ltd_t, ltd_f, ddl_t, ddl_f, dle_t, dle_f, led_t, led_f, deq_t, deq_f, eqd_t, eqd_f, dde_t, dde_f, m_ne, n_neM, m_lt, n_ltM, m_le, n_leM, m_eqD, m_neD, d_eqM, d_neM, up_t, up_f, bit_n, bit_d, rp_n, rp_d, asb1, sh1_n, sh1_d, or_n, ↓reduceIte, ite_self, Nat.add_sub_cancel, Nat.sub_self, Nat.add_zero, Nat.zero_add, Nat.mul_zero, Nat.zero_mul, eq_self, and_true, true_and, or_true, true_or, and_self, or_self, not_true_eq_false, not_false_eq_true, esh]
    · by_cases c : j = i
      · rw [c]; exact hl S hS
      · exact hL j S (by omega) hj8 hS) 0 La (Nat.zero_le _) ⟨hL, fun S hS => absurd hS (Nat.not_lt_zero S)⟩
theorem least5 (ht : TwAt t T) (hW : WT T) (hm : mv < 256) (hP : PlAt T pc) : ∀ k (L : Nat → Int32), k ≤ T 6 → L0At T O L k → ∃ L1, loopC (fun s => FX5_finds_b117 (lN (enc O mv)) t pc (nI (cw T 15)) s.1 s.2) (nD k, L) = some L1 ∧ L0At T O L1 0 := by
  have hb := hW.b
  intro k
  induction k with
  | zero =>
    intro L _ h
    refine ⟨L, loopC_inr ?_, h⟩
    show FX5_finds_b117 (lN (enc O mv)) t pc (nI (cw T 15)) (nD 0) L = _
    unfold FX5_finds_b117
    simp (disch := omega) only [i_0, i_1, i_2, i_3, i_4, i_5, i_6, i_7, i_8, i_9, i_10, i_11, i_12, i_13, i_14, i_15, i_16, i_17, i_18, i_19, i_20, i_21, i_22, i_23, i_24, i_25, i_26, i_27, i_28, i_29, i_30, i_31, i_32, i_36, i_40, i_41, i_43, i_48, i_50, i_56, i_57, i_59, i_63, i_64, i_69, i_75, i_76, i_77, i_78, i_79, i_80, i_95, i_96, i_97, i_98, i_99, i_100, i_101, i_102, i_103, i_104, i_105, i_108, i_109, i_110, i_111, i_112, i_113, i_114, i_115, i_116, i_117, i_118, i_119, i_121, i_122, i_123, i_131, i_160, i_199, i_220, i_255, i_256, i_400, i_531, i_999, i_1000, i_1593, i_6000, i_6001, i_6002, i_10000, i_16383, i_16384, i_32768, i_100000, i_294912, i_1000000, bd0_s, bdS2_0, bdS2_1, bdS3_0, bdS3_1, bdS3_2, bdS4_0, bdS4_1, bdS4_2, bdS4_3, un0_s, bd1_s, bd2_s, bd3_s, bd4_s, bd5_s, bd6_s, bd7_s, bd8_s, bd9_s, bd10_s, bd11_s, bd12_s, bd13_s, bd14_s, bd15_s, bd16_s, un1_s, un2_s, un3_s, un4_s, un5_s, un6_s, un7_s, n_add, n_mul, n_addM, n_addD, n_Dadd, n_subD, n_sub, n_div, nD_succ, nD_zero, n_negM, cl_n, cl_d, rd_n, rd_d, wr_n, wr_d, al_n, al_d, b2i_t, b2i_f, lt_t, lt_f, le_t, le_f, eq_t, eq_f, dlt_t, dlt_f, ltd_t, ltd_f, ddl_t, ddl_f, dle_t, dle_f, led_t, led_f, deq_t, deq_f, eqd_t, eqd_f, dde_t, dde_f, m_ne, n_neM, m_lt, n_ltM, m_le, n_leM, m_eqD, m_neD, d_eqM, d_neM, up_t, up_f, bit_n, bit_d, rp_n, rp_d, asb1, sh1_n, sh1_d, or_n, ↓reduceIte, ite_self, Nat.add_sub_cancel, Nat.sub_self, Nat.add_zero, Nat.zero_add, Nat.mul_zero, Nat.zero_mul, eq_self, and_true, true_and, or_true, true_or, and_self, or_self, not_true_eq_false, not_false_eq_true]
  | succ k ih =>
    intro L hk h
    obtain ⟨L1, h1, h2⟩ := level5 ht hW hm hP (show k < T 6 by omega) L h
    obtain ⟨L2, h3, h4⟩ := ih L1 (by omega) h2
    refine ⟨L2, ?_, h4⟩
    rw [← h3]
    refine loopC_inl ?_
    show FX5_finds_b117 (lN (enc O mv)) t pc (nI (cw T 15)) (nD (k + 1)) L = _
    unfold FX5_finds_b117
    simp (disch := omega) only [i_0, i_1, i_2, i_3, i_4, i_5, i_6, i_7, i_8, i_9, i_10, i_11, i_12, i_13, i_14, i_15, i_16, i_17, i_18, i_19, i_20, i_21, i_22, i_23, i_24, i_25, i_26, i_27, i_28, i_29, i_30, i_31, i_32, i_36, i_40, i_41, i_43, i_48, i_50, i_56, i_57, i_59, i_63, i_64, i_69, i_75, i_76, i_77, i_78, i_79, i_80, i_95, i_96, i_97, i_98, i_99, i_100, i_101, i_102, i_103, i_104, i_105, i_108, i_109, i_110, i_111, i_112, i_113, i_114, i_115, i_116, i_117, i_118, i_119, i_121, i_122, i_123, i_131, i_160, i_199, i_220, i_255, i_256, i_400, i_531, i_999, i_1000, i_1593, i_6000, i_6001, i_6002, i_10000, i_16383, i_16384, i_32768, i_100000, i_294912, i_1000000, bd0_s, bdS2_0, bdS2_1, bdS3_0, bdS3_1, bdS3_2, bdS4_0, bdS4_1, bdS4_2, bdS4_3, un0_s, bd1_s, bd2_s, bd3_s, bd4_s, bd5_s, bd6_s, bd7_s, bd8_s, bd9_s, bd10_s, bd11_s, bd12_s, bd13_s, bd14_s, bd15_s, bd16_s, un1_s, un2_s, un3_s, un4_s, un5_s, un6_s, un7_s, n_add, n_mul, n_addM, n_addD, n_Dadd, n_subD, n_sub, n_div, nD_succ, nD_zero, n_negM, cl_n, cl_d, rd_n, rd_d, wr_n, wr_d, al_n, al_d, b2i_t, b2i_f, lt_t, lt_f, le_t, le_f, eq_t, eq_f, dlt_t, dlt_f, ltd_t, ltd_f, ddl_t, ddl_f, dle_t, dle_f, led_t, led_f, deq_t, deq_f, eqd_t, eqd_f, dde_t, dde_f, m_ne, n_neM, m_lt, n_ltM, m_le, n_leM, m_eqD, m_neD, d_eqM, d_neM, up_t, up_f, bit_n, bit_d, rp_n, rp_d, asb1, sh1_n, sh1_d, or_n, ↓reduceIte, ite_self, Nat.add_sub_cancel, Nat.sub_self, Nat.add_zero, Nat.zero_add, Nat.mul_zero, Nat.zero_mul, eq_self, and_true, true_and, or_true, true_or, and_self, or_self, not_true_eq_false, not_false_eq_true, h1]
/-- the index of a place that is chosen -/
def cwD (T : Nat → Nat) (m : Nat) : Nat := if m = 0 then 0 else cw T (m - 1) + 1
theorem chosen5 (ht : TwAt t T) (hW : WT T) (hm : mv < 256) (hP : PlAt T pc) {i S : Nat} {L : Nat → Int32} (hi : i < T 6) (hS : S < 2 ^ cw T 15) (hL : L0At T O L 0) : FX5_chosen L pc (nI (cw T 15)) (lN (enc O mv)) t (nI i) (nI S) = some (nD (cwD T (chS T O i (em T S 15)))) ∧ (chS T O i (em T S 15) ≠ 0 → T (41 + (chS T O i (em T S 15) - 1)) ≠ 0) := by
  have hb := hW.b
  have hnp := cw15 T
  have h15 : 2 ^ cw T 15 ≤ 2 ^ 15 := Nat.pow_le_pow_right (by decide) hnp
  rw [show (2 : Nat) ^ 15 = 32768 from rfl] at h15
  have e2 := at5 (i := i) (S := S) (by omega) (by omega)
  have e3 := hL i S (by omega) (by omega) hS
  have h1 := c0_le (T := T) (O := O) (T 6 - i) (em T S 15)
  have key : ∀ f p, p + f = 15 → (∃ r, loopC (fun s => FX5_chosen_b2 L pc (nI (cw T 15)) (lN (enc O mv)) t (nI i) (nI S) s) (nI (cw T p)) = some r ∧ ((r = .inr () ∧ fsR (chP T O i (em T S 15)) f p = 0) ∨ ∃ q, q < 15 ∧ fsR (chP T O i (em T S 15)) f p = q + 1 ∧ T (41 + q) ≠ 0 ∧ r = .inl (nI (cw T q)))) := by
    intro f
    induction f with
    | zero =>
      intro p hp
      refine ⟨.inr (), loopC_inr ?_, Or.inl ⟨rfl, rfl⟩⟩
      obtain rfl : p = 15 := by omega
      show FX5_chosen_b2 L pc (nI (cw T 15)) (lN (enc O mv)) t (nI i) (nI S) (nI (cw T 15)) = _
      unfold FX5_chosen_b2
      simp (disch := omega) only [i_0, i_1, i_2, i_3, i_4, i_5, i_6, i_7, i_8, i_9, i_10, i_11, i_12, i_13, i_14, i_15, i_16, i_17, i_18, i_19, i_20, i_21, i_22, i_23, i_24, i_25, i_26, i_27, i_28, i_29, i_30, i_31, i_32, i_36, i_40, i_41, i_43, i_48, i_50, i_56, i_57, i_59, i_63, i_64, i_69, i_75, i_76, i_77, i_78, i_79, i_80, i_95, i_96, i_97, i_98, i_99, i_100, i_101, i_102, i_103, i_104, i_105, i_108, i_109, i_110, i_111, i_112, i_113, i_114, i_115, i_116, i_117, i_118, i_119, i_121, i_122, i_123, i_131, i_160, i_199, i_220, i_255, i_256, i_400, i_531, i_999, i_1000, i_1593, i_6000, i_6001, i_6002, i_10000, i_16383, i_16384, i_32768, i_100000, i_294912, i_1000000, bd0_s, bdS2_0, bdS2_1, bdS3_0, bdS3_1, bdS3_2, bdS4_0, bdS4_1, bdS4_2, bdS4_3, un0_s, bd1_s, bd2_s, bd3_s, bd4_s, bd5_s, bd6_s, bd7_s, bd8_s, bd9_s, bd10_s, bd11_s, bd12_s, bd13_s, bd14_s, bd15_s, bd16_s, un1_s, un2_s, un3_s, un4_s, un5_s, un6_s, un7_s, n_add, n_mul, n_addM, n_addD, n_Dadd, n_subD, n_sub, n_div, nD_succ, nD_zero, n_negM, cl_n, cl_d, rd_n, rd_d, wr_n, wr_d, al_n, al_d, b2i_t, b2i_f, lt_t, lt_f, le_t, le_f, eq_t, eq_f, dlt_t, dlt_f, ltd_t, ltd_f, ddl_t, ddl_f, dle_t, dle_f, led_t, led_f, deq_t, deq_f, eqd_t, eqd_f, dde_t, dde_f, m_ne, n_neM, m_lt, n_ltM, m_le, n_leM, m_eqD, m_neD, d_eqM, d_neM, up_t, up_f, bit_n, bit_d, rp_n, rp_d, asb1, sh1_n, sh1_d, or_n, ↓reduceIte, ite_self, Nat.add_sub_cancel, Nat.sub_self, Nat.add_zero, Nat.zero_add, Nat.mul_zero, Nat.zero_mul, eq_self, and_true, true_and, or_true, true_or, and_self, or_self, not_true_eq_false, not_false_eq_true]
    | succ f ih =>
      intro p hp
      rw [fsR]
      by_cases c : T (41 + p) = 0
      · rw [if_neg (by unfold chP; rw [hit_w c, Bool.false_and, Bool.false_and]; exact Bool.false_ne_true), ← cw_n c]
        exact ih (p + 1) (by omega)
      · have hlt := cw_lt c (show p < 15 by omega)
        obtain ⟨b1, b2, b3⟩ := pow_np hS hlt hnp
        have f1 := can5 (O := O) (i := i) (S := S) ht hW hm hP hi (show p < 15 by omega) c (by omega)
        have hce := ch_eq (O := O) hb.2.1 hi (em T S 15) (show p < 15 by omega)
        cases hc : (hit T O i p && !(em T S 15).testBit p) with
        | false =>
          rw [hc] at f1
          rw [if_neg (by unfold chP; rw [hc, Bool.false_and]; exact Bool.false_ne_true), loopC_inl (t := nI (cw T (p + 1))) (by
            rw [cw_y c]
            unfold FX5_chosen_b2 FX5_chosen_j60
            simp (disch := omega) only [i_0, i_1, i_2, i_3, i_4, i_5, i_6, i_7, i_8, i_9, i_10, i_11, i_12, i_13, i_14, i_15, i_16, i_17, i_18, i_19, i_20, i_21, i_22, i_23, i_24, i_25, i_26, i_27, i_28, i_29, i_30, i_31, i_32, i_36, i_40, i_41, i_43, i_48, i_50, i_56, i_57, i_59, i_63, i_64, i_69, i_75, i_76, i_77, i_78, i_79, i_80, i_95, i_96, i_97, i_98, i_99, i_100, i_101, i_102, i_103, i_104, i_105, i_108, i_109, i_110, i_111, i_112, i_113, i_114, i_115, i_116, i_117, i_118, i_119, i_121, i_122, i_123, i_131, i_160, i_199, i_220, i_255, i_256, i_400, i_531, i_999, i_1000, i_1593, i_6000, i_6001, i_6002, i_10000, i_16383, i_16384, i_32768, i_100000, i_294912, i_1000000, bd0_s, bdS2_0, bdS2_1, bdS3_0, bdS3_1, bdS3_2, bdS4_0, bdS4_1, bdS4_2, bdS4_3, un0_s, bd1_s, bd2_s, bd3_s, bd4_s, bd5_s, bd6_s, bd7_s, bd8_s, bd9_s, bd10_s, bd11_s, bd12_s, bd13_s, bd14_s, bd15_s, bd16_s, un1_s, un2_s, un3_s, un4_s, un5_s, un6_s, un7_s, n_add, n_mul, n_addM, n_addD, n_Dadd, n_subD, n_sub, n_div, nD_succ, nD_zero, n_negM, cl_n, cl_d, rd_n, rd_d, wr_n, wr_d, al_n, al_d, b2i_t, b2i_f, lt_t, lt_f, le_t, le_f, eq_t, eq_f, dlt_t, dlt_f, ltd_t, ltd_f, ddl_t, ddl_f, dle_t, dle_f, led_t, led_f, deq_t, deq_f, eqd_t, eqd_f, dde_t, dde_f, m_ne, n_neM, m_lt, n_ltM, m_le, n_leM, m_eqD, m_neD, d_eqM, d_neM, up_t, up_f, bit_n, bit_d, rp_n, rp_d, asb1, sh1_n, sh1_d, or_n, ↓reduceIte, ite_self, Nat.add_sub_cancel, Nat.sub_self, Nat.add_zero, Nat.zero_add, Nat.mul_zero, Nat.zero_mul, eq_self, and_true, true_and, or_true, true_or, and_self, or_self, not_true_eq_false, not_false_eq_true, f1])]
          exact ih (p + 1) (by omega)
        | true =>
          have hpl : pl O i < 15 := by
            by_cases q : i < T 6 ∧ pl O i < 15
            · exact q.2
            · rw [hit_out q, Bool.false_and] at hc
              exact absurd hc Bool.false_ne_true
          rw [hc] at f1
          have f2 := costs5 (T := T) hm hP (i := i) (by omega) hpl (show p < 15 by omega) c
          have f3 := at5 (i := i + 1) (S := S ||| 2 ^ cw T p) (by omega) b3
          have f4 := hL (i + 1) (S ||| 2 ^ cw T p) (by omega) (by omega) b1
          rw [em_or (show p < 15 by omega) c, show T 6 - (i + 1) = T 6 - 1 - i by omega] at f4
          have h3 := cst_le (w := 100) (by omega) (show p < 15 by omega) hpl
          have h4 := c0_le (T := T) (O := O) (T 6 - 1 - i) (em T S 15 ||| 2 ^ p)
          have hcc : chP T O i (em T S 15) p = decide (cst 100 p (pl O i) + c0 T O (T 6 - 1 - i) (em T S 15 ||| 2 ^ p) = c0 T O (T 6 - i) (em T S 15)) := by
            rw [← hce]
            unfold chC
            rw [hc, Bool.true_and]
          by_cases q : cst 100 p (pl O i) + c0 T O (T 6 - 1 - i) (em T S 15 ||| 2 ^ p) = c0 T O (T 6 - i) (em T S 15)
          · rw [if_pos (by rw [hcc]; exact decide_eq_true q)]
            refine ⟨.inl (nI (cw T p)), loopC_inr ?_, Or.inr ⟨p, by omega, rfl, c, rfl⟩⟩
            show FX5_chosen_b2 L pc (nI (cw T 15)) (lN (enc O mv)) t (nI i) (nI S) (nI (cw T p)) = _
            unfold FX5_chosen_b2
            simp (disch := omega) only [i_0, i_1, i_2, i_3, i_4, i_5, i_6, i_7, i_8, i_9, i_10, i_11, i_12, i_13, i_14, i_15, i_16, i_17, i_18, i_19, i_20, i_21, i_22, i_23, i_24, i_25, i_26, i_27, i_28, i_29, i_30, i_31, i_32, i_36, i_40, i_41, i_43, i_48, i_50, i_56, i_57, i_59, i_63, i_64, i_69, i_75, i_76, i_77, i_78, i_79, i_80, i_95, i_96, i_97, i_98, i_99, i_100, i_101, i_102, i_103, i_104, i_105, i_108, i_109, i_110, i_111, i_112, i_113, i_114, i_115, i_116, i_117, i_118, i_119, i_121, i_122, i_123, i_131, i_160, i_199, i_220, i_255, i_256, i_400, i_531, i_999, i_1000, i_1593, i_6000, i_6001, i_6002, i_10000, i_16383, i_16384, i_32768, i_100000, i_294912, i_1000000, bd0_s, bdS2_0, bdS2_1, bdS3_0, bdS3_1, bdS3_2, bdS4_0, bdS4_1, bdS4_2, bdS4_3, un0_s, bd1_s, bd2_s, bd3_s, bd4_s, bd5_s, bd6_s, bd7_s, bd8_s, bd9_s, bd10_s, bd11_s, bd12_s, bd13_s, bd14_s, bd15_s, bd16_s, un1_s, un2_s, un3_s, un4_s, un5_s, un6_s, un7_s, n_add, n_mul, n_addM, n_addD, n_Dadd, n_subD, n_sub, n_div, nD_succ, nD_zero, n_negM, cl_n, cl_d, rd_n, rd_d, wr_n, wr_d, al_n, al_d, b2i_t, b2i_f, lt_t, lt_f, le_t, le_f, eq_t, eq_f, dlt_t, dlt_f, ltd_t, ltd_f, ddl_t, ddl_f, dle_t, dle_f, led_t, led_f, deq_t, deq_f, eqd_t, eqd_f, dde_t, dde_f, m_ne, n_neM, m_lt, n_ltM, m_le, n_leM, m_eqD, m_neD, d_eqM, d_neM, up_t, up_f, bit_n, bit_d, rp_n, rp_d, asb1, sh1_n, sh1_d, or_n, ↓reduceIte, ite_self, Nat.add_sub_cancel, Nat.sub_self, Nat.add_zero, Nat.zero_add, Nat.mul_zero, Nat.zero_mul, eq_self, and_true, true_and, or_true, true_or, and_self, or_self, not_true_eq_false, not_false_eq_true, f1, f2, f3, f4, e2, e3, q]
          · rw [if_neg (by rw [hcc, decide_eq_false q]; exact Bool.false_ne_true), loopC_inl (t := nI (cw T (p + 1))) (by
              rw [cw_y c]
              unfold FX5_chosen_b2 FX5_chosen_j60
              simp (disch := omega) only [i_0, i_1, i_2, i_3, i_4, i_5, i_6, i_7, i_8, i_9, i_10, i_11, i_12, i_13, i_14, i_15, i_16, i_17, i_18, i_19, i_20, i_21, i_22, i_23, i_24, i_25, i_26, i_27, i_28, i_29, i_30, i_31, i_32, i_36, i_40, i_41, i_43, i_48, i_50, i_56, i_57, i_59, i_63, i_64, i_69, i_75, i_76, i_77, i_78, i_79, i_80, i_95, i_96, i_97, i_98, i_99, i_100, i_101, i_102, i_103, i_104, i_105, i_108, i_109, i_110, i_111, i_112, i_113, i_114, i_115, i_116, i_117, i_118, i_119, i_121, i_122, i_123, i_131, i_160, i_199, i_220, i_255, i_256, i_400, i_531, i_999, i_1000, i_1593, i_6000, i_6001, i_6002, i_10000, i_16383, i_16384, i_32768, i_100000, i_294912, i_1000000, bd0_s, bdS2_0, bdS2_1, bdS3_0, bdS3_1, bdS3_2, bdS4_0, bdS4_1, bdS4_2, bdS4_3, un0_s, bd1_s, bd2_s, bd3_s, bd4_s, bd5_s, bd6_s, bd7_s, bd8_s, bd9_s, bd10_s, bd11_s, bd12_s, bd13_s, bd14_s, bd15_s, bd16_s, un1_s, un2_s, un3_s, un4_s, un5_s, un6_s, un7_s, n_add, n_mul, n_addM, n_addD, n_Dadd, n_subD, n_sub, n_div, nD_succ, nD_zero, n_negM, cl_n, cl_d, rd_n, rd_d, wr_n, wr_d, al_n, al_d, b2i_t, b2i_f, lt_t, lt_f, le_t, le_f, eq_t, eq_f, dlt_t, dlt_f, ltd_t, ltd_f, ddl_t, ddl_f, dle_t, dle_f, led_t, led_f, deq_t, deq_f, eqd_t, eqd_f, dde_t, dde_f, m_ne, n_neM, m_lt, n_ltM, m_le, n_leM, m_eqD, m_neD, d_eqM, d_neM, up_t, up_f, bit_n, bit_d, rp_n, rp_d, asb1, sh1_n, sh1_d, or_n, ↓reduceIte, ite_self, Nat.add_sub_cancel, Nat.sub_self, Nat.add_zero, Nat.zero_add, Nat.mul_zero, Nat.zero_mul, eq_self, and_true, true_and, or_true, true_or, and_self, or_self, not_true_eq_false, not_false_eq_true, f1, f2, f3, f4, e2, e3, q])]
            exact ih (p + 1) (by omega)
  obtain ⟨r, g1, g2⟩ := key 15 0 (by omega)
  have g1' : loopC (fun s => FX5_chosen_b2 L pc (nI (cw T 15)) (lN (enc O mv)) t (nI i) (nI S) s) (0 : Int32) = some r := g1
  unfold FX5_chosen
  rw [g1']
  unfold chS
  rcases g2 with ⟨rfl, g2⟩ | ⟨q, hq, g2, g3, rfl⟩
  · rw [g2]
    exact ⟨by rw [cwD, if_pos rfl, nD_zero]; rfl, fun z => absurd rfl z⟩
  · rw [g2]
    exact ⟨by rw [cwD, if_neg (by omega), Nat.add_sub_cancel, nD_succ]; rfl, fun _ => by rw [Nat.add_sub_cancel]; exact g3⟩
theorem em_tk_lt (S : Nat) : em T S 15 < 32768 := em_lt T S 15
/-- the component finds the same -/
theorem finds5 (ht : TwAt t T) (hW : WT T) (hm : mv < 256) (La pc0 to0 : Nat → Int32) : ∃ L1 pc1 to1 n1 el, FX5_finds La pc0 to0 (lN (enc O mv)) t = some (L1, pc1, to1, n1, nI el) ∧ (∀ i, i < T 6 → to1 i = nD (mtS' T O i)) ∧ el = fb_ct (fun i => decide (mtS' T O i ≠ 0 ∧ mtS' T O i ≠ plD O i)) (T 6) := by
  have hb := hW.b
  have hnp := cw15 T
  have h15 : 2 ^ cw T 15 ≤ 2 ^ 15 := Nat.pow_le_pow_right (by decide) hnp
  rw [show (2 : Nat) ^ 15 = 32768 from rfl] at h15
  have e6 := ht.n (k := 6) (by omega) (by omega)
  have esh := pow_sh (cw T 15) (by omega)
  -- the places
  obtain ⟨⟨pc1, n1⟩, h1, h2, h3⟩ := up_rule (B := fun (s : Int32 × (Nat → Int32) × Int32) => FX5_finds_b12 t s.1 s.2.1 s.2.2) (fun k (a : Nat → Int32) => (nI k, a, nI (cw T k))) (fun k a => ∀ p, p < k → T (41 + p) ≠ 0 → a (cw T p) = nI p) (fun x => PlAt T x.1 ∧ x.2 = nI (cw T 15)) 15 (by
    intro k a hk h
    have e1 := wished4n ht hW hk
    have hwp := wsh hW hk
    have hcl := cw_le T k
    refine Or.inl ?_
    by_cases c : T (41 + k) = 0
    · refine ⟨a, ?_, fun p hp hw => h p (by by_cases e : p = k; exact absurd c (e ▸ hw); omega) hw⟩
      show FX5_finds_b12 t (nI k) a (nI (cw T k)) = _
      unfold FX5_finds_b12 FX5_finds_j60
      simp (disch := omega) only [i_0, i_1, i_2, i_3, i_4, i_5, i_6, i_7, i_8, i_9, i_10, i_11, i_12, i_13, i_14, i_15, i_16, i_17, i_18, i_19, i_20, i_21, i_22, i_23, i_24, i_25, i_26, i_27, i_28, i_29, i_30, i_31, i_32, i_36, i_40, i_41, i_43, i_48, i_50, i_56, i_57, i_59, i_63, i_64, i_69, i_75, i_76, i_77, i_78, i_79, i_80, i_95, i_96, i_97, i_98, i_99, i_100, i_101, i_102, i_103, i_104, i_105, i_108, i_109, i_110, i_111, i_112, i_113, i_114, i_115, i_116, i_117, i_118, i_119, i_121, i_122, i_123, i_131, i_160, i_199, i_220, i_255, i_256, i_400, i_531, i_999, i_1000, i_1593, i_6000, i_6001, i_6002, i_10000, i_16383, i_16384, i_32768, i_100000, i_294912, i_1000000, bd0_s, bdS2_0, bdS2_1, bdS3_0, bdS3_1, bdS3_2, bdS4_0, bdS4_1, bdS4_2, bdS4_3, un0_s, bd1_s, bd2_s, bd3_s, bd4_s, bd5_s, bd6_s, bd7_s, bd8_s, bd9_s, bd10_s, bd11_s, bd12_s, bd13_s, bd14_s, bd15_s, bd16_s, un1_s, un2_s, un3_s, un4_s, un5_s, un6_s, un7_s, n_add, n_mul, n_addM, n_addD, n_Dadd, n_subD, n_sub, n_div, nD_succ, nD_zero, n_negM, cl_n, cl_d, rd_n, rd_d, wr_n, wr_d, al_n, al_d, b2i_t, b2i_f, lt_t, lt_f, le_t, le_f, eq_t, eq_f, dlt_t, dlt_f, ltd_t, ltd_f, ddl_t, ddl_f, dle_t, dle_f, led_t, led_f, deq_t, deq_f, eqd_t, eqd_f, dde_t, dde_f, m_ne, n_neM, m_lt, n_ltM, m_le, n_leM, m_eqD, m_neD, d_eqM, d_neM, up_t, up_f, bit_n, bit_d, rp_n, rp_d, asb1, sh1_n, sh1_d, or_n, ↓reduceIte, ite_self, Nat.add_sub_cancel, Nat.sub_self, Nat.add_zero, Nat.zero_add, Nat.mul_zero, Nat.zero_mul, eq_self, and_true, true_and, or_true, true_or, and_self, or_self, not_true_eq_false, not_false_eq_true, e1, c, cw_n c]
    · refine ⟨upd a (cw T k) (nI k), ?_, fun p hp hw => ?_⟩
      · show FX5_finds_b12 t (nI k) a (nI (cw T k)) = _
        unfold FX5_finds_b12 FX5_finds_j60
        simp (disch := omega) only [i_0, i_1, i_2, i_3, i_4, i_5, i_6, i_7, i_8, i_9, i_10, i_11, i_12, i_13, i_14, i_15, i_16, i_17, i_18, i_19, i_20, i_21, i_22, i_23, i_24, i_25, i_26, i_27, i_28, i_29, i_30, i_31, i_32, i_36, i_40, i_41, i_43, i_48, i_50, i_56, i_57, i_59, i_63, i_64, i_69, i_75, i_76, i_77, i_78, i_79, i_80, i_95, i_96, i_97, i_98, i_99, i_100, i_101, i_102, i_103, i_104, i_105, i_108, i_109, i_110, i_111, i_112, i_113, i_114, i_115, i_116, i_117, i_118, i_119, i_121, i_122, i_123, i_131, i_160, i_199, i_220, i_255, i_256, i_400, i_531, i_999, i_1000, i_1593, i_6000, i_6001, i_6002, i_10000, i_16383, i_16384, i_32768, i_100000, i_294912, i_1000000, bd0_s, bdS2_0, bdS2_1, bdS3_0, bdS3_1, bdS3_2, bdS4_0, bdS4_1, bdS4_2, bdS4_3, un0_s, bd1_s, bd2_s, bd3_s, bd4_s, bd5_s, bd6_s, bd7_s, bd8_s, bd9_s, bd10_s, bd11_s, bd12_s, bd13_s, bd14_s, bd15_s, bd16_s, un1_s, un2_s, un3_s, un4_s, un5_s, un6_s, un7_s, n_add, n_mul, n_addM, n_addD, n_Dadd, n_subD, n_sub, n_div, nD_succ, nD_zero, n_negM, cl_n, cl_d, rd_n, rd_d, wr_n, wr_d, al_n, al_d, b2i_t, b2i_f, lt_t, lt_f, le_t, le_f, eq_t, eq_f, dlt_t, dlt_f, ltd_t, ltd_f, ddl_t, ddl_f, dle_t, dle_f, led_t, led_f, deq_t, deq_f, eqd_t, eqd_f, dde_t, dde_f, m_ne, n_neM, m_lt, n_ltM, m_le, n_leM, m_eqD, m_neD, d_eqM, d_neM, up_t, up_f, bit_n, bit_d, rp_n, rp_d, asb1, sh1_n, sh1_d, or_n, ↓reduceIte, ite_self, Nat.add_sub_cancel, Nat.sub_self, Nat.add_zero, Nat.zero_add, Nat.mul_zero, Nat.zero_mul, eq_self, and_true, true_and, or_true, true_or, and_self, or_self, not_true_eq_false, not_false_eq_true, e1, c, cw_y c]
      · by_cases e : p = k
        · rw [e, up_t rfl]
        · have := cw_lt hw (show p < k by omega)
          rw [up_f (by omega), h p (by omega) hw]) (by
    intro a h
    refine ⟨(a, nI (cw T 15)), ?_, h, rfl⟩
    show FX5_finds_b12 t (nI 15) a (nI (cw T 15)) = _
    unfold FX5_finds_b12
    simp (disch := omega) only [i_0, i_1, i_2, i_3, i_4, i_5, i_6, i_7, i_8, i_9, i_10, i_11, i_12, i_13, i_14, i_15, i_16, i_17, i_18, i_19, i_20, i_21, i_22, i_23, i_24, i_25, i_26, i_27, i_28, i_29, i_30, i_31, i_32, i_36, i_40, i_41, i_43, i_48, i_50, i_56, i_57, i_59, i_63, i_64, i_69, i_75, i_76, i_77, i_78, i_79, i_80, i_95, i_96, i_97, i_98, i_99, i_100, i_101, i_102, i_103, i_104, i_105, i_108, i_109, i_110, i_111, i_112, i_113, i_114, i_115, i_116, i_117, i_118, i_119, i_121, i_122, i_123, i_131, i_160, i_199, i_220, i_255, i_256, i_400, i_531, i_999, i_1000, i_1593, i_6000, i_6001, i_6002, i_10000, i_16383, i_16384, i_32768, i_100000, i_294912, i_1000000, bd0_s, bdS2_0, bdS2_1, bdS3_0, bdS3_1, bdS3_2, bdS4_0, bdS4_1, bdS4_2, bdS4_3, un0_s, bd1_s, bd2_s, bd3_s, bd4_s, bd5_s, bd6_s, bd7_s, bd8_s, bd9_s, bd10_s, bd11_s, bd12_s, bd13_s, bd14_s, bd15_s, bd16_s, un1_s, un2_s, un3_s, un4_s, un5_s, un6_s, un7_s, n_add, n_mul, n_addM, n_addD, n_Dadd, n_subD, n_sub, n_div, nD_succ, nD_zero, n_negM, cl_n, cl_d, rd_n, rd_d, wr_n, wr_d, al_n, al_d, b2i_t, b2i_f, lt_t, lt_f, le_t, le_f, eq_t, eq_f, dlt_t, dlt_f, ltd_t, ltd_f, ddl_t, ddl_f, dle_t, dle_f, led_t, led_f, deq_t, deq_f, eqd_t, eqd_f, dde_t, dde_f, m_ne, n_neM, m_lt, n_ltM, m_le, n_leM, m_eqD, m_neD, d_eqM, d_neM, up_t, up_f, bit_n, bit_d, rp_n, rp_d, asb1, sh1_n, sh1_d, or_n, ↓reduceIte, ite_self, Nat.add_sub_cancel, Nat.sub_self, Nat.add_zero, Nat.zero_add, Nat.mul_zero, Nat.zero_mul, eq_self, and_true, true_and, or_true, true_or, and_self, or_self, not_true_eq_false, not_false_eq_true]) 0 pc0 (by omega) (fun p hp => absurd hp (Nat.not_lt_zero p))
  dsimp only at h2 h3
  subst h3
  -- the last level
  obtain ⟨L1, h4, h5⟩ := up_rule (B := fun s => FX5_finds_b85 t (nI (cw T 15)) s.1 s.2) (fun k (a : Nat → Int32) => (nI k, a)) (fun k a => ∀ S, S < k → a (T 6 * 32768 + S) = nI 0) (fun a => ∀ S, S < 2 ^ cw T 15 → a (T 6 * 32768 + S) = nI 0) (2 ^ cw T 15) (by
    intro k a hk h
    have e1 := at5 (i := T 6) (S := k) (by omega) (by omega)
    refine Or.inl ⟨upd a (T 6 * 32768 + k) (nI 0), ?_, fun S hS => ?_⟩
    · show FX5_finds_b85 t (nI (cw T 15)) (nI k) a = _
      unfold FX5_finds_b85
      simp (disch := omega) only [i_0, i_1, i_2, i_3, i_4, i_5, i_6, i_7, i_8, i_9, i_10, i_11, i_12, i_13, i_14, i_15, i_16, i_17, i_18, i_19, i_20, i_21, i_22, i_23, i_24, i_25, i_26, i_27, i_28, i_29, i_30, i_31, i_32, i_36, i_40, i_41, i_43, i_48, i_50, i_56, i_57, i_59, i_63, i_64, i_69, i_75, i_76, i_77, i_78, i_79, i_80, i_95, i_96, i_97, i_98, i_99, i_100, i_101, i_102, i_103, i_104, i_105, i_108, i_109, i_110, i_111, i_112, i_113, i_114, i_115, i_116, i_117, i_118, i_119, i_121, i_122, i_123, i_131, i_160, i_199, i_220, i_255, i_256, i_400, i_531, i_999, i_1000, i_1593, i_6000, i_6001, i_6002, i_10000, i_16383, i_16384, i_32768, i_100000, i_294912, i_1000000, bd0_s, bdS2_0, bdS2_1, bdS3_0, bdS3_1, bdS3_2, bdS4_0, bdS4_1, bdS4_2, bdS4_3, un0_s, bd1_s, bd2_s, bd3_s, bd4_s, bd5_s, bd6_s, bd7_s, bd8_s, bd9_s, bd10_s, bd11_s, bd12_s, bd13_s, bd14_s, bd15_s, bd16_s, un1_s, un2_s, un3_s, un4_s, un5_s, un6_s, un7_s, n_add, n_mul, n_addM, n_addD, n_Dadd, n_subD, n_sub, n_div, nD_succ, nD_zero, n_negM, cl_n, cl_d, rd_n, rd_d, wr_n, wr_d, al_n, al_d, b2i_t, b2i_f, lt_t, lt_f, le_t, le_f, eq_t, eq_f, dlt_t, dlt_f, ltd_t, ltd_f, ddl_t, ddl_f, dle_t, dle_f, led_t, led_f, deq_t, deq_f, eqd_t, eqd_f, dde_t, dde_f, m_ne, n_neM, m_lt, n_ltM, m_le, n_leM, m_eqD, m_neD, d_eqM, d_neM, up_t, up_f, bit_n, bit_d, rp_n, rp_d, asb1, sh1_n, sh1_d, or_n, ↓reduceIte, ite_self, Nat.add_sub_cancel, Nat.sub_self, Nat.add_zero, Nat.zero_add, Nat.mul_zero, Nat.zero_mul, eq_self, and_true, true_and, or_true, true_or, and_self, or_self, not_true_eq_false, not_false_eq_true, esh, e6, e1]
    · by_cases c : S = k
      · rw [c, up_t rfl]
      · rw [up_f (by omega), h S (by omega)]) (by
    intro a h
    refine ⟨a, ?_, h⟩
    show FX5_finds_b85 t (nI (cw T 15)) (nI (2 ^ cw T 15)) a = _
    unfold FX5_finds_b85
    simp (disch := omega) only [i_0, i_1, i_2, i_3, i_4, i_5, i_6, i_7, i_8, i_9, i_10, i_11, i_12, i_13, i_14, i_15, i_16, i_17, i_18, i_19, i_20, i_21, i_22, i_23, i_24, i_25, i_26, i_27, i_28, i_29, i_30, i_31, i_32, i_36, i_40, i_41, i_43, i_48, i_50, i_56, i_57, i_59, i_63, i_64, i_69, i_75, i_76, i_77, i_78, i_79, i_80, i_95, i_96, i_97, i_98, i_99, i_100, i_101, i_102, i_103, i_104, i_105, i_108, i_109, i_110, i_111, i_112, i_113, i_114, i_115, i_116, i_117, i_118, i_119, i_121, i_122, i_123, i_131, i_160, i_199, i_220, i_255, i_256, i_400, i_531, i_999, i_1000, i_1593, i_6000, i_6001, i_6002, i_10000, i_16383, i_16384, i_32768, i_100000, i_294912, i_1000000, bd0_s, bdS2_0, bdS2_1, bdS3_0, bdS3_1, bdS3_2, bdS4_0, bdS4_1, bdS4_2, bdS4_3, un0_s, bd1_s, bd2_s, bd3_s, bd4_s, bd5_s, bd6_s, bd7_s, bd8_s, bd9_s, bd10_s, bd11_s, bd12_s, bd13_s, bd14_s, bd15_s, bd16_s, un1_s, un2_s, un3_s, un4_s, un5_s, un6_s, un7_s, n_add, n_mul, n_addM, n_addD, n_Dadd, n_subD, n_sub, n_div, nD_succ, nD_zero, n_negM, cl_n, cl_d, rd_n, rd_d, wr_n, wr_d, al_n, al_d, b2i_t, b2i_f, lt_t, lt_f, le_t, le_f, eq_t, eq_f, dlt_t, dlt_f, ltd_t, ltd_f, ddl_t, ddl_f, dle_t, dle_f, led_t, led_f, deq_t, deq_f, eqd_t, eqd_f, dde_t, dde_f, m_ne, n_neM, m_lt, n_ltM, m_le, n_leM, m_eqD, m_neD, d_eqM, d_neM, up_t, up_f, bit_n, bit_d, rp_n, rp_d, asb1, sh1_n, sh1_d, or_n, ↓reduceIte, ite_self, Nat.add_sub_cancel, Nat.sub_self, Nat.add_zero, Nat.zero_add, Nat.mul_zero, Nat.zero_mul, eq_self, and_true, true_and, or_true, true_or, and_self, or_self, not_true_eq_false, not_false_eq_true, esh]) 0 La (Nat.zero_le _) (fun S hS => absurd hS (Nat.not_lt_zero S))
  obtain ⟨L2, h6, h7⟩ := least5 (O := O) ht hW hm h2 (T 6) L1 (Nat.le_refl _) (fun j S hj hj8 hS => by
    obtain rfl : j = T 6 := by omega
    rw [h5 S hS, Nat.sub_self]
    rfl)
  -- the stones
  obtain ⟨⟨to1, el⟩, h8, h9, h10⟩ := up_rule (B := fun (s : Int32 × Int32 × (Nat → Int32) × Int32) => FX5_finds_b155 (lN (enc O mv)) t pc1 (nI (cw T 15)) L2 s.1 s.2.1 s.2.2.1 s.2.2.2) (fun k (a : Nat × (Nat → Int32)) => (nI a.1, nI k, a.2, nI (fb_ct (fun i => decide (mtS' T O i ≠ 0 ∧ mtS' T O i ≠ plD O i)) k))) (fun k a => a.1 < 2 ^ cw T 15 ∧ em T a.1 15 = tkS T O k ∧ ∀ i, i < k → a.2 i = nD (mtS' T O i)) (fun x => (∀ i, i < T 6 → x.1 i = nD (mtS' T O i)) ∧ x.2 = nI (fb_ct (fun i => decide (mtS' T O i ≠ 0 ∧ mtS' T O i ≠ plD O i)) (T 6))) (T 6) (by
    rintro k ⟨S, to0⟩ hk ⟨hS, hem, hto⟩
    dsimp only at hS hem hto
    obtain ⟨e1, e2⟩ := chosen5 (O := O) (i := k) ht hW hm h2 hk hS h7
    have e3 := placeIn_n (O := O) (mv := mv) (i := k) (by omega) hm
    have hle := pl_le O k
    have hcl := chS_le (T := T) (O := O) k (em T S 15)
    have hct := fb_ct_le (fun i => decide (mtS' T O i ≠ 0 ∧ mtS' T O i ≠ plD O i)) k
    have hmt : mtS' T O k = chS T O k (em T S 15) := by rw [hem]; rfl
    have hctk : fb_ct (fun i => decide (mtS' T O i ≠ 0 ∧ mtS' T O i ≠ plD O i)) (k + 1) = fb_ct (fun i => decide (mtS' T O i ≠ 0 ∧ mtS' T O i ≠ plD O i)) k + (if decide (mtS' T O k ≠ 0 ∧ mtS' T O k ≠ plD O k) = true then 1 else 0) := rfl
    refine Or.inl ?_
    by_cases c : chS T O k (em T S 15) = 0
    · rw [c, cwD, if_pos rfl] at e1
      refine ⟨(S, upd to0 k nM), ?_, hS, by rw [tkS, ← hem, if_pos c, Nat.or_zero], fun i hi => ?_⟩
      · show FX5_finds_b155 (lN (enc O mv)) t pc1 (nI (cw T 15)) L2 (nI S) (nI k) to0 (nI _) = some (.inl (nI S, nI (k + 1), upd to0 k nM, nI (fb_ct _ (k + 1))))
        rw [hctk, hmt, c, decide_eq_false (fun z => z.1 rfl), if_neg Bool.false_ne_true]
        unfold FX5_finds_b155 FX5_finds_j190 FX5_finds_j206 FX5_finds_j247 FX5_finds_j248
        simp (disch := omega) only [i_0, i_1, i_2, i_3, i_4, i_5, i_6, i_7, i_8, i_9, i_10, i_11, i_12, i_13, i_14, i_15, i_16, i_17, i_18, i_19, i_20, i_21, i_22, i_23, i_24, i_25, i_26, i_27, i_28, i_29, i_30, i_31, i_32, i_36, i_40, i_41, i_43, i_48, i_50, i_56, i_57, i_59, i_63, i_64, i_69, i_75, i_76, i_77, i_78, i_79, i_80, i_95, i_96, i_97, i_98, i_99, i_100, i_101, i_102, i_103, i_104, i_105, i_108, i_109, i_110, i_111, i_112, i_113, i_114, i_115, i_116, i_117, i_118, i_119, i_121, i_122, i_123, i_131, i_160, i_199, i_220, i_255, i_256, i_400, i_531, i_999, i_1000, i_1593, i_6000, i_6001, i_6002, i_10000, i_16383, i_16384, i_32768, i_100000, i_294912, i_1000000, bd0_s, bdS2_0, bdS2_1, bdS3_0, bdS3_1, bdS3_2, bdS4_0, bdS4_1, bdS4_2, bdS4_3, un0_s, bd1_s, bd2_s, bd3_s, bd4_s, bd5_s, bd6_s, bd7_s, bd8_s, bd9_s, bd10_s, bd11_s, bd12_s, bd13_s, bd14_s, bd15_s, bd16_s, un1_s, un2_s, un3_s, un4_s, un5_s, un6_s, un7_s, n_add, n_mul, n_addM, n_addD, n_Dadd, n_subD, n_sub, n_div, nD_succ, nD_zero, n_negM, cl_n, cl_d, rd_n, rd_d, wr_n, wr_d, al_n, al_d, b2i_t, b2i_f, lt_t, lt_f, le_t, le_f, eq_t, eq_f, dlt_t, dlt_f, ltd_t, ltd_f, ddl_t, ddl_f, dle_t, dle_f, led_t, led_f, deq_t, deq_f, eqd_t, eqd_f, dde_t, dde_f, m_ne, n_neM, m_lt, n_ltM, m_le, n_leM, m_eqD, m_neD, d_eqM, d_neM, up_t, up_f, bit_n, bit_d, rp_n, rp_d, asb1, sh1_n, sh1_d, or_n, ↓reduceIte, ite_self, Nat.add_sub_cancel, Nat.sub_self, Nat.add_zero, Nat.zero_add, Nat.mul_zero, Nat.zero_mul, eq_self, and_true, true_and, or_true, true_or, and_self, or_self, not_true_eq_false, not_false_eq_true, e6, e1, Nat.or_zero]
      · by_cases e : i = k
        · show upd to0 k nM i = _
          rw [e, up_t rfl, hmt, c, nD_zero]
        · show upd to0 k nM i = _
          rw [up_f e, hto i (by omega)]
    · have hw := e2 c
      generalize hq : chS T O k (em T S 15) - 1 = q at *
      have hq2 : chS T O k (em T S 15) = q + 1 := by omega
      rw [hq2, cwD, if_neg (by omega), Nat.add_sub_cancel, nD_succ] at e1
      have hlt := cw_lt hw (show q < 15 by omega)
      obtain ⟨b1, b2, b3⟩ := pow_np hS hlt hnp
      have e4 := h2 q (by omega) hw
      refine ⟨(S ||| 2 ^ cw T q, upd to0 k (nI q)), ?_, b1, by rw [em_or (by omega) hw, tkS, ← hem, if_neg c, hq], fun i hi => ?_⟩
      · show FX5_finds_b155 (lN (enc O mv)) t pc1 (nI (cw T 15)) L2 (nI S) (nI k) to0 (nI _) = some (.inl (nI (S ||| 2 ^ cw T q), nI (k + 1), upd to0 k (nI q), nI (fb_ct _ (k + 1))))
        rw [hctk, hmt, hq2]
        unfold FX5_finds_b155 FX5_finds_j190 FX5_finds_j206 FX5_finds_j247 FX5_finds_j248
        by_cases c2 : q = pl O k
        · have hz : decide (q + 1 ≠ 0 ∧ q + 1 ≠ plD O k) = false := decide_eq_false (fun z => z.2 (by rw [plD, if_neg (by omega), c2]))
          rw [hz, if_neg Bool.false_ne_true]
          simp (disch := omega) only [i_0, i_1, i_2, i_3, i_4, i_5, i_6, i_7, i_8, i_9, i_10, i_11, i_12, i_13, i_14, i_15, i_16, i_17, i_18, i_19, i_20, i_21, i_22, i_23, i_24, i_25, i_26, i_27, i_28, i_29, i_30, i_31, i_32, i_36, i_40, i_41, i_43, i_48, i_50, i_56, i_57, i_59, i_63, i_64, i_69, i_75, i_76, i_77, i_78, i_79, i_80, i_95, i_96, i_97, i_98, i_99, i_100, i_101, i_102, i_103, i_104, i_105, i_108, i_109, i_110, i_111, i_112, i_113, i_114, i_115, i_116, i_117, i_118, i_119, i_121, i_122, i_123, i_131, i_160, i_199, i_220, i_255, i_256, i_400, i_531, i_999, i_1000, i_1593, i_6000, i_6001, i_6002, i_10000, i_16383, i_16384, i_32768, i_100000, i_294912, i_1000000, bd0_s, bdS2_0, bdS2_1, bdS3_0, bdS3_1, bdS3_2, bdS4_0, bdS4_1, bdS4_2, bdS4_3, un0_s, bd1_s, bd2_s, bd3_s, bd4_s, bd5_s, bd6_s, bd7_s, bd8_s, bd9_s, bd10_s, bd11_s, bd12_s, bd13_s, bd14_s, bd15_s, bd16_s, un1_s, un2_s, un3_s, un4_s, un5_s, un6_s, un7_s, n_add, n_mul, n_addM, n_addD, n_Dadd, n_subD, n_sub, n_div, nD_succ, nD_zero, n_negM, cl_n, cl_d, rd_n, rd_d, wr_n, wr_d, al_n, al_d, b2i_t, b2i_f, lt_t, lt_f, le_t, le_f, eq_t, eq_f, dlt_t, dlt_f, ltd_t, ltd_f, ddl_t, ddl_f, dle_t, dle_f, led_t, led_f, deq_t, deq_f, eqd_t, eqd_f, dde_t, dde_f, m_ne, n_neM, m_lt, n_ltM, m_le, n_leM, m_eqD, m_neD, d_eqM, d_neM, up_t, up_f, bit_n, bit_d, rp_n, rp_d, asb1, sh1_n, sh1_d, or_n, ↓reduceIte, ite_self, Nat.add_sub_cancel, Nat.sub_self, Nat.add_zero, Nat.zero_add, Nat.mul_zero, Nat.zero_mul, eq_self, and_true, true_and, or_true, true_or, and_self, or_self, not_true_eq_false, not_false_eq_true, e6, e1, e4, e3, c2.symm]
        · have hz : decide (q + 1 ≠ 0 ∧ q + 1 ≠ plD O k) = true := decide_eq_true ⟨by omega, by unfold plD; split <;> omega⟩
          rw [hz, if_pos rfl]
          simp (disch := omega) only [i_0, i_1, i_2, i_3, i_4, i_5, i_6, i_7, i_8, i_9, i_10, i_11, i_12, i_13, i_14, i_15, i_16, i_17, i_18, i_19, i_20, i_21, i_22, i_23, i_24, i_25, i_26, i_27, i_28, i_29, i_30, i_31, i_32, i_36, i_40, i_41, i_43, i_48, i_50, i_56, i_57, i_59, i_63, i_64, i_69, i_75, i_76, i_77, i_78, i_79, i_80, i_95, i_96, i_97, i_98, i_99, i_100, i_101, i_102, i_103, i_104, i_105, i_108, i_109, i_110, i_111, i_112, i_113, i_114, i_115, i_116, i_117, i_118, i_119, i_121, i_122, i_123, i_131, i_160, i_199, i_220, i_255, i_256, i_400, i_531, i_999, i_1000, i_1593, i_6000, i_6001, i_6002, i_10000, i_16383, i_16384, i_32768, i_100000, i_294912, i_1000000, bd0_s, bdS2_0, bdS2_1, bdS3_0, bdS3_1, bdS3_2, bdS4_0, bdS4_1, bdS4_2, bdS4_3, un0_s, bd1_s, bd2_s, bd3_s, bd4_s, bd5_s, bd6_s, bd7_s, bd8_s, bd9_s, bd10_s, bd11_s, bd12_s, bd13_s, bd14_s, bd15_s, bd16_s, un1_s, un2_s, un3_s, un4_s, un5_s, un6_s, un7_s, n_add, n_mul, n_addM, n_addD, n_Dadd, n_subD, n_sub, n_div, nD_succ, nD_zero, n_negM, cl_n, cl_d, rd_n, rd_d, wr_n, wr_d, al_n, al_d, b2i_t, b2i_f, lt_t, lt_f, le_t, le_f, eq_t, eq_f, dlt_t, dlt_f, ltd_t, ltd_f, ddl_t, ddl_f, dle_t, dle_f, led_t, led_f, deq_t, deq_f, eqd_t, eqd_f, dde_t, dde_f, m_ne, n_neM, m_lt, n_ltM, m_le, n_leM, m_eqD, m_neD, d_eqM, d_neM, up_t, up_f, bit_n, bit_d, rp_n, rp_d, asb1, sh1_n, sh1_d, or_n, ↓reduceIte, ite_self, Nat.add_sub_cancel, Nat.sub_self, Nat.add_zero, Nat.zero_add, Nat.mul_zero, Nat.zero_mul, eq_self, and_true, true_and, or_true, true_or, and_self, or_self, not_true_eq_false, not_false_eq_true, e6, e1, e4, e3, c2]
      · by_cases e : i = k
        · show upd to0 k (nI q) i = _
          rw [e, up_t rfl, hmt, hq2, nD_succ]
        · show upd to0 k (nI q) i = _
          rw [up_f e, hto i (by omega)]) (by
    rintro ⟨S, to0⟩ ⟨hS, hem, hto⟩
    refine ⟨(to0, nI (fb_ct (fun i => decide (mtS' T O i ≠ 0 ∧ mtS' T O i ≠ plD O i)) (T 6))), ?_, hto, rfl⟩
    show FX5_finds_b155 (lN (enc O mv)) t pc1 (nI (cw T 15)) L2 (nI S) (nI (T 6)) to0 _ = _
    unfold FX5_finds_b155
    simp (disch := omega) only [i_0, i_1, i_2, i_3, i_4, i_5, i_6, i_7, i_8, i_9, i_10, i_11, i_12, i_13, i_14, i_15, i_16, i_17, i_18, i_19, i_20, i_21, i_22, i_23, i_24, i_25, i_26, i_27, i_28, i_29, i_30, i_31, i_32, i_36, i_40, i_41, i_43, i_48, i_50, i_56, i_57, i_59, i_63, i_64, i_69, i_75, i_76, i_77, i_78, i_79, i_80, i_95, i_96, i_97, i_98, i_99, i_100, i_101, i_102, i_103, i_104, i_105, i_108, i_109, i_110, i_111, i_112, i_113, i_114, i_115, i_116, i_117, i_118, i_119, i_121, i_122, i_123, i_131, i_160, i_199, i_220, i_255, i_256, i_400, i_531, i_999, i_1000, i_1593, i_6000, i_6001, i_6002, i_10000, i_16383, i_16384, i_32768, i_100000, i_294912, i_1000000, bd0_s, bdS2_0, bdS2_1, bdS3_0, bdS3_1, bdS3_2, bdS4_0, bdS4_1, bdS4_2, bdS4_3, un0_s, bd1_s, bd2_s, bd3_s, bd4_s, bd5_s, bd6_s, bd7_s, bd8_s, bd9_s, bd10_s, bd11_s, bd12_s, bd13_s, bd14_s, bd15_s, bd16_s, un1_s, un2_s, un3_s, un4_s, un5_s, un6_s, un7_s, n_add, n_mul, n_addM, n_addD, n_Dadd, n_subD, n_sub, n_div, nD_succ, nD_zero, n_negM, cl_n, cl_d, rd_n, rd_d, wr_n, wr_d, al_n, al_d, b2i_t, b2i_f, lt_t, lt_f, le_t, le_f, eq_t, eq_f, dlt_t, dlt_f, ltd_t, ltd_f, ddl_t, ddl_f, dle_t, dle_f, led_t, led_f, deq_t, deq_f, eqd_t, eqd_f, dde_t, dde_f, m_ne, n_neM, m_lt, n_ltM, m_le, n_leM, m_eqD, m_neD, d_eqM, d_neM, up_t, up_f, bit_n, bit_d, rp_n, rp_d, asb1, sh1_n, sh1_d, or_n, ↓reduceIte, ite_self, Nat.add_sub_cancel, Nat.sub_self, Nat.add_zero, Nat.zero_add, Nat.mul_zero, Nat.zero_mul, eq_self, and_true, true_and, or_true, true_or, and_self, or_self, not_true_eq_false, not_false_eq_true, e6]) 0 (0, to0) (by omega) ⟨Nat.pow_pos (by decide), em_0 T, fun i hi => absurd hi (Nat.not_lt_zero i)⟩
  dsimp only at h9 h10
  subst h10
  refine ⟨L2, pc1, to1, nI (cw T 15), _, ?_, h9, rfl⟩
  have h1' : loopC (fun (s : Int32 × (Nat → Int32) × Int32) => FX5_finds_b12 t s.1 s.2.1 s.2.2) ((0 : Int32), pc0, (0 : Int32)) = _ := h1
  have h4' : loopC (fun s => FX5_finds_b85 t (nI (cw T 15)) s.1 s.2) ((0 : Int32), La) = _ := h4
  have h8' : loopC (fun (s : Int32 × Int32 × (Nat → Int32) × Int32) => FX5_finds_b155 (lN (enc O mv)) t pc1 (nI (cw T 15)) L2 s.1 s.2.1 s.2.2.1 s.2.2.2) ((0 : Int32), (0 : Int32), to0, (0 : Int32)) = _ := h8
  unfold FX5_finds
  rw [h1', bd2_s, h4', bd1_s, e6, show (1 : Int32) = nI 1 from rfl, n_subD, h6, bd1_s, h8', bd2_s]
end P35
