set_option maxRecDepth 100000
/-! a step's mark on the town's numbers -/
theorem WT.cong {T U : Nat → Nat} (h : WT T) (hU : ∀ k, k < 80 → U k = T k) : WT U := by
  have hb := h.b
  refine ⟨?_, fun r hr => ?_, fun i hi => ?_, fun r l hr hl => ?_, fun m hm => ?_⟩
  · rw [hU 0 (by omega), hU 6 (by omega), hU 56 (by omega), hU 75 (by omega), hU 76 (by omega), hU 77 (by omega), hU 78 (by omega), hU 79 (by omega)]
    exact h.1
  · rw [hU 0 (by omega), hU (1 + r) (by omega), hU (31 + r) (by omega), hU (36 + r) (by omega)]
    exact h.2.1 r hr
  · rw [hU (7 + i) (by omega), hU (15 + i) (by omega), hU (23 + i) (by omega)]
    exact h.2.2.1 i hi
  · rw [hU (41 + (3 * r + l)) (by omega), hU (31 + r) (by omega)]
    exact h.2.2.2.1 r l hr hl
  · rw [hU 56 (by omega)] at hm
    rw [hU 0 (by omega), hU (57 + m) (by omega), hU (63 + m) (by omega), hU (69 + m) (by omega)]
    exact h.2.2.2.2 m hm
theorem WO.congT {T U O M : Nat → Nat} (h : WO T O M) (hU : ∀ k, k < 80 → U k = T k) : WO U O M := by
  refine ⟨?_, h.2.1, fun r hr => ?_, h.2.2.2⟩
  · rw [hU 6 (by omega)]
    exact h.1
  · rw [hU (1 + r) (by omega)]
    exact h.2.2.1 r hr
theorem WO.congO {T O P M N : Nat → Nat} (h : WO T O M) (hP : ∀ p, p < 15 → P p = O p) (hN : ∀ r, r < 5 → N r = M r) : WO T P N := by
  refine ⟨fun p hp => by rw [hP p hp]; exact h.1 p hp, fun r l hr hl => by rw [hP _ (by omega), hN r hr]; exact h.2.1 r l hr hl, fun r hr => by rw [hN r hr]; exact h.2.2.1 r hr, fun p q hp hq => by rw [hP p hp, hP q hq]; exact h.2.2.2 p q hp hq⟩
theorem rp_cong {T U : Nat → Nat} {k : Nat} (h : U k = T k) : rp U k = rp T k := by unfold rp; rw [h]
theorem TwAt.cong {t : Nat → Int32} {T U : Nat → Nat} (h : TwAt t T) (hU : ∀ k, k < 80 → U k = T k) : TwAt t U := fun k hk => (h k hk).trans (rp_cong (hU k hk)).symm
def kpT (T O : Nat → Nat) (mv : Nat) : Nat → Nat := fun k => if 80 ≤ k ∧ k < 95 then O (k - 80) else if k = 95 then mv else T k
def ctT (T : Nat → Nat) (i : Nat) : Nat → Nat := up (up T (96 + i) (T (96 + i) + 1)) (104 + i) (T 112 + 1)
theorem kpT_o {T O : Nat → Nat} {mv k : Nat} (h : ¬ (80 ≤ k ∧ k < 96)) : kpT T O mv k = T k := by
  unfold kpT
  rw [if_neg (by omega), if_neg (by omega)]
theorem kpT_p {T O : Nat → Nat} {mv p : Nat} (h : p < 15) : kpT T O mv (80 + p) = O p := by
  unfold kpT
  rw [if_pos (by omega), Nat.add_sub_cancel_left]
theorem kpT_m {T O : Nat → Nat} {mv : Nat} : kpT T O mv 95 = mv := by
  unfold kpT
  rw [if_neg (by omega), if_pos rfl]
theorem ctT_o {T : Nat → Nat} {i k : Nat} (h : k ≠ 96 + i) (h2 : k ≠ 104 + i) : ctT T i k = T k := by
  unfold ctT
  rw [upn_f h2, upn_f h]
section P26
variable {all t on at' many ca la : Nat → Int32} {T O M M' : Nat → Nat} {V : Nat → BvT} {mv as1 a b : Nat} {p q : Int32} {lies : Int64} {year : Int32}
theorem keepsNow8 (hA : AllAt all T) (hO : ∀ p, p < 15 → on p = nI (O p)) (mv : Nat) : ∃ all', FX8_keepsNow all on (nI mv) = some all' ∧ AllAt all' (kpT T O mv) ∧ ∀ k, 531 ≤ k → all' k = all k := by
  obtain ⟨a1, h1, h2, h3⟩ := up_rule (B := fun s => FX8_keepsNow_b2 on s.1 s.2) (fun k (a : Nat → Int32) => (nI k, a)) (fun k a => (∀ p, p < k → a (80 + p) = nI (O p)) ∧ ∀ j, (j < 80 ∨ 80 + k ≤ j) → a j = all j) (fun a => (∀ p, p < 15 → a (80 + p) = nI (O p)) ∧ ∀ j, (j < 80 ∨ 95 ≤ j) → a j = all j) 15 (by
    rintro k a hk ⟨h, h'⟩
    have e := hO k hk
    refine Or.inl ⟨upd a (80 + k) (nI (O k)), ?_, fun p hp => ?_, fun j hj => ?_⟩
    · show FX8_keepsNow_b2 on (nI k) a = _
      unfold FX8_keepsNow_b2
      simp (disch := omega) only [i_0, i_1, i_2, i_3, i_4, i_5, i_6, i_7, i_8, i_9, i_10, i_11, i_12, i_13, i_14, i_15, i_16, i_17, i_18, i_19, i_20, i_21, i_22, i_23, i_24, i_25, i_26, i_27, i_28, i_29, i_30, i_31, i_32, i_36, i_40, i_41, i_43, i_48, i_50, i_56, i_57, i_59, i_63, i_64, i_69, i_75, i_76, i_77, i_78, i_79, i_80, i_95, i_96, i_97, i_98, i_99, i_100, i_101, i_102, i_103, i_104, i_105, i_108, i_109, i_110, i_111, i_112, i_113, i_114, i_115, i_116, i_117, i_118, i_119, i_121, i_122, i_123, i_131, i_160, i_199, i_220, i_255, i_256, i_400, i_531, i_999, i_1000, i_1593, i_6000, i_6001, i_6002, i_10000, i_16383, i_16384, i_32768, i_100000, i_294912, i_1000000, bd0_s, bdS2_0, bdS2_1, bdS3_0, bdS3_1, bdS3_2, bdS4_0, bdS4_1, bdS4_2, bdS4_3, un0_s, bd1_s, bd2_s, bd3_s, bd4_s, bd5_s, bd6_s, bd7_s, bd8_s, bd9_s, bd10_s, bd11_s, bd12_s, bd13_s, bd14_s, bd15_s, bd16_s, un1_s, un2_s, un3_s, un4_s, un5_s, un6_s, un7_s, n_add, n_mul, n_addM, n_addD, n_Dadd, n_subD, n_sub, n_div, nD_succ, nD_zero, n_negM, cl_n, cl_d, rd_n, rd_d, wr_n, wr_d, al_n, al_d, b2i_t, b2i_f, lt_t, lt_f, le_t, le_f, eq_t, eq_f, dlt_t, dlt_f, ltd_t, ltd_f, ddl_t, ddl_f, dle_t, dle_f, led_t, led_f, deq_t, deq_f, eqd_t, eqd_f, dde_t, dde_f, m_ne, n_neM, m_lt, n_ltM, m_le, n_leM, m_eqD, m_neD, d_eqM, d_neM, up_t, up_f, bit_n, bit_d, rp_n, rp_d, asb1, sh1_n, sh1_d, or_n, ↓reduceIte, ite_self, Nat.add_sub_cancel, Nat.sub_self, Nat.add_zero, Nat.zero_add, Nat.mul_zero, Nat.zero_mul, eq_self, and_true, true_and, or_true, true_or, and_self, or_self, not_true_eq_false, not_false_eq_true, e]
    · by_cases c : p = k
      · rw [c, up_t rfl]
      · rw [up_f (by omega), h p (by omega)]
    · rw [up_f (by omega), h' j (by omega)]) (by
    rintro a ⟨h, h'⟩
    refine ⟨a, ?_, h, fun j hj => h' j (by omega)⟩
    show FX8_keepsNow_b2 on (nI 15) a = _
    unfold FX8_keepsNow_b2
    simp (disch := omega) only [i_0, i_1, i_2, i_3, i_4, i_5, i_6, i_7, i_8, i_9, i_10, i_11, i_12, i_13, i_14, i_15, i_16, i_17, i_18, i_19, i_20, i_21, i_22, i_23, i_24, i_25, i_26, i_27, i_28, i_29, i_30, i_31, i_32, i_36, i_40, i_41, i_43, i_48, i_50, i_56, i_57, i_59, i_63, i_64, i_69, i_75, i_76, i_77, i_78, i_79, i_80, i_95, i_96, i_97, i_98, i_99, i_100, i_101, i_102, i_103, i_104, i_105, i_108, i_109, i_110, i_111, i_112, i_113, i_114, i_115, i_116, i_117, i_118, i_119, i_121, i_122, i_123, i_131, i_160, i_199, i_220, i_255, i_256, i_400, i_531, i_999, i_1000, i_1593, i_6000, i_6001, i_6002, i_10000, i_16383, i_16384, i_32768, i_100000, i_294912, i_1000000, bd0_s, bdS2_0, bdS2_1, bdS3_0, bdS3_1, bdS3_2, bdS4_0, bdS4_1, bdS4_2, bdS4_3, un0_s, bd1_s, bd2_s, bd3_s, bd4_s, bd5_s, bd6_s, bd7_s, bd8_s, bd9_s, bd10_s, bd11_s, bd12_s, bd13_s, bd14_s, bd15_s, bd16_s, un1_s, un2_s, un3_s, un4_s, un5_s, un6_s, un7_s, n_add, n_mul, n_addM, n_addD, n_Dadd, n_subD, n_sub, n_div, nD_succ, nD_zero, n_negM, cl_n, cl_d, rd_n, rd_d, wr_n, wr_d, al_n, al_d, b2i_t, b2i_f, lt_t, lt_f, le_t, le_f, eq_t, eq_f, dlt_t, dlt_f, ltd_t, ltd_f, ddl_t, ddl_f, dle_t, dle_f, led_t, led_f, deq_t, deq_f, eqd_t, eqd_f, dde_t, dde_f, m_ne, n_neM, m_lt, n_ltM, m_le, n_leM, m_eqD, m_neD, d_eqM, d_neM, up_t, up_f, bit_n, bit_d, rp_n, rp_d, asb1, sh1_n, sh1_d, or_n, ↓reduceIte, ite_self, Nat.add_sub_cancel, Nat.sub_self, Nat.add_zero, Nat.zero_add, Nat.mul_zero, Nat.zero_mul, eq_self, and_true, true_and, or_true, true_or, and_self, or_self, not_true_eq_false, not_false_eq_true]) 0 all (by omega) ⟨fun r hr => absurd hr (Nat.not_lt_zero r), fun j _ => rfl⟩
  refine ⟨upd a1 95 (nI mv), ?_, fun k hk => ?_, fun k hk => ?_⟩
  · unfold FX8_keepsNow
    rw [show (0 : Int32) = nI 0 from rfl, h1]
    simp (disch := omega) only [i_0, i_1, i_2, i_3, i_4, i_5, i_6, i_7, i_8, i_9, i_10, i_11, i_12, i_13, i_14, i_15, i_16, i_17, i_18, i_19, i_20, i_21, i_22, i_23, i_24, i_25, i_26, i_27, i_28, i_29, i_30, i_31, i_32, i_36, i_40, i_41, i_43, i_48, i_50, i_56, i_57, i_59, i_63, i_64, i_69, i_75, i_76, i_77, i_78, i_79, i_80, i_95, i_96, i_97, i_98, i_99, i_100, i_101, i_102, i_103, i_104, i_105, i_108, i_109, i_110, i_111, i_112, i_113, i_114, i_115, i_116, i_117, i_118, i_119, i_121, i_122, i_123, i_131, i_160, i_199, i_220, i_255, i_256, i_400, i_531, i_999, i_1000, i_1593, i_6000, i_6001, i_6002, i_10000, i_16383, i_16384, i_32768, i_100000, i_294912, i_1000000, bd0_s, bdS2_0, bdS2_1, bdS3_0, bdS3_1, bdS3_2, bdS4_0, bdS4_1, bdS4_2, bdS4_3, un0_s, bd1_s, bd2_s, bd3_s, bd4_s, bd5_s, bd6_s, bd7_s, bd8_s, bd9_s, bd10_s, bd11_s, bd12_s, bd13_s, bd14_s, bd15_s, bd16_s, un1_s, un2_s, un3_s, un4_s, un5_s, un6_s, un7_s, n_add, n_mul, n_addM, n_addD, n_Dadd, n_subD, n_sub, n_div, nD_succ, nD_zero, n_negM, cl_n, cl_d, rd_n, rd_d, wr_n, wr_d, al_n, al_d, b2i_t, b2i_f, lt_t, lt_f, le_t, le_f, eq_t, eq_f, dlt_t, dlt_f, ltd_t, ltd_f, ddl_t, ddl_f, dle_t, dle_f, led_t, led_f, deq_t, deq_f, eqd_t, eqd_f, dde_t, dde_f, m_ne, n_neM, m_lt, n_ltM, m_le, n_leM, m_eqD, m_neD, d_eqM, d_neM, up_t, up_f, bit_n, bit_d, rp_n, rp_d, asb1, sh1_n, sh1_d, or_n, ↓reduceIte, ite_self, Nat.add_sub_cancel, Nat.sub_self, Nat.add_zero, Nat.zero_add, Nat.mul_zero, Nat.zero_mul, eq_self, and_true, true_and, or_true, true_or, and_self, or_self, not_true_eq_false, not_false_eq_true]
  · by_cases c : k = 95
    · rw [up_t c, c, rp_n (by omega), kpT_m]
    · rw [up_f c]
      by_cases c2 : 80 ≤ k ∧ k < 95
      · obtain ⟨p, rfl⟩ : ∃ p, k = 80 + p := ⟨k - 80, by omega⟩
        rw [h2 p (by omega), rp_n (by omega), kpT_p (by omega)]
      · rw [h3 k (by omega), hA k hk, rp_cong (kpT_o (by omega))]
  · rw [up_f (by omega), h3 k (by omega)]
theorem counted8 (hA : AllAt all T) {i : Nat} (hi : i < 8) : ∃ all', FX8_counted all (nI i) = some all' ∧ AllAt all' (ctT T i) ∧ ∀ k, 531 ≤ k → all' k = all k := by
  have e1 := hA.n (k := 96 + i) (by omega) (by omega)
  have e2 := hA.n (k := 112) (by omega) (by omega)
  refine ⟨_, by
    unfold FX8_counted
    simp (disch := omega) only [i_0, i_1, i_2, i_3, i_4, i_5, i_6, i_7, i_8, i_9, i_10, i_11, i_12, i_13, i_14, i_15, i_16, i_17, i_18, i_19, i_20, i_21, i_22, i_23, i_24, i_25, i_26, i_27, i_28, i_29, i_30, i_31, i_32, i_36, i_40, i_41, i_43, i_48, i_50, i_56, i_57, i_59, i_63, i_64, i_69, i_75, i_76, i_77, i_78, i_79, i_80, i_95, i_96, i_97, i_98, i_99, i_100, i_101, i_102, i_103, i_104, i_105, i_108, i_109, i_110, i_111, i_112, i_113, i_114, i_115, i_116, i_117, i_118, i_119, i_121, i_122, i_123, i_131, i_160, i_199, i_220, i_255, i_256, i_400, i_531, i_999, i_1000, i_1593, i_6000, i_6001, i_6002, i_10000, i_16383, i_16384, i_32768, i_100000, i_294912, i_1000000, bd0_s, bdS2_0, bdS2_1, bdS3_0, bdS3_1, bdS3_2, bdS4_0, bdS4_1, bdS4_2, bdS4_3, un0_s, bd1_s, bd2_s, bd3_s, bd4_s, bd5_s, bd6_s, bd7_s, bd8_s, bd9_s, bd10_s, bd11_s, bd12_s, bd13_s, bd14_s, bd15_s, bd16_s, un1_s, un2_s, un3_s, un4_s, un5_s, un6_s, un7_s, n_add, n_mul, n_addM, n_addD, n_Dadd, n_subD, n_sub, n_div, nD_succ, nD_zero, n_negM, cl_n, cl_d, rd_n, rd_d, wr_n, wr_d, al_n, al_d, b2i_t, b2i_f, lt_t, lt_f, le_t, le_f, eq_t, eq_f, dlt_t, dlt_f, ltd_t, ltd_f, ddl_t, ddl_f, dle_t, dle_f, led_t, led_f, deq_t, deq_f, eqd_t, eqd_f, dde_t, dde_f, m_ne, n_neM, m_lt, n_ltM, m_le, n_leM, m_eqD, m_neD, d_eqM, d_neM, up_t, up_f, bit_n, bit_d, rp_n, rp_d, asb1, sh1_n, sh1_d, or_n, ↓reduceIte, ite_self, Nat.add_sub_cancel, Nat.sub_self, Nat.add_zero, Nat.zero_add, Nat.mul_zero, Nat.zero_mul, eq_self, and_true, true_and, or_true, true_or, and_self, or_self, not_true_eq_false, not_false_eq_true, e1, e2]
    rfl, fun k hk => ?_, fun k hk => ?_⟩
  · show upd (upd all (96 + i) (nI (T (96 + i) + 1))) (104 + i) (nI (T 112)) k = rp (ctT T i) k
    by_cases c : k = 104 + i
    · rw [up_t c, c, rp_d (by omega), ctT, upn_t rfl, nD_succ]
    · by_cases c2 : k = 96 + i
      · rw [up_f c, up_t c2, c2, rp_n (by omega), ctT, upn_f (by omega), upn_t rfl]
      · rw [up_f c, up_f c2, hA k hk, rp_cong (ctT_o c2 c)]
  · show upd (upd all (96 + i) (nI (T (96 + i) + 1))) (104 + i) (nI (T 112)) k = all k
    rw [up_f (by omega), up_f (by omega)]
theorem counts0 {i : Nat} (hc : ∀ i, i < 8 → ca i = nI (T (96 + i))) (hl : ∀ i, i < 8 → la i = nD (T (104 + i))) (hi : i < 8) : ∃ ca' la', FX0_counts ca la (nI (T 112)) (nI i) = some (ca', la') ∧ (∀ j, j < 8 → ca' j = nI (ctT T i (96 + j))) ∧ ∀ j, j < 8 → la' j = nD (ctT T i (104 + j)) := by
  have e1 := hc i hi
  refine ⟨_, _, by
    unfold FX0_counts
    simp (disch := omega) only [i_0, i_1, i_2, i_3, i_4, i_5, i_6, i_7, i_8, i_9, i_10, i_11, i_12, i_13, i_14, i_15, i_16, i_17, i_18, i_19, i_20, i_21, i_22, i_23, i_24, i_25, i_26, i_27, i_28, i_29, i_30, i_31, i_32, i_36, i_40, i_41, i_43, i_48, i_50, i_56, i_57, i_59, i_63, i_64, i_69, i_75, i_76, i_77, i_78, i_79, i_80, i_95, i_96, i_97, i_98, i_99, i_100, i_101, i_102, i_103, i_104, i_105, i_108, i_109, i_110, i_111, i_112, i_113, i_114, i_115, i_116, i_117, i_118, i_119, i_121, i_122, i_123, i_131, i_160, i_199, i_220, i_255, i_256, i_400, i_531, i_999, i_1000, i_1593, i_6000, i_6001, i_6002, i_10000, i_16383, i_16384, i_32768, i_100000, i_294912, i_1000000, bd0_s, bdS2_0, bdS2_1, bdS3_0, bdS3_1, bdS3_2, bdS4_0, bdS4_1, bdS4_2, bdS4_3, un0_s, bd1_s, bd2_s, bd3_s, bd4_s, bd5_s, bd6_s, bd7_s, bd8_s, bd9_s, bd10_s, bd11_s, bd12_s, bd13_s, bd14_s, bd15_s, bd16_s, un1_s, un2_s, un3_s, un4_s, un5_s, un6_s, un7_s, n_add, n_mul, n_addM, n_addD, n_Dadd, n_subD, n_sub, n_div, nD_succ, nD_zero, n_negM, cl_n, cl_d, rd_n, rd_d, wr_n, wr_d, al_n, al_d, b2i_t, b2i_f, lt_t, lt_f, le_t, le_f, eq_t, eq_f, dlt_t, dlt_f, ltd_t, ltd_f, ddl_t, ddl_f, dle_t, dle_f, led_t, led_f, deq_t, deq_f, eqd_t, eqd_f, dde_t, dde_f, m_ne, n_neM, m_lt, n_ltM, m_le, n_leM, m_eqD, m_neD, d_eqM, d_neM, up_t, up_f, bit_n, bit_d, rp_n, rp_d, asb1, sh1_n, sh1_d, or_n, ↓reduceIte, ite_self, Nat.add_sub_cancel, Nat.sub_self, Nat.add_zero, Nat.zero_add, Nat.mul_zero, Nat.zero_mul, eq_self, and_true, true_and, or_true, true_or, and_self, or_self, not_true_eq_false, not_false_eq_true, e1]
    rfl, fun j hj => ?_, fun j hj => ?_⟩
  · show upd ca i (nI (T (96 + i) + 1)) j = _
    by_cases c : j = i
    · rw [up_t c, c, ctT, upn_f (by omega), upn_t rfl]
    · rw [up_f c, hc j hj, ctT_o (by omega) (by omega)]
  · show upd la i (nI (T 112)) j = _
    by_cases c : j = i
    · rw [up_t c, c, ctT, upn_t rfl, nD_succ]
    · rw [up_f c, hl j hj, ctT_o (by omega) (by omega)]
/-- the town of now, as both sides have it -/
def Cur (T M : Nat → Nat) (V : Nat → BvT) (all t : Nat → Int32) (lies : Int64) (ca la : Nat → Int32) (year : Int32) : Prop :=
  (WT T ∧ WO T (fun p => T (80 + p)) M ∧ T 95 < 256 ∧ T 112 ≤ 999 ∧ BarsT T V) ∧ AllAt all T ∧ TwAt t T ∧ lies = lN (enc (fun p => T (80 + p)) (T 95)) ∧ (∀ i, i < 8 → ca i = nI (T (96 + i))) ∧ (∀ i, i < 8 → la i = nD (T (104 + i))) ∧ year = nI (T 112)
theorem or_lt {m i : Nat} (hm : m < 256) (hi : i < 8) : m ||| 2 ^ i < 256 := Nat.or_lt_two_pow (n := 8) hm (Nat.pow_lt_pow_right (by decide) hi)
theorem may_law (h : Cur T M V all t lies ca la year) (on many hAt hMany pile : Nat → Int32) (p q : Int32) : ∃ ans a1 m1 v1 o2 m2 v2 pile', FX0_may hAt hMany nM lies t (nI (T 114)) V p q = some (ans, a1, m1, v1) ∧ FX8_may all on many pile nM p q = some (ans, o2, m2, v2, pile') := by
  obtain ⟨⟨hW, hS, hm, hy, hB⟩, hA, ht, rfl, hc, hl, rfl⟩ := h
  obtain ⟨a1, m1, e1, hat⟩ := lays4 ht hW hS hm hAt hMany
  obtain ⟨o2, m2, e2, hon⟩ := looksNow8 hA hW hS on many
  obtain ⟨⟨n3, m3, p3⟩, e3, hn3, hon3⟩ := may8 (as1 := 0) hA hon hW hS (hB.ok hA hW) hm (by omega) pile p q
  dsimp only at hn3 hon3
  subst hn3
  have e4 := may4 (V := V) (as1 := 0) ht hat hW hS hB.1 hm (by omega) p q
  rw [nD_zero] at e3 e4
  exact ⟨_, _, _, _, _, _, _, _, by unfold FX0_may FX0_here; (simp (disch := omega) only [i_0, i_1, i_2, i_3, i_4, i_5, i_6, i_7, i_8, i_9, i_10, i_11, i_12, i_13, i_14, i_15, i_16, i_17, i_18, i_19, i_20, i_21, i_22, i_23, i_24, i_25, i_26, i_27, i_28, i_29, i_30, i_31, i_32, i_36, i_40, i_41, i_43, i_48, i_50, i_56, i_57, i_59, i_63, i_64, i_69, i_75, i_76, i_77, i_78, i_79, i_80, i_95, i_96, i_97, i_98, i_99, i_100, i_101, i_102, i_103, i_104, i_105, i_108, i_109, i_110, i_111, i_112, i_113, i_114, i_115, i_116, i_117, i_118, i_119, i_121, i_122, i_123, i_131, i_160, i_199, i_220, i_255, i_256, i_400, i_531, i_999, i_1000, i_1593, i_6000, i_6001, i_6002, i_10000, i_16383, i_16384, i_32768, i_100000, i_294912, i_1000000, bd0_s, bdS2_0, bdS2_1, bdS3_0, bdS3_1, bdS3_2, bdS4_0, bdS4_1, bdS4_2, bdS4_3, un0_s, bd1_s, bd2_s, bd3_s, bd4_s, bd5_s, bd6_s, bd7_s, bd8_s, bd9_s, bd10_s, bd11_s, bd12_s, bd13_s, bd14_s, bd15_s, bd16_s, un1_s, un2_s, un3_s, un4_s, un5_s, un6_s, un7_s, n_add, n_mul, n_addM, n_addD, n_Dadd, n_subD, n_sub, n_div, nD_succ, nD_zero, n_negM, cl_n, cl_d, rd_n, rd_d, wr_n, wr_d, al_n, al_d, b2i_t, b2i_f, lt_t, lt_f, le_t, le_f, eq_t, eq_f, dlt_t, dlt_f, ltd_t, ltd_f, ddl_t, ddl_f, dle_t, dle_f, led_t, led_f, deq_t, deq_f, eqd_t, eqd_f, dde_t, dde_f, m_ne, n_neM, m_lt, n_ltM, m_le, n_leM, m_eqD, m_neD, d_eqM, d_neM, up_t, up_f, bit_n, bit_d, rp_n, rp_d, asb1, sh1_n, sh1_d, or_n, ↓reduceIte, ite_self, Nat.add_sub_cancel, Nat.sub_self, Nat.add_zero, Nat.zero_add, Nat.mul_zero, Nat.zero_mul, eq_self, and_true, true_and, or_true, true_or, and_self, or_self, not_true_eq_false, not_false_eq_true, e1, e4]; try rfl), by unfold FX8_may; (simp (disch := omega) only [i_0, i_1, i_2, i_3, i_4, i_5, i_6, i_7, i_8, i_9, i_10, i_11, i_12, i_13, i_14, i_15, i_16, i_17, i_18, i_19, i_20, i_21, i_22, i_23, i_24, i_25, i_26, i_27, i_28, i_29, i_30, i_31, i_32, i_36, i_40, i_41, i_43, i_48, i_50, i_56, i_57, i_59, i_63, i_64, i_69, i_75, i_76, i_77, i_78, i_79, i_80, i_95, i_96, i_97, i_98, i_99, i_100, i_101, i_102, i_103, i_104, i_105, i_108, i_109, i_110, i_111, i_112, i_113, i_114, i_115, i_116, i_117, i_118, i_119, i_121, i_122, i_123, i_131, i_160, i_199, i_220, i_255, i_256, i_400, i_531, i_999, i_1000, i_1593, i_6000, i_6001, i_6002, i_10000, i_16383, i_16384, i_32768, i_100000, i_294912, i_1000000, bd0_s, bdS2_0, bdS2_1, bdS3_0, bdS3_1, bdS3_2, bdS4_0, bdS4_1, bdS4_2, bdS4_3, un0_s, bd1_s, bd2_s, bd3_s, bd4_s, bd5_s, bd6_s, bd7_s, bd8_s, bd9_s, bd10_s, bd11_s, bd12_s, bd13_s, bd14_s, bd15_s, bd16_s, un1_s, un2_s, un3_s, un4_s, un5_s, un6_s, un7_s, n_add, n_mul, n_addM, n_addD, n_Dadd, n_subD, n_sub, n_div, nD_succ, nD_zero, n_negM, cl_n, cl_d, rd_n, rd_d, wr_n, wr_d, al_n, al_d, b2i_t, b2i_f, lt_t, lt_f, le_t, le_f, eq_t, eq_f, dlt_t, dlt_f, ltd_t, ltd_f, ddl_t, ddl_f, dle_t, dle_f, led_t, led_f, deq_t, deq_f, eqd_t, eqd_f, dde_t, dde_f, m_ne, n_neM, m_lt, n_ltM, m_le, n_leM, m_eqD, m_neD, d_eqM, d_neM, up_t, up_f, bit_n, bit_d, rp_n, rp_d, asb1, sh1_n, sh1_d, or_n, ↓reduceIte, ite_self, Nat.add_sub_cancel, Nat.sub_self, Nat.add_zero, Nat.zero_add, Nat.mul_zero, Nat.zero_mul, eq_self, and_true, true_and, or_true, true_or, and_self, or_self, not_true_eq_false, not_false_eq_true, e2, e3]; try rfl)⟩
theorem mayX_law (h : Cur T M V all t lies ca la year) (on many hAt hMany pile : Nat → Int32) (p q : Int32) : ∃ ans a1 m1 v1 o2 m2 v2 pile', FX0_mayExchange hAt hMany lies t (nI (T 114)) V p q = some (ans, a1, m1, v1) ∧ FX8_mayExchange all on many pile p q = some (ans, o2, m2, v2, pile') := by
  obtain ⟨⟨hW, hS, hm, hy, hB⟩, hA, ht, rfl, hc, hl, rfl⟩ := h
  obtain ⟨a1, m1, e1, hat⟩ := lays4 ht hW hS hm hAt hMany
  obtain ⟨o2, m2, e2, hon⟩ := looksNow8 hA hW hS on many
  obtain ⟨⟨n3, p3⟩, e3, hn3⟩ := mayX8 hA hon hW hS (hB.ok hA hW) hm pile p q
  dsimp only at hn3
  subst hn3
  have e4 := mayX4 (V := V) ht hat hW hS hB.1 hm p q
  exact ⟨_, _, _, _, _, _, _, _, by unfold FX0_mayExchange FX0_here; (simp (disch := omega) only [i_0, i_1, i_2, i_3, i_4, i_5, i_6, i_7, i_8, i_9, i_10, i_11, i_12, i_13, i_14, i_15, i_16, i_17, i_18, i_19, i_20, i_21, i_22, i_23, i_24, i_25, i_26, i_27, i_28, i_29, i_30, i_31, i_32, i_36, i_40, i_41, i_43, i_48, i_50, i_56, i_57, i_59, i_63, i_64, i_69, i_75, i_76, i_77, i_78, i_79, i_80, i_95, i_96, i_97, i_98, i_99, i_100, i_101, i_102, i_103, i_104, i_105, i_108, i_109, i_110, i_111, i_112, i_113, i_114, i_115, i_116, i_117, i_118, i_119, i_121, i_122, i_123, i_131, i_160, i_199, i_220, i_255, i_256, i_400, i_531, i_999, i_1000, i_1593, i_6000, i_6001, i_6002, i_10000, i_16383, i_16384, i_32768, i_100000, i_294912, i_1000000, bd0_s, bdS2_0, bdS2_1, bdS3_0, bdS3_1, bdS3_2, bdS4_0, bdS4_1, bdS4_2, bdS4_3, un0_s, bd1_s, bd2_s, bd3_s, bd4_s, bd5_s, bd6_s, bd7_s, bd8_s, bd9_s, bd10_s, bd11_s, bd12_s, bd13_s, bd14_s, bd15_s, bd16_s, un1_s, un2_s, un3_s, un4_s, un5_s, un6_s, un7_s, n_add, n_mul, n_addM, n_addD, n_Dadd, n_subD, n_sub, n_div, nD_succ, nD_zero, n_negM, cl_n, cl_d, rd_n, rd_d, wr_n, wr_d, al_n, al_d, b2i_t, b2i_f, lt_t, lt_f, le_t, le_f, eq_t, eq_f, dlt_t, dlt_f, ltd_t, ltd_f, ddl_t, ddl_f, dle_t, dle_f, led_t, led_f, deq_t, deq_f, eqd_t, eqd_f, dde_t, dde_f, m_ne, n_neM, m_lt, n_ltM, m_le, n_leM, m_eqD, m_neD, d_eqM, d_neM, up_t, up_f, bit_n, bit_d, rp_n, rp_d, asb1, sh1_n, sh1_d, or_n, ↓reduceIte, ite_self, Nat.add_sub_cancel, Nat.sub_self, Nat.add_zero, Nat.zero_add, Nat.mul_zero, Nat.zero_mul, eq_self, and_true, true_and, or_true, true_or, and_self, or_self, not_true_eq_false, not_false_eq_true, e1, e4]; try rfl), by unfold FX8_mayExchange; (simp (disch := omega) only [i_0, i_1, i_2, i_3, i_4, i_5, i_6, i_7, i_8, i_9, i_10, i_11, i_12, i_13, i_14, i_15, i_16, i_17, i_18, i_19, i_20, i_21, i_22, i_23, i_24, i_25, i_26, i_27, i_28, i_29, i_30, i_31, i_32, i_36, i_40, i_41, i_43, i_48, i_50, i_56, i_57, i_59, i_63, i_64, i_69, i_75, i_76, i_77, i_78, i_79, i_80, i_95, i_96, i_97, i_98, i_99, i_100, i_101, i_102, i_103, i_104, i_105, i_108, i_109, i_110, i_111, i_112, i_113, i_114, i_115, i_116, i_117, i_118, i_119, i_121, i_122, i_123, i_131, i_160, i_199, i_220, i_255, i_256, i_400, i_531, i_999, i_1000, i_1593, i_6000, i_6001, i_6002, i_10000, i_16383, i_16384, i_32768, i_100000, i_294912, i_1000000, bd0_s, bdS2_0, bdS2_1, bdS3_0, bdS3_1, bdS3_2, bdS4_0, bdS4_1, bdS4_2, bdS4_3, un0_s, bd1_s, bd2_s, bd3_s, bd4_s, bd5_s, bd6_s, bd7_s, bd8_s, bd9_s, bd10_s, bd11_s, bd12_s, bd13_s, bd14_s, bd15_s, bd16_s, un1_s, un2_s, un3_s, un4_s, un5_s, un6_s, un7_s, n_add, n_mul, n_addM, n_addD, n_Dadd, n_subD, n_sub, n_div, nD_succ, nD_zero, n_negM, cl_n, cl_d, rd_n, rd_d, wr_n, wr_d, al_n, al_d, b2i_t, b2i_f, lt_t, lt_f, le_t, le_f, eq_t, eq_f, dlt_t, dlt_f, ltd_t, ltd_f, ddl_t, ddl_f, dle_t, dle_f, led_t, led_f, deq_t, deq_f, eqd_t, eqd_f, dde_t, dde_f, m_ne, n_neM, m_lt, n_ltM, m_le, n_leM, m_eqD, m_neD, d_eqM, d_neM, up_t, up_f, bit_n, bit_d, rp_n, rp_d, asb1, sh1_n, sh1_d, or_n, ↓reduceIte, ite_self, Nat.add_sub_cancel, Nat.sub_self, Nat.add_zero, Nat.zero_add, Nat.mul_zero, Nat.zero_mul, eq_self, and_true, true_and, or_true, true_or, and_self, or_self, not_true_eq_false, not_false_eq_true, e2, e3]; try rfl)⟩
theorem Cur.step (h : WT T) (hB : BarsT T V) (ht : TwAt t T) (hy : T 112 ≤ 999) {U O' M' : Nat → Nat} {mv' : Nat} (hS : WO T O' M') (hm : mv' < 256) (h1 : ∀ k, (k < 80 ∨ 112 ≤ k) → U k = T k) (h2 : ∀ p, p < 15 → U (80 + p) = O' p) (h3 : U 95 = mv') (hA : AllAt all U) {lies : Int64} (hl : lies = lN (enc O' mv')) (hc : ∀ i, i < 8 → ca i = nI (U (96 + i))) (hla : ∀ i, i < 8 → la i = nD (U (104 + i))) : Cur U M' V all t lies ca la (nI (T 112)) := by
  have hlt : ∀ k, k < 80 → U k = T k := fun k hk => h1 k (Or.inl hk)
  refine ⟨⟨h.cong hlt, (hS.congO (P := fun p => U (80 + p)) h2 (fun _ _ => rfl)).congT hlt, by rw [h3]; exact hm, by rw [h1 112 (by omega)]; exact hy, hB.cong fun k hk _ => h1 k (by omega)⟩, hA, ht.cong hlt, ?_, hc, hla, by rw [h1 112 (by omega)]⟩
  rw [hl, h3, enc_cong (O := fun p => U (80 + p)) (O' := O') h2]
theorem carry_law (h : Cur T M V all t lies ca la year) (on many hAt hMany pile : Nat → Int32) (p q : Int32) : ∃ ans a1 m1 ca' la' v1 lies' all' o2 m2 v2 pile' U M', FX0_carry hAt hMany ca la nM year lies t (nI (T 114)) V p q = some (ans, a1, m1, ca', la', v1, lies') ∧ FX8_carry all on many pile nM p q = some (ans, all', o2, m2, v2, pile') ∧ (∀ k, 531 ≤ k → all' k = all k) ∧ (∀ k, (k < 80 ∨ 112 ≤ k) → U k = T k) ∧ Cur U M' V all' t lies' ca' la' year ∧ ((maS T (fun p => T (80 + p)) M V (T 95) 0 p q ≠ 0 ∧ ans < 0 ∧ U = T ∧ M' = M) ∨ ∃ a b, a < 5 ∧ b < 5 ∧ ¬ ans < 0 ∧ p = nI a ∧ q = nI b ∧ (∀ p, p < 15 → U (80 + p) = caO (fun p => T (80 + p)) M a b p) ∧ M' = caM M a b ∧ U 95 = T 95 ||| 2 ^ (T (80 + (3 * a + (M a - 1))) - 1) ∧ U 112 = T 112) := by
  have h0 := h
  obtain ⟨⟨hW, hS, hm, hy, hB⟩, hA, ht, rfl, hc, hl, rfl⟩ := h
  obtain ⟨a1, m1, e1, hat⟩ := lays4 ht hW hS hm hAt hMany
  obtain ⟨o2, m2, e2, hon⟩ := looksNow8 hA hW hS on many
  obtain ⟨⟨n3, m3, p3⟩, e3, hn3, hon3⟩ := may8 (as1 := 0) hA hon hW hS (hB.ok hA hW) hm (by omega) pile p q
  dsimp only at hn3 hon3
  subst hn3
  have e4 := may4 (V := V) (as1 := 0) ht hat hW hS hB.1 hm (by omega) p q
  rw [nD_zero] at e3 e4
  have hle := maS_le (T := T) (O := fun p => T (80 + p)) (M := M) (V := V) (mv := T 95) (as1 := 0) (p := p) (q := q)
  by_cases c : maS T (fun p => T (80 + p)) M V (T 95) 0 p q = 0
  · obtain ⟨a, b, ha, hb, hab, rfl, rfl, ha0, hb0, hN, hbit⟩ := maS_0 hW c
    have hw := hW.b
    obtain ⟨a2, m4, e5, hat2⟩ := carries4 hat hW hS hm ha hb hab ha0 hb0 1 (by omega)
    obtain ⟨o3, m5, e6, hon4⟩ := carries8 hon3 hW hS hm ha hb hab ha0 hb0
    have et := top8 hon3 hW hS (show a < 5 by omega) (by omega)
    obtain ⟨s1, s2, s3⟩ := hS.st hW (show a < 5 by omega) (show M a - 1 < M a by omega)
    have hS' := hS.ca hW ha hb hab ha0 hb0
    generalize hi : T (80 + (3 * a + (M a - 1))) - 1 = i at e5 e6 et
    have hi8 : i < 8 := by omega
    obtain ⟨al1, e7, hA1, hk1⟩ := keepsNow8 (O := caO (fun p => T (80 + p)) M a b) hA hon4.1 (T 95 ||| 2 ^ i)
    obtain ⟨al2, e8, hA2, hk2⟩ := counted8 hA1 hi8
    obtain ⟨ca', la', e9, hc', hl'⟩ := counts0 (T := T) (i := i) hc hl hi8
    have hb100 : ∀ p, p < 15 → caO (fun p => T (80 + p)) M a b p < 100 := fun p hp => by have := hS'.1 p hp; omega
    have hm' := or_lt hm hi8
    have e10 := lies4 hat2.1 hb100 hm' (lN (enc (fun p => T (80 + p)) (T 95)))
    rw [if_neg (by decide)] at e5
    refine ⟨_, _, _, _, _, _, _, _, _, _, _, _, ctT (kpT T (caO (fun p => T (80 + p)) M a b) (T 95 ||| 2 ^ i)) i, caM M a b, by
      unfold FX0_carry FX0_here
      (simp (disch := omega) only [i_0, i_1, i_2, i_3, i_4, i_5, i_6, i_7, i_8, i_9, i_10, i_11, i_12, i_13, i_14, i_15, i_16, i_17, i_18, i_19, i_20, i_21, i_22, i_23, i_24, i_25, i_26, i_27, i_28, i_29, i_30, i_31, i_32, i_36, i_40, i_41, i_43, i_48, i_50, i_56, i_57, i_59, i_63, i_64, i_69, i_75, i_76, i_77, i_78, i_79, i_80, i_95, i_96, i_97, i_98, i_99, i_100, i_101, i_102, i_103, i_104, i_105, i_108, i_109, i_110, i_111, i_112, i_113, i_114, i_115, i_116, i_117, i_118, i_119, i_121, i_122, i_123, i_131, i_160, i_199, i_220, i_255, i_256, i_400, i_531, i_999, i_1000, i_1593, i_6000, i_6001, i_6002, i_10000, i_16383, i_16384, i_32768, i_100000, i_294912, i_1000000, bd0_s, bdS2_0, bdS2_1, bdS3_0, bdS3_1, bdS3_2, bdS4_0, bdS4_1, bdS4_2, bdS4_3, un0_s, bd1_s, bd2_s, bd3_s, bd4_s, bd5_s, bd6_s, bd7_s, bd8_s, bd9_s, bd10_s, bd11_s, bd12_s, bd13_s, bd14_s, bd15_s, bd16_s, un1_s, un2_s, un3_s, un4_s, un5_s, un6_s, un7_s, n_add, n_mul, n_addM, n_addD, n_Dadd, n_subD, n_sub, n_div, nD_succ, nD_zero, n_negM, cl_n, cl_d, rd_n, rd_d, wr_n, wr_d, al_n, al_d, b2i_t, b2i_f, lt_t, lt_f, le_t, le_f, eq_t, eq_f, dlt_t, dlt_f, ltd_t, ltd_f, ddl_t, ddl_f, dle_t, dle_f, led_t, led_f, deq_t, deq_f, eqd_t, eqd_f, dde_t, dde_f, m_ne, n_neM, m_lt, n_ltM, m_le, n_leM, m_eqD, m_neD, d_eqM, d_neM, up_t, up_f, bit_n, bit_d, rp_n, rp_d, asb1, sh1_n, sh1_d, or_n, ↓reduceIte, ite_self, Nat.add_sub_cancel, Nat.sub_self, Nat.add_zero, Nat.zero_add, Nat.mul_zero, Nat.zero_mul, eq_self, and_true, true_and, or_true, true_or, and_self, or_self, not_true_eq_false, not_false_eq_true, e1, e4, c, e5, e9, e10]; try rfl), by
      unfold FX8_carry
      (simp (disch := omega) only [i_0, i_1, i_2, i_3, i_4, i_5, i_6, i_7, i_8, i_9, i_10, i_11, i_12, i_13, i_14, i_15, i_16, i_17, i_18, i_19, i_20, i_21, i_22, i_23, i_24, i_25, i_26, i_27, i_28, i_29, i_30, i_31, i_32, i_36, i_40, i_41, i_43, i_48, i_50, i_56, i_57, i_59, i_63, i_64, i_69, i_75, i_76, i_77, i_78, i_79, i_80, i_95, i_96, i_97, i_98, i_99, i_100, i_101, i_102, i_103, i_104, i_105, i_108, i_109, i_110, i_111, i_112, i_113, i_114, i_115, i_116, i_117, i_118, i_119, i_121, i_122, i_123, i_131, i_160, i_199, i_220, i_255, i_256, i_400, i_531, i_999, i_1000, i_1593, i_6000, i_6001, i_6002, i_10000, i_16383, i_16384, i_32768, i_100000, i_294912, i_1000000, bd0_s, bdS2_0, bdS2_1, bdS3_0, bdS3_1, bdS3_2, bdS4_0, bdS4_1, bdS4_2, bdS4_3, un0_s, bd1_s, bd2_s, bd3_s, bd4_s, bd5_s, bd6_s, bd7_s, bd8_s, bd9_s, bd10_s, bd11_s, bd12_s, bd13_s, bd14_s, bd15_s, bd16_s, un1_s, un2_s, un3_s, un4_s, un5_s, un6_s, un7_s, n_add, n_mul, n_addM, n_addD, n_Dadd, n_subD, n_sub, n_div, nD_succ, nD_zero, n_negM, cl_n, cl_d, rd_n, rd_d, wr_n, wr_d, al_n, al_d, b2i_t, b2i_f, lt_t, lt_f, le_t, le_f, eq_t, eq_f, dlt_t, dlt_f, ltd_t, ltd_f, ddl_t, ddl_f, dle_t, dle_f, led_t, led_f, deq_t, deq_f, eqd_t, eqd_f, dde_t, dde_f, m_ne, n_neM, m_lt, n_ltM, m_le, n_leM, m_eqD, m_neD, d_eqM, d_neM, up_t, up_f, bit_n, bit_d, rp_n, rp_d, asb1, sh1_n, sh1_d, or_n, ↓reduceIte, ite_self, Nat.add_sub_cancel, Nat.sub_self, Nat.add_zero, Nat.zero_add, Nat.mul_zero, Nat.zero_mul, eq_self, and_true, true_and, or_true, true_or, and_self, or_self, not_true_eq_false, not_false_eq_true, e2, e3, c, et, e6, e7, e8]; try rfl), fun k hk => (hk2 k hk).trans (hk1 k hk), fun k hk => by rw [ctT_o (by omega) (by omega), kpT_o (by omega)], ?_, Or.inr ⟨a, b, by omega, by omega, by rw [show (0 : Int32) = nI 0 from rfl, lt_f (by omega) (by omega)]; exact id, rfl, rfl, fun p hp => by rw [ctT_o (by omega) (by omega), kpT_p hp], rfl, by rw [ctT_o (by omega) (by omega), kpT_m, hi], by rw [ctT_o (by omega) (by omega), kpT_o (by omega)]⟩⟩
    refine Cur.step hW hB ht hy (O' := caO (fun p => T (80 + p)) M a b) hS' hm' (fun k hk => by rw [ctT_o (by omega) (by omega), kpT_o (by omega)]) (fun p hp => by rw [ctT_o (by omega) (by omega), kpT_p hp]) (by rw [ctT_o (by omega) (by omega), kpT_m]) hA2 rfl (fun j hj => ?_) (fun j hj => ?_)
    · rw [hc' j hj]
      unfold ctT
      by_cases c : j = i
      · rw [upn_f (by omega), upn_t (by omega), upn_f (by omega), upn_t (by omega), kpT_o (by omega)]
      · rw [upn_f (by omega), upn_f (by omega), upn_f (by omega), upn_f (by omega), kpT_o (by omega)]
    · rw [hl' j hj]
      unfold ctT
      by_cases c : j = i
      · rw [upn_t (by omega), upn_t (by omega), kpT_o (by omega)]
      · rw [upn_f (by omega), upn_f (by omega), upn_f (by omega), upn_f (by omega), kpT_o (by omega)]
  · refine ⟨(-10) - nI (maS T (fun p => T (80 + p)) M V (T 95) 0 p q), _, _, _, _, _, _, _, _, _, _, _, T, M, by
      unfold FX0_carry FX0_here
      (simp (disch := omega) only [i_0, i_1, i_2, i_3, i_4, i_5, i_6, i_7, i_8, i_9, i_10, i_11, i_12, i_13, i_14, i_15, i_16, i_17, i_18, i_19, i_20, i_21, i_22, i_23, i_24, i_25, i_26, i_27, i_28, i_29, i_30, i_31, i_32, i_36, i_40, i_41, i_43, i_48, i_50, i_56, i_57, i_59, i_63, i_64, i_69, i_75, i_76, i_77, i_78, i_79, i_80, i_95, i_96, i_97, i_98, i_99, i_100, i_101, i_102, i_103, i_104, i_105, i_108, i_109, i_110, i_111, i_112, i_113, i_114, i_115, i_116, i_117, i_118, i_119, i_121, i_122, i_123, i_131, i_160, i_199, i_220, i_255, i_256, i_400, i_531, i_999, i_1000, i_1593, i_6000, i_6001, i_6002, i_10000, i_16383, i_16384, i_32768, i_100000, i_294912, i_1000000, bd0_s, bdS2_0, bdS2_1, bdS3_0, bdS3_1, bdS3_2, bdS4_0, bdS4_1, bdS4_2, bdS4_3, un0_s, bd1_s, bd2_s, bd3_s, bd4_s, bd5_s, bd6_s, bd7_s, bd8_s, bd9_s, bd10_s, bd11_s, bd12_s, bd13_s, bd14_s, bd15_s, bd16_s, un1_s, un2_s, un3_s, un4_s, un5_s, un6_s, un7_s, n_add, n_mul, n_addM, n_addD, n_Dadd, n_subD, n_sub, n_div, nD_succ, nD_zero, n_negM, cl_n, cl_d, rd_n, rd_d, wr_n, wr_d, al_n, al_d, b2i_t, b2i_f, lt_t, lt_f, le_t, le_f, eq_t, eq_f, dlt_t, dlt_f, ltd_t, ltd_f, ddl_t, ddl_f, dle_t, dle_f, led_t, led_f, deq_t, deq_f, eqd_t, eqd_f, dde_t, dde_f, m_ne, n_neM, m_lt, n_ltM, m_le, n_leM, m_eqD, m_neD, d_eqM, d_neM, up_t, up_f, bit_n, bit_d, rp_n, rp_d, asb1, sh1_n, sh1_d, or_n, ↓reduceIte, ite_self, Nat.add_sub_cancel, Nat.sub_self, Nat.add_zero, Nat.zero_add, Nat.mul_zero, Nat.zero_mul, eq_self, and_true, true_and, or_true, true_or, and_self, or_self, not_true_eq_false, not_false_eq_true, e1, e4, c]; try rfl), by
      unfold FX8_carry
      (simp (disch := omega) only [i_0, i_1, i_2, i_3, i_4, i_5, i_6, i_7, i_8, i_9, i_10, i_11, i_12, i_13, i_14, i_15, i_16, i_17, i_18, i_19, i_20, i_21, i_22, i_23, i_24, i_25, i_26, i_27, i_28, i_29, i_30, i_31, i_32, i_36, i_40, i_41, i_43, i_48, i_50, i_56, i_57, i_59, i_63, i_64, i_69, i_75, i_76, i_77, i_78, i_79, i_80, i_95, i_96, i_97, i_98, i_99, i_100, i_101, i_102, i_103, i_104, i_105, i_108, i_109, i_110, i_111, i_112, i_113, i_114, i_115, i_116, i_117, i_118, i_119, i_121, i_122, i_123, i_131, i_160, i_199, i_220, i_255, i_256, i_400, i_531, i_999, i_1000, i_1593, i_6000, i_6001, i_6002, i_10000, i_16383, i_16384, i_32768, i_100000, i_294912, i_1000000, bd0_s, bdS2_0, bdS2_1, bdS3_0, bdS3_1, bdS3_2, bdS4_0, bdS4_1, bdS4_2, bdS4_3, un0_s, bd1_s, bd2_s, bd3_s, bd4_s, bd5_s, bd6_s, bd7_s, bd8_s, bd9_s, bd10_s, bd11_s, bd12_s, bd13_s, bd14_s, bd15_s, bd16_s, un1_s, un2_s, un3_s, un4_s, un5_s, un6_s, un7_s, n_add, n_mul, n_addM, n_addD, n_Dadd, n_subD, n_sub, n_div, nD_succ, nD_zero, n_negM, cl_n, cl_d, rd_n, rd_d, wr_n, wr_d, al_n, al_d, b2i_t, b2i_f, lt_t, lt_f, le_t, le_f, eq_t, eq_f, dlt_t, dlt_f, ltd_t, ltd_f, ddl_t, ddl_f, dle_t, dle_f, led_t, led_f, deq_t, deq_f, eqd_t, eqd_f, dde_t, dde_f, m_ne, n_neM, m_lt, n_ltM, m_le, n_leM, m_eqD, m_neD, d_eqM, d_neM, up_t, up_f, bit_n, bit_d, rp_n, rp_d, asb1, sh1_n, sh1_d, or_n, ↓reduceIte, ite_self, Nat.add_sub_cancel, Nat.sub_self, Nat.add_zero, Nat.zero_add, Nat.mul_zero, Nat.zero_mul, eq_self, and_true, true_and, or_true, true_or, and_self, or_self, not_true_eq_false, not_false_eq_true, e2, e3, c]; try rfl), fun k hk => rfl, fun k hk => rfl, h0, Or.inl ⟨c, ?_, rfl, rfl⟩⟩
    rw [lt_iff]
    show ((-10 : Int32) - nI _).toInt < (0 : Int32).toInt
    rw [fb_subI (by rw [toN (by omega)]; show _ ≤ (-10 : Int) - _; omega) (by rw [toN (by omega)]; show (-10 : Int) - _ < _; omega), toN (by omega)]
    show (-10 : Int) - _ < 0
    omega
end P26
