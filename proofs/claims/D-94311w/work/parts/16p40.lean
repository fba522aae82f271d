set_option maxRecDepth 100000
def cnP (T O : Nat → Nat) (k i : Nat) : Bool := decide (T (7 + i) = k) && decide (pl O i ≠ 15)
def wsP (T : Nat → Nat) (w k p : Nat) : Bool := wiS T w (p / 3) && decide (T (41 + p) = k + 1)
def lkS (T O : Nat → Nat) (w k : Nat) : Bool := decide (fb_ct (cnP T O k) (T 6) < fb_ct (wsP T w k) 15)
def lkA (T O : Nat → Nat) (w : Nat) : Nat → Nat → Bool
  | 0, _ => false
  | f + 1, k => if lkS T O w k then true else lkA T O w f (k + 1)
theorem sub_le : ∀ a, a < 9 → ∀ b, b < 16 → ((0 : Int32) ≤ nI a - nI b ↔ b ≤ a) := by decide +kernel
theorem sub_1 (a : Int32) (b : Nat) : a - nI b - 1 = a - nI (b + 1) := by
  rw [show (1 : Int32) = nI 1 from rfl, ← n_add b 1, Int32.sub_eq_add_neg, Int32.sub_eq_add_neg, Int32.sub_eq_add_neg, Int32.neg_add, Int32.sub_eq_add_neg, Int32.add_assoc]
theorem sub_0 (a : Int32) : a - 0 = a := Int32.sub_zero a
/-- a must against the wish: k-th on -/
def agS (T : Nat → Nat) (w k : Nat) : Bool := wiS T w (T (63 + k)) && (if T (57 + k) = 0 then decide (T (31 + T (63 + k)) - 1 < T (69 + k)) else decide (T (69 + k) < T (31 + T (63 + k)) - 1))
def agA (T : Nat → Nat) (w : Nat) : Nat → Nat → Bool
  | 0, _ => false
  | f + 1, k => if agS T w k then true else agA T w f (k + 1)
theorem wiS_pos {T : Nat → Nat} {w r : Nat} (h : wiS T w r = true) : T (31 + r) ≠ 0 := by
  intro z
  rw [wiS, if_pos z] at h
  exact absurd h Bool.false_ne_true
section P40
variable {all t : Nat → Int32} {T O M : Nat → Nat} {V : Nat → BvT} {mv w : Nat}
theorem lack4 (ht : TwAt t T) (hW : WT T) (hm : mv < 256) (hw : w < 100) {k : Nat} (hk : k < 8) : FX0_isLacking_b2 (lN (enc O mv)) t (nD w) (nI k) = some (if lkS T O w k then .inr (.inl ()) else .inl (nI (k + 1))) := by
  have hb := hW.b
  have g0 := ht.n (k := 6) (by omega) (by omega)
  have h1 := up_eq (B := fun (s : Int32 × Int32) => FX0_isLacking_b13 (lN (enc O mv)) t (nI k) s.1 s.2) (fun i (a : Int32) => (a, nI i)) (fun i => nI (fb_ct (cnP T O k) i)) (T 6) (r := nI (fb_ct (cnP T O k) (T 6))) (fun i hi => by
    have e1 := isThere4 (O := O) ht hW hm hi
    have e2 := ht.n (k := 7 + i) (by omega) (by omega)
    have e3 := (hW.2.2.1 i (by omega)).1
    show FX0_isLacking_b13 (lN (enc O mv)) t (nI k) (nI _) (nI i) = _
    rw [fb_ct_succ]
    unfold FX0_isLacking_b13 FX0_isLacking_j70 FX0_isLacking_j71
    by_cases c : pl O i = 15
    · rw [decide_eq_false (show ¬ pl O i ≠ 15 from fun z => z c)] at e1
      rw [show cnP T O k i = false by unfold cnP; rw [decide_eq_false (show ¬ pl O i ≠ 15 from fun z => z c), Bool.and_false]]
      simp (disch := omega) only [i_0, i_1, i_2, i_3, i_4, i_5, i_6, i_7, i_8, i_9, i_10, i_11, i_12, i_13, i_14, i_15, i_16, i_17, i_18, i_19, i_20, i_21, i_22, i_23, i_24, i_25, i_26, i_27, i_28, i_29, i_30, i_31, i_32, i_36, i_40, i_41, i_43, i_48, i_50, i_56, i_57, i_59, i_63, i_64, i_69, i_75, i_76, i_77, i_78, i_79, i_80, i_95, i_96, i_97, i_98, i_99, i_100, i_101, i_102, i_103, i_104, i_105, i_108, i_109, i_110, i_111, i_112, i_113, i_114, i_115, i_116, i_117, i_118, i_119, i_121, i_122, i_123, i_131, i_160, i_199, i_220, i_255, i_256, i_400, i_531, i_999, i_1000, i_1593, i_6000, i_6001, i_6002, i_10000, i_16383, i_16384, i_32768, i_100000, i_294912, i_1000000, bd0_s, bdS2_0, bdS2_1, bdS3_0, bdS3_1, bdS3_2, bdS4_0, bdS4_1, bdS4_2, bdS4_3, un0_s, bd1_s, bd2_s, bd3_s, bd4_s, bd5_s, bd6_s, bd7_s, bd8_s, bd9_s, bd10_s, bd11_s, bd12_s, bd13_s, bd14_s, bd15_s, bd16_s, un1_s, un2_s, un3_s, un4_s, un5_s, un6_s, un7_s, n_add, n_mul, n_addM, n_addD, n_Dadd, n_subD, n_sub, n_div, nD_succ, nD_zero, n_negM, cl_n, cl_d, rd_n, rd_d, wr_n, wr_d, al_n, al_d, b2i_t, b2i_f, lt_t, lt_f, le_t, le_f, eq_t, eq_f, dlt_t, dlt_f, ltd_t, ltd_f, ddl_t, ddl_f, dle_t, dle_f, led_t, led_f, deq_t, deq_f, eqd_t, eqd_f, dde_t, dde_f, m_ne, n_neM, m_lt, n_ltM, m_le, n_leM, m_eqD, m_neD, d_eqM, d_neM, up_t, up_f, bit_n, bit_d, rp_n, rp_d, asb1, sh1_n, sh1_d, or_n, ↓reduceIte, ite_self, Nat.add_sub_cancel, Nat.sub_self, Nat.add_zero, Nat.zero_add, Nat.mul_zero, Nat.zero_mul, eq_self, and_true, true_and, or_true, true_or, and_self, or_self, not_true_eq_false, not_false_eq_true, g0, e1, Bool.false_eq_true]
    · rw [decide_eq_true c] at e1
      by_cases c2 : T (7 + i) = k
      · rw [show cnP T O k i = true by unfold cnP; rw [decide_eq_true c, decide_eq_true c2]; rfl]
        simp (disch := omega) only [i_0, i_1, i_2, i_3, i_4, i_5, i_6, i_7, i_8, i_9, i_10, i_11, i_12, i_13, i_14, i_15, i_16, i_17, i_18, i_19, i_20, i_21, i_22, i_23, i_24, i_25, i_26, i_27, i_28, i_29, i_30, i_31, i_32, i_36, i_40, i_41, i_43, i_48, i_50, i_56, i_57, i_59, i_63, i_64, i_69, i_75, i_76, i_77, i_78, i_79, i_80, i_95, i_96, i_97, i_98, i_99, i_100, i_101, i_102, i_103, i_104, i_105, i_108, i_109, i_110, i_111, i_112, i_113, i_114, i_115, i_116, i_117, i_118, i_119, i_121, i_122, i_123, i_131, i_160, i_199, i_220, i_255, i_256, i_400, i_531, i_999, i_1000, i_1593, i_6000, i_6001, i_6002, i_10000, i_16383, i_16384, i_32768, i_100000, i_294912, i_1000000, bd0_s, bdS2_0, bdS2_1, bdS3_0, bdS3_1, bdS3_2, bdS4_0, bdS4_1, bdS4_2, bdS4_3, un0_s, bd1_s, bd2_s, bd3_s, bd4_s, bd5_s, bd6_s, bd7_s, bd8_s, bd9_s, bd10_s, bd11_s, bd12_s, bd13_s, bd14_s, bd15_s, bd16_s, un1_s, un2_s, un3_s, un4_s, un5_s, un6_s, un7_s, n_add, n_mul, n_addM, n_addD, n_Dadd, n_subD, n_sub, n_div, nD_succ, nD_zero, n_negM, cl_n, cl_d, rd_n, rd_d, wr_n, wr_d, al_n, al_d, b2i_t, b2i_f, lt_t, lt_f, le_t, le_f, eq_t, eq_f, dlt_t, dlt_f, ltd_t, ltd_f, ddl_t, ddl_f, dle_t, dle_f, led_t, led_f, deq_t, deq_f, eqd_t, eqd_f, dde_t, dde_f, m_ne, n_neM, m_lt, n_ltM, m_le, n_leM, m_eqD, m_neD, d_eqM, d_neM, up_t, up_f, bit_n, bit_d, rp_n, rp_d, asb1, sh1_n, sh1_d, or_n, ↓reduceIte, ite_self, Nat.add_sub_cancel, Nat.sub_self, Nat.add_zero, Nat.zero_add, Nat.mul_zero, Nat.zero_mul, eq_self, and_true, true_and, or_true, true_or, and_self, or_self, not_true_eq_false, not_false_eq_true, g0, e1, e2, c2]
      · rw [show cnP T O k i = false by unfold cnP; rw [decide_eq_false c2, Bool.false_and]]
        simp (disch := omega) only [i_0, i_1, i_2, i_3, i_4, i_5, i_6, i_7, i_8, i_9, i_10, i_11, i_12, i_13, i_14, i_15, i_16, i_17, i_18, i_19, i_20, i_21, i_22, i_23, i_24, i_25, i_26, i_27, i_28, i_29, i_30, i_31, i_32, i_36, i_40, i_41, i_43, i_48, i_50, i_56, i_57, i_59, i_63, i_64, i_69, i_75, i_76, i_77, i_78, i_79, i_80, i_95, i_96, i_97, i_98, i_99, i_100, i_101, i_102, i_103, i_104, i_105, i_108, i_109, i_110, i_111, i_112, i_113, i_114, i_115, i_116, i_117, i_118, i_119, i_121, i_122, i_123, i_131, i_160, i_199, i_220, i_255, i_256, i_400, i_531, i_999, i_1000, i_1593, i_6000, i_6001, i_6002, i_10000, i_16383, i_16384, i_32768, i_100000, i_294912, i_1000000, bd0_s, bdS2_0, bdS2_1, bdS3_0, bdS3_1, bdS3_2, bdS4_0, bdS4_1, bdS4_2, bdS4_3, un0_s, bd1_s, bd2_s, bd3_s, bd4_s, bd5_s, bd6_s, bd7_s, bd8_s, bd9_s, bd10_s, bd11_s, bd12_s, bd13_s, bd14_s, bd15_s, bd16_s, un1_s, un2_s, un3_s, un4_s, un5_s, un6_s, un7_s, n_add, n_mul, n_addM, n_addD, n_Dadd, n_subD, n_sub, n_div, nD_succ, nD_zero, n_negM, cl_n, cl_d, rd_n, rd_d, wr_n, wr_d, al_n, al_d, b2i_t, b2i_f, lt_t, lt_f, le_t, le_f, eq_t, eq_f, dlt_t, dlt_f, ltd_t, ltd_f, ddl_t, ddl_f, dle_t, dle_f, led_t, led_f, deq_t, deq_f, eqd_t, eqd_f, dde_t, dde_f, m_ne, n_neM, m_lt, n_ltM, m_le, n_leM, m_eqD, m_neD, d_eqM, d_neM, up_t, up_f, bit_n, bit_d, rp_n, rp_d, asb1, sh1_n, sh1_d, or_n, ↓reduceIte, ite_self, Nat.add_sub_cancel, Nat.sub_self, Nat.add_zero, Nat.zero_add, Nat.mul_zero, Nat.zero_mul, eq_self, and_true, true_and, or_true, true_or, and_self, or_self, not_true_eq_false, not_false_eq_true, g0, e1, e2, c2, Bool.false_eq_true]) (by
    show FX0_isLacking_b13 (lN (enc O mv)) t (nI k) (nI _) (nI (T 6)) = _
    unfold FX0_isLacking_b13
    simp (disch := omega) only [i_0, i_1, i_2, i_3, i_4, i_5, i_6, i_7, i_8, i_9, i_10, i_11, i_12, i_13, i_14, i_15, i_16, i_17, i_18, i_19, i_20, i_21, i_22, i_23, i_24, i_25, i_26, i_27, i_28, i_29, i_30, i_31, i_32, i_36, i_40, i_41, i_43, i_48, i_50, i_56, i_57, i_59, i_63, i_64, i_69, i_75, i_76, i_77, i_78, i_79, i_80, i_95, i_96, i_97, i_98, i_99, i_100, i_101, i_102, i_103, i_104, i_105, i_108, i_109, i_110, i_111, i_112, i_113, i_114, i_115, i_116, i_117, i_118, i_119, i_121, i_122, i_123, i_131, i_160, i_199, i_220, i_255, i_256, i_400, i_531, i_999, i_1000, i_1593, i_6000, i_6001, i_6002, i_10000, i_16383, i_16384, i_32768, i_100000, i_294912, i_1000000, bd0_s, bdS2_0, bdS2_1, bdS3_0, bdS3_1, bdS3_2, bdS4_0, bdS4_1, bdS4_2, bdS4_3, un0_s, bd1_s, bd2_s, bd3_s, bd4_s, bd5_s, bd6_s, bd7_s, bd8_s, bd9_s, bd10_s, bd11_s, bd12_s, bd13_s, bd14_s, bd15_s, bd16_s, un1_s, un2_s, un3_s, un4_s, un5_s, un6_s, un7_s, n_add, n_mul, n_addM, n_addD, n_Dadd, n_subD, n_sub, n_div, nD_succ, nD_zero, n_negM, cl_n, cl_d, rd_n, rd_d, wr_n, wr_d, al_n, al_d, b2i_t, b2i_f, lt_t, lt_f, le_t, le_f, eq_t, eq_f, dlt_t, dlt_f, ltd_t, ltd_f, ddl_t, ddl_f, dle_t, dle_f, led_t, led_f, deq_t, deq_f, eqd_t, eqd_f, dde_t, dde_f, m_ne, n_neM, m_lt, n_ltM, m_le, n_leM, m_eqD, m_neD, d_eqM, d_neM, up_t, up_f, bit_n, bit_d, rp_n, rp_d, asb1, sh1_n, sh1_d, or_n, ↓reduceIte, ite_self, Nat.add_sub_cancel, Nat.sub_self, Nat.add_zero, Nat.zero_add, Nat.mul_zero, Nat.zero_mul, eq_self, and_true, true_and, or_true, true_or, and_self, or_self, not_true_eq_false, not_false_eq_true, g0]) 0 (by omega)
  have h2 := up_eq (B := fun (s : Int32 × Int32) => FX0_isLacking_b82 t (nD w) (nI k) s.1 s.2) (fun i (a : Int32) => (a, nI i)) (fun i => nI (fb_ct (cnP T O k) (T 6)) - nI (fb_ct (wsP T w k) i)) 15 (r := nI (fb_ct (cnP T O k) (T 6)) - nI (fb_ct (wsP T w k) 15)) (fun i hi => by
    have e1 := wished4 ht hW hi hw
    obtain ⟨e2, e3⟩ := wsh hW hi
    show FX0_isLacking_b82 t (nD w) (nI k) (nI _ - nI _) (nI i) = _
    rw [fb_ct_succ]
    generalize nI (fb_ct (cnP T O k) (T 6)) = C at *
    generalize fb_ct (wsP T w k) i = D at *
    have n15 : ¬ (15 : Int32) ≤ nI i := by rw [show (15 : Int32) = nI 15 from rfl, le_f (by omega) (by omega)]; exact id
    unfold FX0_isLacking_b82 FX0_isLacking_j112 wsP
    rw [if_neg n15, e1, bd1_s, show nI i + 1 = nI (i + 1) from n_add i 1]
    cases hwi : wiS T w (i / 3) with
    | false =>
      rw [if_neg Bool.false_ne_true, if_neg (by rw [nD_zero]; exact fun z => absurd z.symm (by rw [n_neM (by omega)]; exact id)), Bool.false_and, if_neg Bool.false_ne_true]
      rw [sub_0]; rfl
    | true =>
      rw [if_pos rfl, Bool.true_and]
      by_cases c : T (41 + i) = k + 1
      · rw [if_pos (by rw [c, nD_succ]), decide_eq_true c, if_pos rfl]
        rw [sub_1]
      · rw [if_neg (by rw [deq_f c (by omega) (by omega)]; exact id), decide_eq_false c, if_neg Bool.false_ne_true, sub_0]; rfl) (by
    show FX0_isLacking_b82 t (nD w) (nI k) _ (nI 15) = _
    unfold FX0_isLacking_b82
    rw [if_pos (show (15 : Int32) ≤ nI 15 from Int32.le_refl _)]) 0 (by omega)
  have n8 : ¬ (8 : Int32) ≤ nI k := by rw [show (8 : Int32) = nI 8 from rfl, le_f (by omega) (by omega)]; exact id
  have b1 : fb_ct (cnP T O k) (T 6) ≤ T 6 := fb_ct_le _ _
  have b2 : fb_ct (wsP T w k) 15 ≤ 15 := fb_ct_le _ _
  have h1' : loopC (fun (s : Int32 × Int32) => FX0_isLacking_b13 (lN (enc O mv)) t (nI k) s.1 s.2) ((0 : Int32), (0 : Int32)) = some (nI (fb_ct (cnP T O k) (T 6))) := h1
  have h2' : loopC (fun (s : Int32 × Int32) => FX0_isLacking_b82 t (nD w) (nI k) s.1 s.2) (nI (fb_ct (cnP T O k) (T 6)), (0 : Int32)) = some (nI (fb_ct (cnP T O k) (T 6)) - nI (fb_ct (wsP T w k) 15)) := by
    rw [← h2]
    show _ = loopC _ (nI (fb_ct (cnP T O k) (T 6)) - nI 0, nI 0)
    rw [show nI 0 = (0 : Int32) from rfl, sub_0]
  unfold FX0_isLacking_b2 lkS
  rw [if_neg n8, h1', bd1_s, h2', bd1_s]
  by_cases c : fb_ct (cnP T O k) (T 6) < fb_ct (wsP T w k) 15
  · rw [if_neg (by rw [sub_le _ (by omega) _ (by omega)]; omega), decide_eq_true c, if_pos rfl]
  · rw [if_pos (by rw [sub_le _ (by omega) _ (by omega)]; omega), decide_eq_false c, if_neg Bool.false_ne_true, show nI k + 1 = nI (k + 1) from n_add k 1]
theorem lack8 (hA : AllAt all T) (hW : WT T) (hS : WO T (fun p => T (80 + p)) M) (hw : w < 100) {k : Nat} (hk : k < 8) : FX8_areTooFew_b2 all (nD w) (nI k) = some (if lkS T (fun p => T (80 + p)) w k then .inr (.inl ()) else .inl (nI (k + 1))) := by
  have hb := hW.b
  have g0 := hA.n (k := 6) (by omega) (by omega)
  have h1 := up_eq (B := fun (s : Int32 × Int32) => FX8_areTooFew_b13 all (nI k) s.1 s.2) (fun i (a : Int32) => (a, nI i)) (fun i => nI (fb_ct (cnP T (fun p => T (80 + p)) k) i)) (T 6) (r := nI (fb_ct (cnP T (fun p => T (80 + p)) k) (T 6))) (fun i hi => by
    have e1 := placeOf8 hA hW hS (show i < 8 by omega)
    have e2 := hA.n (k := 7 + i) (by omega) (by omega)
    have e3 := (hW.2.2.1 i (by omega)).1
    show FX8_areTooFew_b13 all (nI k) (nI _) (nI i) = _
    rw [fb_ct_succ]
    unfold FX8_areTooFew_b13 FX8_areTooFew_j54 FX8_areTooFew_j55
    by_cases c : pl (fun p => T (80 + p)) i = 15
    · rw [plD, if_pos c] at e1
      rw [show cnP T (fun p => T (80 + p)) k i = false by unfold cnP; rw [decide_eq_false (show ¬ pl (fun p => T (80 + p)) i ≠ 15 from fun z => z c), Bool.and_false]]
      by_cases c2 : T (7 + i) = k
      · simp (disch := omega) only [i_0, i_1, i_2, i_3, i_4, i_5, i_6, i_7, i_8, i_9, i_10, i_11, i_12, i_13, i_14, i_15, i_16, i_17, i_18, i_19, i_20, i_21, i_22, i_23, i_24, i_25, i_26, i_27, i_28, i_29, i_30, i_31, i_32, i_36, i_40, i_41, i_43, i_48, i_50, i_56, i_57, i_59, i_63, i_64, i_69, i_75, i_76, i_77, i_78, i_79, i_80, i_95, i_96, i_97, i_98, i_99, i_100, i_101, i_102, i_103, i_104, i_105, i_108, i_109, i_110, i_111, i_112, i_113, i_114, i_115, i_116, i_117, i_118, i_119, i_121, i_122, i_123, i_131, i_160, i_199, i_220, i_255, i_256, i_400, i_531, i_999, i_1000, i_1593, i_6000, i_6001, i_6002, i_10000, i_16383, i_16384, i_32768, i_100000, i_294912, i_1000000, bd0_s, bdS2_0, bdS2_1, bdS3_0, bdS3_1, bdS3_2, bdS4_0, bdS4_1, bdS4_2, bdS4_3, un0_s, bd1_s, bd2_s, bd3_s, bd4_s, bd5_s, bd6_s, bd7_s, bd8_s, bd9_s, bd10_s, bd11_s, bd12_s, bd13_s, bd14_s, bd15_s, bd16_s, un1_s, un2_s, un3_s, un4_s, un5_s, un6_s, un7_s, n_add, n_mul, n_addM, n_addD, n_Dadd, n_subD, n_sub, n_div, nD_succ, nD_zero, n_negM, cl_n, cl_d, rd_n, rd_d, wr_n, wr_d, al_n, al_d, b2i_t, b2i_f, lt_t, lt_f, le_t, le_f, eq_t, eq_f, dlt_t, dlt_f, ltd_t, ltd_f, ddl_t, ddl_f, dle_t, dle_f, led_t, led_f, deq_t, deq_f, eqd_t, eqd_f, dde_t, dde_f, m_ne, n_neM, m_lt, n_ltM, m_le, n_leM, m_eqD, m_neD, d_eqM, d_neM, up_t, up_f, bit_n, bit_d, rp_n, rp_d, asb1, sh1_n, sh1_d, or_n, ↓reduceIte, ite_self, Nat.add_sub_cancel, Nat.sub_self, Nat.add_zero, Nat.zero_add, Nat.mul_zero, Nat.zero_mul, eq_self, and_true, true_and, or_true, true_or, and_self, or_self, not_true_eq_false, not_false_eq_true, g0, e1, e2, c2, Bool.false_eq_true, nD_zero]
      · simp (disch := omega) only [i_0, i_1, i_2, i_3, i_4, i_5, i_6, i_7, i_8, i_9, i_10, i_11, i_12, i_13, i_14, i_15, i_16, i_17, i_18, i_19, i_20, i_21, i_22, i_23, i_24, i_25, i_26, i_27, i_28, i_29, i_30, i_31, i_32, i_36, i_40, i_41, i_43, i_48, i_50, i_56, i_57, i_59, i_63, i_64, i_69, i_75, i_76, i_77, i_78, i_79, i_80, i_95, i_96, i_97, i_98, i_99, i_100, i_101, i_102, i_103, i_104, i_105, i_108, i_109, i_110, i_111, i_112, i_113, i_114, i_115, i_116, i_117, i_118, i_119, i_121, i_122, i_123, i_131, i_160, i_199, i_220, i_255, i_256, i_400, i_531, i_999, i_1000, i_1593, i_6000, i_6001, i_6002, i_10000, i_16383, i_16384, i_32768, i_100000, i_294912, i_1000000, bd0_s, bdS2_0, bdS2_1, bdS3_0, bdS3_1, bdS3_2, bdS4_0, bdS4_1, bdS4_2, bdS4_3, un0_s, bd1_s, bd2_s, bd3_s, bd4_s, bd5_s, bd6_s, bd7_s, bd8_s, bd9_s, bd10_s, bd11_s, bd12_s, bd13_s, bd14_s, bd15_s, bd16_s, un1_s, un2_s, un3_s, un4_s, un5_s, un6_s, un7_s, n_add, n_mul, n_addM, n_addD, n_Dadd, n_subD, n_sub, n_div, nD_succ, nD_zero, n_negM, cl_n, cl_d, rd_n, rd_d, wr_n, wr_d, al_n, al_d, b2i_t, b2i_f, lt_t, lt_f, le_t, le_f, eq_t, eq_f, dlt_t, dlt_f, ltd_t, ltd_f, ddl_t, ddl_f, dle_t, dle_f, led_t, led_f, deq_t, deq_f, eqd_t, eqd_f, dde_t, dde_f, m_ne, n_neM, m_lt, n_ltM, m_le, n_leM, m_eqD, m_neD, d_eqM, d_neM, up_t, up_f, bit_n, bit_d, rp_n, rp_d, asb1, sh1_n, sh1_d, or_n, ↓reduceIte, ite_self, Nat.add_sub_cancel, Nat.sub_self, Nat.add_zero, Nat.zero_add, Nat.mul_zero, Nat.zero_mul, eq_self, and_true, true_and, or_true, true_or, and_self, or_self, not_true_eq_false, not_false_eq_true, g0, e1, e2, c2, Bool.false_eq_true, nD_zero]
    · have hle := pl_le (fun p => T (80 + p)) i
      rw [plD, if_neg c, nD_succ] at e1
      by_cases c2 : T (7 + i) = k
      · rw [show cnP T (fun p => T (80 + p)) k i = true by unfold cnP; rw [decide_eq_true c, decide_eq_true c2]; rfl]
        simp (disch := omega) only [i_0, i_1, i_2, i_3, i_4, i_5, i_6, i_7, i_8, i_9, i_10, i_11, i_12, i_13, i_14, i_15, i_16, i_17, i_18, i_19, i_20, i_21, i_22, i_23, i_24, i_25, i_26, i_27, i_28, i_29, i_30, i_31, i_32, i_36, i_40, i_41, i_43, i_48, i_50, i_56, i_57, i_59, i_63, i_64, i_69, i_75, i_76, i_77, i_78, i_79, i_80, i_95, i_96, i_97, i_98, i_99, i_100, i_101, i_102, i_103, i_104, i_105, i_108, i_109, i_110, i_111, i_112, i_113, i_114, i_115, i_116, i_117, i_118, i_119, i_121, i_122, i_123, i_131, i_160, i_199, i_220, i_255, i_256, i_400, i_531, i_999, i_1000, i_1593, i_6000, i_6001, i_6002, i_10000, i_16383, i_16384, i_32768, i_100000, i_294912, i_1000000, bd0_s, bdS2_0, bdS2_1, bdS3_0, bdS3_1, bdS3_2, bdS4_0, bdS4_1, bdS4_2, bdS4_3, un0_s, bd1_s, bd2_s, bd3_s, bd4_s, bd5_s, bd6_s, bd7_s, bd8_s, bd9_s, bd10_s, bd11_s, bd12_s, bd13_s, bd14_s, bd15_s, bd16_s, un1_s, un2_s, un3_s, un4_s, un5_s, un6_s, un7_s, n_add, n_mul, n_addM, n_addD, n_Dadd, n_subD, n_sub, n_div, nD_succ, nD_zero, n_negM, cl_n, cl_d, rd_n, rd_d, wr_n, wr_d, al_n, al_d, b2i_t, b2i_f, lt_t, lt_f, le_t, le_f, eq_t, eq_f, dlt_t, dlt_f, ltd_t, ltd_f, ddl_t, ddl_f, dle_t, dle_f, led_t, led_f, deq_t, deq_f, eqd_t, eqd_f, dde_t, dde_f, m_ne, n_neM, m_lt, n_ltM, m_le, n_leM, m_eqD, m_neD, d_eqM, d_neM, up_t, up_f, bit_n, bit_d, rp_n, rp_d, asb1, sh1_n, sh1_d, or_n, ↓reduceIte, ite_self, Nat.add_sub_cancel, Nat.sub_self, Nat.add_zero, Nat.zero_add, Nat.mul_zero, Nat.zero_mul, eq_self, and_true, true_and, or_true, true_or, and_self, or_self, not_true_eq_false, not_false_eq_true, g0, e1, e2, c2]
      · rw [show cnP T (fun p => T (80 + p)) k i = false by unfold cnP; rw [decide_eq_false c2, Bool.false_and]]
        simp (disch := omega) only [i_0, i_1, i_2, i_3, i_4, i_5, i_6, i_7, i_8, i_9, i_10, i_11, i_12, i_13, i_14, i_15, i_16, i_17, i_18, i_19, i_20, i_21, i_22, i_23, i_24, i_25, i_26, i_27, i_28, i_29, i_30, i_31, i_32, i_36, i_40, i_41, i_43, i_48, i_50, i_56, i_57, i_59, i_63, i_64, i_69, i_75, i_76, i_77, i_78, i_79, i_80, i_95, i_96, i_97, i_98, i_99, i_100, i_101, i_102, i_103, i_104, i_105, i_108, i_109, i_110, i_111, i_112, i_113, i_114, i_115, i_116, i_117, i_118, i_119, i_121, i_122, i_123, i_131, i_160, i_199, i_220, i_255, i_256, i_400, i_531, i_999, i_1000, i_1593, i_6000, i_6001, i_6002, i_10000, i_16383, i_16384, i_32768, i_100000, i_294912, i_1000000, bd0_s, bdS2_0, bdS2_1, bdS3_0, bdS3_1, bdS3_2, bdS4_0, bdS4_1, bdS4_2, bdS4_3, un0_s, bd1_s, bd2_s, bd3_s, bd4_s, bd5_s, bd6_s, bd7_s, bd8_s, bd9_s, bd10_s, bd11_s, bd12_s, bd13_s, bd14_s, bd15_s, bd16_s, un1_s, un2_s, un3_s, un4_s, un5_s, un6_s, un7_s, n_add, n_mul, n_addM, n_addD, n_Dadd, n_subD, n_sub, n_div, nD_succ, nD_zero, n_negM, cl_n, cl_d, rd_n, rd_d, wr_n, wr_d, al_n, al_d, b2i_t, b2i_f, lt_t, lt_f, le_t, le_f, eq_t, eq_f, dlt_t, dlt_f, ltd_t, ltd_f, ddl_t, ddl_f, dle_t, dle_f, led_t, led_f, deq_t, deq_f, eqd_t, eqd_f, dde_t, dde_f, m_ne, n_neM, m_lt, n_ltM, m_le, n_leM, m_eqD, m_neD, d_eqM, d_neM, up_t, up_f, bit_n, bit_d, rp_n, rp_d, asb1, sh1_n, sh1_d, or_n, ↓reduceIte, ite_self, Nat.add_sub_cancel, Nat.sub_self, Nat.add_zero, Nat.zero_add, Nat.mul_zero, Nat.zero_mul, eq_self, and_true, true_and, or_true, true_or, and_self, or_self, not_true_eq_false, not_false_eq_true, g0, e1, e2, c2, Bool.false_eq_true]) (by
    show FX8_areTooFew_b13 all (nI k) (nI _) (nI (T 6)) = _
    unfold FX8_areTooFew_b13
    simp (disch := omega) only [i_0, i_1, i_2, i_3, i_4, i_5, i_6, i_7, i_8, i_9, i_10, i_11, i_12, i_13, i_14, i_15, i_16, i_17, i_18, i_19, i_20, i_21, i_22, i_23, i_24, i_25, i_26, i_27, i_28, i_29, i_30, i_31, i_32, i_36, i_40, i_41, i_43, i_48, i_50, i_56, i_57, i_59, i_63, i_64, i_69, i_75, i_76, i_77, i_78, i_79, i_80, i_95, i_96, i_97, i_98, i_99, i_100, i_101, i_102, i_103, i_104, i_105, i_108, i_109, i_110, i_111, i_112, i_113, i_114, i_115, i_116, i_117, i_118, i_119, i_121, i_122, i_123, i_131, i_160, i_199, i_220, i_255, i_256, i_400, i_531, i_999, i_1000, i_1593, i_6000, i_6001, i_6002, i_10000, i_16383, i_16384, i_32768, i_100000, i_294912, i_1000000, bd0_s, bdS2_0, bdS2_1, bdS3_0, bdS3_1, bdS3_2, bdS4_0, bdS4_1, bdS4_2, bdS4_3, un0_s, bd1_s, bd2_s, bd3_s, bd4_s, bd5_s, bd6_s, bd7_s, bd8_s, bd9_s, bd10_s, bd11_s, bd12_s, bd13_s, bd14_s, bd15_s, bd16_s, un1_s, un2_s, un3_s, un4_s, un5_s, un6_s, un7_s, n_add, n_mul, n_addM, n_addD, n_Dadd, n_subD, n_sub, n_div, nD_succ, nD_zero, n_negM, cl_n, cl_d, rd_n, rd_d, wr_n, wr_d, al_n, al_d, b2i_t, b2i_f, lt_t, lt_f, le_t, le_f, eq_t, eq_f, dlt_t, dlt_f, ltd_t, ltd_f, ddl_t, ddl_f, dle_t, dle_f, led_t, led_f, deq_t, deq_f, eqd_t, eqd_f, dde_t, dde_f, m_ne, n_neM, m_lt, n_ltM, m_le, n_leM, m_eqD, m_neD, d_eqM, d_neM, up_t, up_f, bit_n, bit_d, rp_n, rp_d, asb1, sh1_n, sh1_d, or_n, ↓reduceIte, ite_self, Nat.add_sub_cancel, Nat.sub_self, Nat.add_zero, Nat.zero_add, Nat.mul_zero, Nat.zero_mul, eq_self, and_true, true_and, or_true, true_or, and_self, or_self, not_true_eq_false, not_false_eq_true, g0]) 0 (by omega)
  have h2 := up_eq (B := fun (s : Int32 × Int32) => FX8_areTooFew_b66 all (nD w) (nI k) s.1 s.2) (fun i (a : Int32) => (a, nI i)) (fun i => nI (fb_ct (cnP T (fun p => T (80 + p)) k) (T 6)) - nI (fb_ct (wsP T w k) i)) 15 (r := nI (fb_ct (cnP T (fun p => T (80 + p)) k) (T 6)) - nI (fb_ct (wsP T w k) 15)) (fun i hi => by
    have e1 := isWished8 hA hW (r := i / 3) (by omega) hw
    have e4 : rd 1593 all (41 + nI i) = some (nD (T (41 + i))) := by
      rw [show (41 : Int32) = nI 41 from rfl, n_add]
      exact rdn (by omega) (by omega) (hA.d (by omega) (by omega))
    obtain ⟨e2, e3⟩ := wsh hW hi
    have e5 : nI i / 3 = nI (i / 3) := by rw [show (3 : Int32) = nI 3 from rfl, n_div (by omega) (by omega)]
    show FX8_areTooFew_b66 all (nD w) (nI k) (nI _ - nI _) (nI i) = _
    rw [fb_ct_succ]
    generalize nI (fb_ct (cnP T (fun p => T (80 + p)) k) (T 6)) = C at *
    generalize fb_ct (wsP T w k) i = D at *
    have n15 : ¬ (15 : Int32) ≤ nI i := by rw [show (15 : Int32) = nI 15 from rfl, le_f (by omega) (by omega)]; exact id
    unfold FX8_areTooFew_b66 FX8_areTooFew_j104 FX8_areTooFew_j105 wsP
    rw [if_neg n15, e5, e1, bd1_s, e4, bd1_s, show nI i + 1 = nI (i + 1) from n_add i 1]
    cases hwi : wiS T w (i / 3) with
    | false =>
      rw [if_pos (by decide), Bool.false_and, if_neg Bool.false_ne_true]
      rw [sub_0]; rfl
    | true =>
      rw [if_neg (by decide), Bool.true_and]
      by_cases c : T (41 + i) = k + 1
      · rw [if_pos (by rw [c, nD_succ]), decide_eq_true c, if_pos rfl]
        rw [sub_1]
      · rw [if_neg (by rw [deq_f c (by omega) (by omega)]; exact id), decide_eq_false c, if_neg Bool.false_ne_true, sub_0]; rfl) (by
    show FX8_areTooFew_b66 all (nD w) (nI k) _ (nI 15) = _
    unfold FX8_areTooFew_b66
    rw [if_pos (show (15 : Int32) ≤ nI 15 from Int32.le_refl _)]) 0 (by omega)
  have n8 : ¬ (8 : Int32) ≤ nI k := by rw [show (8 : Int32) = nI 8 from rfl, le_f (by omega) (by omega)]; exact id
  have b1 : fb_ct (cnP T (fun p => T (80 + p)) k) (T 6) ≤ T 6 := fb_ct_le _ _
  have b2 : fb_ct (wsP T w k) 15 ≤ 15 := fb_ct_le _ _
  have h1' : loopC (fun (s : Int32 × Int32) => FX8_areTooFew_b13 all (nI k) s.1 s.2) ((0 : Int32), (0 : Int32)) = some (nI (fb_ct (cnP T (fun p => T (80 + p)) k) (T 6))) := h1
  have h2' : loopC (fun (s : Int32 × Int32) => FX8_areTooFew_b66 all (nD w) (nI k) s.1 s.2) (nI (fb_ct (cnP T (fun p => T (80 + p)) k) (T 6)), (0 : Int32)) = some (nI (fb_ct (cnP T (fun p => T (80 + p)) k) (T 6)) - nI (fb_ct (wsP T w k) 15)) := by
    rw [← h2]
    show _ = loopC _ (nI (fb_ct (cnP T (fun p => T (80 + p)) k) (T 6)) - nI 0, nI 0)
    rw [show nI 0 = (0 : Int32) from rfl, sub_0]
  unfold FX8_areTooFew_b2 lkS
  rw [if_neg n8, h1', bd1_s, h2', bd1_s]
  by_cases c : fb_ct (cnP T (fun p => T (80 + p)) k) (T 6) < fb_ct (wsP T w k) 15
  · rw [if_neg (by rw [sub_le _ (by omega) _ (by omega)]; omega), decide_eq_true c, if_pos rfl]
  · rw [if_pos (by rw [sub_le _ (by omega) _ (by omega)]; omega), decide_eq_false c, if_neg Bool.false_ne_true, show nI k + 1 = nI (k + 1) from n_add k 1]
/-- a loop that asks of each number whether -/
theorem ask_loop {B : Int32 → Option (Int32 ⊕ (Unit ⊕ Unit))} {P : Nat → Bool} {A : Nat → Nat → Bool} (hA0 : ∀ k, A 0 k = false) (hA1 : ∀ f k, A (f + 1) k = if P k then true else A f (k + 1)) (n : Nat) (h : ∀ k, k < n → B (nI k) = some (if P k then .inr (.inl ()) else .inl (nI (k + 1)))) (hn : B (nI n) = some (.inr (.inr ()))) : ∀ f k, k + f = n → bdS2 (loopC (fun s => B s) (nI k)) (un0 fun _ => some true) (un0 fun _ => some false) = some (A f k) := by
  intro f
  induction f with
  | zero =>
    intro k hk
    obtain rfl : k = n := by omega
    rw [hA0, loopC_inr (show (fun s => B s) (nI k) = some (.inr (.inr ())) from hn)]
    rfl
  | succ f ih =>
    intro k hk
    have := h k (by omega)
    rw [hA1]
    cases hp : P k with
    | true =>
      rw [hp, if_pos rfl] at this
      rw [if_pos rfl, loopC_inr (show (fun s => B s) (nI k) = some (.inr (.inl ())) from this)]
      rfl
    | false =>
      rw [hp, if_neg Bool.false_ne_true] at this
      rw [if_neg Bool.false_ne_true, loopC_inl (show (fun s => B s) (nI k) = some (.inl (nI (k + 1))) from this)]
      exact ih (k + 1) (by omega)
theorem isLacking4 (ht : TwAt t T) (hW : WT T) (hm : mv < 256) (hw : w < 100) : FX0_isLacking (lN (enc O mv)) t (nD w) = some (lkA T O w 8 0) := by
  unfold FX0_isLacking
  exact ask_loop (B := fun s => FX0_isLacking_b2 (lN (enc O mv)) t (nD w) s) (P := lkS T O w) (A := lkA T O w) (fun _ => rfl) (fun _ _ => rfl) 8 (fun k hk => lack4 ht hW hm hw hk) (by
    show FX0_isLacking_b2 _ t _ (nI 8) = _
    unfold FX0_isLacking_b2
    rw [if_pos (show (8 : Int32) ≤ nI 8 from Int32.le_refl _)]) 8 0 rfl
theorem areTooFew8 (hA : AllAt all T) (hW : WT T) (hS : WO T (fun p => T (80 + p)) M) (hw : w < 100) : FX8_areTooFew all (nD w) = some (lkA T (fun p => T (80 + p)) w 8 0) := by
  unfold FX8_areTooFew
  exact ask_loop (B := fun s => FX8_areTooFew_b2 all (nD w) s) (P := lkS T (fun p => T (80 + p)) w) (A := lkA T (fun p => T (80 + p)) w) (fun _ => rfl) (fun _ _ => rfl) 8 (fun k hk => lack8 hA hW hS hw hk) (by
    show FX8_areTooFew_b2 all _ (nI 8) = _
    unfold FX8_areTooFew_b2
    rw [if_pos (show (8 : Int32) ≤ nI 8 from Int32.le_refl _)]) 8 0 rfl
theorem isAgainst4 (ht : TwAt t T) (hW : WT T) (hw : w < 100) : FX0_isAgainst t (nD w) = some (agA T w (T 56) 0) := by
  have hb := hW.b
  have g0 := ht.n (k := 56) (by omega) (by omega)
  have g1 := ht.n (k := 0) (by omega) (by omega)
  unfold FX0_isAgainst
  refine ask_loop (B := fun s => FX0_isAgainst_b2 t (nD w) s) (P := agS T w) (A := agA T w) (fun _ => rfl) (fun _ _ => rfl) (T 56) (fun k hk => ?_) (by
    show FX0_isAgainst_b2 t _ (nI (T 56)) = _
    unfold FX0_isAgainst_b2
    simp (disch := omega) only [i_0, i_1, i_2, i_3, i_4, i_5, i_6, i_7, i_8, i_9, i_10, i_11, i_12, i_13, i_14, i_15, i_16, i_17, i_18, i_19, i_20, i_21, i_22, i_23, i_24, i_25, i_26, i_27, i_28, i_29, i_30, i_31, i_32, i_36, i_40, i_41, i_43, i_48, i_50, i_56, i_57, i_59, i_63, i_64, i_69, i_75, i_76, i_77, i_78, i_79, i_80, i_95, i_96, i_97, i_98, i_99, i_100, i_101, i_102, i_103, i_104, i_105, i_108, i_109, i_110, i_111, i_112, i_113, i_114, i_115, i_116, i_117, i_118, i_119, i_121, i_122, i_123, i_131, i_160, i_199, i_220, i_255, i_256, i_400, i_531, i_999, i_1000, i_1593, i_6000, i_6001, i_6002, i_10000, i_16383, i_16384, i_32768, i_100000, i_294912, i_1000000, bd0_s, bdS2_0, bdS2_1, bdS3_0, bdS3_1, bdS3_2, bdS4_0, bdS4_1, bdS4_2, bdS4_3, un0_s, bd1_s, bd2_s, bd3_s, bd4_s, bd5_s, bd6_s, bd7_s, bd8_s, bd9_s, bd10_s, bd11_s, bd12_s, bd13_s, bd14_s, bd15_s, bd16_s, un1_s, un2_s, un3_s, un4_s, un5_s, un6_s, un7_s, n_add, n_mul, n_addM, n_addD, n_Dadd, n_subD, n_sub, n_div, nD_succ, nD_zero, n_negM, cl_n, cl_d, rd_n, rd_d, wr_n, wr_d, al_n, al_d, b2i_t, b2i_f, lt_t, lt_f, le_t, le_f, eq_t, eq_f, dlt_t, dlt_f, ltd_t, ltd_f, ddl_t, ddl_f, dle_t, dle_f, led_t, led_f, deq_t, deq_f, eqd_t, eqd_f, dde_t, dde_f, m_ne, n_neM, m_lt, n_ltM, m_le, n_leM, m_eqD, m_neD, d_eqM, d_neM, up_t, up_f, bit_n, bit_d, rp_n, rp_d, asb1, sh1_n, sh1_d, or_n, ↓reduceIte, ite_self, Nat.add_sub_cancel, Nat.sub_self, Nat.add_zero, Nat.zero_add, Nat.mul_zero, Nat.zero_mul, eq_self, and_true, true_and, or_true, true_or, and_self, or_self, not_true_eq_false, not_false_eq_true, g0]) (T 56) 0 (by omega)
  obtain ⟨m1, m2, m3⟩ := hW.2.2.2.2 k hk
  have g2 := ht.n (k := 63 + k) (by omega) (by omega)
  have g4 := isAsked4 ht hW (r := T (63 + k)) (by omega) hw
  have g5 := (hW.2.1 (T (63 + k)) (by omega))
  have g3 := ht.d (k := 31 + T (63 + k)) (by omega)
  have g6 := kpI_n (x := T (31 + T (63 + k)) - 1) ht (show k < 6 by omega) (by omega) (by omega) (by omega)
  show FX0_isAgainst_b2 t (nD w) (nI k) = _
  unfold FX0_isAgainst_b2 FX0_isAgainst_j82 agS
  cases hwi : wiS T w (T (63 + k)) with
  | false =>
    rw [hwi] at g4
    simp (disch := omega) only [i_0, i_1, i_2, i_3, i_4, i_5, i_6, i_7, i_8, i_9, i_10, i_11, i_12, i_13, i_14, i_15, i_16, i_17, i_18, i_19, i_20, i_21, i_22, i_23, i_24, i_25, i_26, i_27, i_28, i_29, i_30, i_31, i_32, i_36, i_40, i_41, i_43, i_48, i_50, i_56, i_57, i_59, i_63, i_64, i_69, i_75, i_76, i_77, i_78, i_79, i_80, i_95, i_96, i_97, i_98, i_99, i_100, i_101, i_102, i_103, i_104, i_105, i_108, i_109, i_110, i_111, i_112, i_113, i_114, i_115, i_116, i_117, i_118, i_119, i_121, i_122, i_123, i_131, i_160, i_199, i_220, i_255, i_256, i_400, i_531, i_999, i_1000, i_1593, i_6000, i_6001, i_6002, i_10000, i_16383, i_16384, i_32768, i_100000, i_294912, i_1000000, bd0_s, bdS2_0, bdS2_1, bdS3_0, bdS3_1, bdS3_2, bdS4_0, bdS4_1, bdS4_2, bdS4_3, un0_s, bd1_s, bd2_s, bd3_s, bd4_s, bd5_s, bd6_s, bd7_s, bd8_s, bd9_s, bd10_s, bd11_s, bd12_s, bd13_s, bd14_s, bd15_s, bd16_s, un1_s, un2_s, un3_s, un4_s, un5_s, un6_s, un7_s, n_add, n_mul, n_addM, n_addD, n_Dadd, n_subD, n_sub, n_div, nD_succ, nD_zero, n_negM, cl_n, cl_d, rd_n, rd_d, wr_n, wr_d, al_n, al_d, b2i_t, b2i_f, lt_t, lt_f, le_t, le_f, eq_t, eq_f, dlt_t, dlt_f, ltd_t, ltd_f, ddl_t, ddl_f, dle_t, dle_f, led_t, led_f, deq_t, deq_f, eqd_t, eqd_f, dde_t, dde_f, m_ne, n_neM, m_lt, n_ltM, m_le, n_leM, m_eqD, m_neD, d_eqM, d_neM, up_t, up_f, bit_n, bit_d, rp_n, rp_d, asb1, sh1_n, sh1_d, or_n, ↓reduceIte, ite_self, Nat.add_sub_cancel, Nat.sub_self, Nat.add_zero, Nat.zero_add, Nat.mul_zero, Nat.zero_mul, eq_self, and_true, true_and, or_true, true_or, and_self, or_self, not_true_eq_false, not_false_eq_true, g0, g1, g2, g4, Bool.false_and, Bool.false_eq_true]
  | true =>
    rw [hwi] at g4
    have hp := wiS_pos hwi
    rw [nD_pos (by omega)] at g3
    by_cases c : T (57 + k) = 0
    · rw [if_pos c] at g6 ⊢
      by_cases c2 : T (69 + k) ≤ T (31 + T (63 + k)) - 1
      · rw [decide_eq_true c2] at g6
        rw [decide_eq_false (by omega)]
        simp (disch := omega) only [i_0, i_1, i_2, i_3, i_4, i_5, i_6, i_7, i_8, i_9, i_10, i_11, i_12, i_13, i_14, i_15, i_16, i_17, i_18, i_19, i_20, i_21, i_22, i_23, i_24, i_25, i_26, i_27, i_28, i_29, i_30, i_31, i_32, i_36, i_40, i_41, i_43, i_48, i_50, i_56, i_57, i_59, i_63, i_64, i_69, i_75, i_76, i_77, i_78, i_79, i_80, i_95, i_96, i_97, i_98, i_99, i_100, i_101, i_102, i_103, i_104, i_105, i_108, i_109, i_110, i_111, i_112, i_113, i_114, i_115, i_116, i_117, i_118, i_119, i_121, i_122, i_123, i_131, i_160, i_199, i_220, i_255, i_256, i_400, i_531, i_999, i_1000, i_1593, i_6000, i_6001, i_6002, i_10000, i_16383, i_16384, i_32768, i_100000, i_294912, i_1000000, bd0_s, bdS2_0, bdS2_1, bdS3_0, bdS3_1, bdS3_2, bdS4_0, bdS4_1, bdS4_2, bdS4_3, un0_s, bd1_s, bd2_s, bd3_s, bd4_s, bd5_s, bd6_s, bd7_s, bd8_s, bd9_s, bd10_s, bd11_s, bd12_s, bd13_s, bd14_s, bd15_s, bd16_s, un1_s, un2_s, un3_s, un4_s, un5_s, un6_s, un7_s, n_add, n_mul, n_addM, n_addD, n_Dadd, n_subD, n_sub, n_div, nD_succ, nD_zero, n_negM, cl_n, cl_d, rd_n, rd_d, wr_n, wr_d, al_n, al_d, b2i_t, b2i_f, lt_t, lt_f, le_t, le_f, eq_t, eq_f, dlt_t, dlt_f, ltd_t, ltd_f, ddl_t, ddl_f, dle_t, dle_f, led_t, led_f, deq_t, deq_f, eqd_t, eqd_f, dde_t, dde_f, m_ne, n_neM, m_lt, n_ltM, m_le, n_leM, m_eqD, m_neD, d_eqM, d_neM, up_t, up_f, bit_n, bit_d, rp_n, rp_d, asb1, sh1_n, sh1_d, or_n, ↓reduceIte, ite_self, Nat.add_sub_cancel, Nat.sub_self, Nat.add_zero, Nat.zero_add, Nat.mul_zero, Nat.zero_mul, eq_self, and_true, true_and, or_true, true_or, and_self, or_self, not_true_eq_false, not_false_eq_true, g0, g1, g2, g3, g4, g6, Bool.true_and, Bool.false_eq_true]
      · rw [decide_eq_false c2] at g6
        rw [decide_eq_true (by omega)]
        simp (disch := omega) only [i_0, i_1, i_2, i_3, i_4, i_5, i_6, i_7, i_8, i_9, i_10, i_11, i_12, i_13, i_14, i_15, i_16, i_17, i_18, i_19, i_20, i_21, i_22, i_23, i_24, i_25, i_26, i_27, i_28, i_29, i_30, i_31, i_32, i_36, i_40, i_41, i_43, i_48, i_50, i_56, i_57, i_59, i_63, i_64, i_69, i_75, i_76, i_77, i_78, i_79, i_80, i_95, i_96, i_97, i_98, i_99, i_100, i_101, i_102, i_103, i_104, i_105, i_108, i_109, i_110, i_111, i_112, i_113, i_114, i_115, i_116, i_117, i_118, i_119, i_121, i_122, i_123, i_131, i_160, i_199, i_220, i_255, i_256, i_400, i_531, i_999, i_1000, i_1593, i_6000, i_6001, i_6002, i_10000, i_16383, i_16384, i_32768, i_100000, i_294912, i_1000000, bd0_s, bdS2_0, bdS2_1, bdS3_0, bdS3_1, bdS3_2, bdS4_0, bdS4_1, bdS4_2, bdS4_3, un0_s, bd1_s, bd2_s, bd3_s, bd4_s, bd5_s, bd6_s, bd7_s, bd8_s, bd9_s, bd10_s, bd11_s, bd12_s, bd13_s, bd14_s, bd15_s, bd16_s, un1_s, un2_s, un3_s, un4_s, un5_s, un6_s, un7_s, n_add, n_mul, n_addM, n_addD, n_Dadd, n_subD, n_sub, n_div, nD_succ, nD_zero, n_negM, cl_n, cl_d, rd_n, rd_d, wr_n, wr_d, al_n, al_d, b2i_t, b2i_f, lt_t, lt_f, le_t, le_f, eq_t, eq_f, dlt_t, dlt_f, ltd_t, ltd_f, ddl_t, ddl_f, dle_t, dle_f, led_t, led_f, deq_t, deq_f, eqd_t, eqd_f, dde_t, dde_f, m_ne, n_neM, m_lt, n_ltM, m_le, n_leM, m_eqD, m_neD, d_eqM, d_neM, up_t, up_f, bit_n, bit_d, rp_n, rp_d, asb1, sh1_n, sh1_d, or_n, ↓reduceIte, ite_self, Nat.add_sub_cancel, Nat.sub_self, Nat.add_zero, Nat.zero_add, Nat.mul_zero, Nat.zero_mul, eq_self, and_true, true_and, or_true, true_or, and_self, or_self, not_true_eq_false, not_false_eq_true, g0, g1, g2, g3, g4, g6, Bool.true_and]
    · rw [if_neg c] at g6 ⊢
      by_cases c2 : T (31 + T (63 + k)) - 1 ≤ T (69 + k)
      · rw [decide_eq_true c2] at g6
        rw [decide_eq_false (by omega)]
        simp (disch := omega) only [i_0, i_1, i_2, i_3, i_4, i_5, i_6, i_7, i_8, i_9, i_10, i_11, i_12, i_13, i_14, i_15, i_16, i_17, i_18, i_19, i_20, i_21, i_22, i_23, i_24, i_25, i_26, i_27, i_28, i_29, i_30, i_31, i_32, i_36, i_40, i_41, i_43, i_48, i_50, i_56, i_57, i_59, i_63, i_64, i_69, i_75, i_76, i_77, i_78, i_79, i_80, i_95, i_96, i_97, i_98, i_99, i_100, i_101, i_102, i_103, i_104, i_105, i_108, i_109, i_110, i_111, i_112, i_113, i_114, i_115, i_116, i_117, i_118, i_119, i_121, i_122, i_123, i_131, i_160, i_199, i_220, i_255, i_256, i_400, i_531, i_999, i_1000, i_1593, i_6000, i_6001, i_6002, i_10000, i_16383, i_16384, i_32768, i_100000, i_294912, i_1000000, bd0_s, bdS2_0, bdS2_1, bdS3_0, bdS3_1, bdS3_2, bdS4_0, bdS4_1, bdS4_2, bdS4_3, un0_s, bd1_s, bd2_s, bd3_s, bd4_s, bd5_s, bd6_s, bd7_s, bd8_s, bd9_s, bd10_s, bd11_s, bd12_s, bd13_s, bd14_s, bd15_s, bd16_s, un1_s, un2_s, un3_s, un4_s, un5_s, un6_s, un7_s, n_add, n_mul, n_addM, n_addD, n_Dadd, n_subD, n_sub, n_div, nD_succ, nD_zero, n_negM, cl_n, cl_d, rd_n, rd_d, wr_n, wr_d, al_n, al_d, b2i_t, b2i_f, lt_t, lt_f, le_t, le_f, eq_t, eq_f, dlt_t, dlt_f, ltd_t, ltd_f, ddl_t, ddl_f, dle_t, dle_f, led_t, led_f, deq_t, deq_f, eqd_t, eqd_f, dde_t, dde_f, m_ne, n_neM, m_lt, n_ltM, m_le, n_leM, m_eqD, m_neD, d_eqM, d_neM, up_t, up_f, bit_n, bit_d, rp_n, rp_d, asb1, sh1_n, sh1_d, or_n, ↓reduceIte, ite_self, Nat.add_sub_cancel, Nat.sub_self, Nat.add_zero, Nat.zero_add, Nat.mul_zero, Nat.zero_mul, eq_self, and_true, true_and, or_true, true_or, and_self, or_self, not_true_eq_false, not_false_eq_true, g0, g1, g2, g3, g4, g6, Bool.true_and, Bool.false_eq_true]
      · rw [decide_eq_false c2] at g6
        rw [decide_eq_true (by omega)]
        simp (disch := omega) only [i_0, i_1, i_2, i_3, i_4, i_5, i_6, i_7, i_8, i_9, i_10, i_11, i_12, i_13, i_14, i_15, i_16, i_17, i_18, i_19, i_20, i_21, i_22, i_23, i_24, i_25, i_26, i_27, i_28, i_29, i_30, i_31, i_32, i_36, i_40, i_41, i_43, i_48, i_50, i_56, i_57, i_59, i_63, i_64, i_69, i_75, i_76, i_77, i_78, i_79, i_80, i_95, i_96, i_97, i_98, i_99, i_100, i_101, i_102, i_103, i_104, i_105, i_108, i_109, i_110, i_111, i_112, i_113, i_114, i_115, i_116, i_117, i_118, i_119, i_121, i_122, i_123, i_131, i_160, i_199, i_220, i_255, i_256, i_400, i_531, i_999, i_1000, i_1593, i_6000, i_6001, i_6002, i_10000, i_16383, i_16384, i_32768, i_100000, i_294912, i_1000000, bd0_s, bdS2_0, bdS2_1, bdS3_0, bdS3_1, bdS3_2, bdS4_0, bdS4_1, bdS4_2, bdS4_3, un0_s, bd1_s, bd2_s, bd3_s, bd4_s, bd5_s, bd6_s, bd7_s, bd8_s, bd9_s, bd10_s, bd11_s, bd12_s, bd13_s, bd14_s, bd15_s, bd16_s, un1_s, un2_s, un3_s, un4_s, un5_s, un6_s, un7_s, n_add, n_mul, n_addM, n_addD, n_Dadd, n_subD, n_sub, n_div, nD_succ, nD_zero, n_negM, cl_n, cl_d, rd_n, rd_d, wr_n, wr_d, al_n, al_d, b2i_t, b2i_f, lt_t, lt_f, le_t, le_f, eq_t, eq_f, dlt_t, dlt_f, ltd_t, ltd_f, ddl_t, ddl_f, dle_t, dle_f, led_t, led_f, deq_t, deq_f, eqd_t, eqd_f, dde_t, dde_f, m_ne, n_neM, m_lt, n_ltM, m_le, n_leM, m_eqD, m_neD, d_eqM, d_neM, up_t, up_f, bit_n, bit_d, rp_n, rp_d, asb1, sh1_n, sh1_d, or_n, ↓reduceIte, ite_self, Nat.add_sub_cancel, Nat.sub_self, Nat.add_zero, Nat.zero_add, Nat.mul_zero, Nat.zero_mul, eq_self, and_true, true_and, or_true, true_or, and_self, or_self, not_true_eq_false, not_false_eq_true, g0, g1, g2, g3, g4, g6, Bool.true_and]
theorem breaksMust8 (hA : AllAt all T) (hW : WT T) (hw : w < 100) : FX8_breaksMust all (nD w) = some (agA T w (T 56) 0) := by
  have hb := hW.b
  have g0 := hA.n (k := 56) (by omega) (by omega)
  have key : ∀ f k, k + f = T 56 → bdS3 (loopC (fun s => FX8_breaksMust_b2 all (nD w) s) (nI k)) (un0 fun _ => some true) (un0 fun _ => some true) (un0 fun _ => some false) = some (agA T w f k) := by
    intro f
    induction f with
    | zero =>
      intro k hk
      obtain rfl : k = T 56 := by omega
      have h : FX8_breaksMust_b2 all (nD w) (nI (T 56)) = some (.inr (.inr (.inr ()))) := by unfold FX8_breaksMust_b2; simp (disch := omega) only [i_0, i_1, i_2, i_3, i_4, i_5, i_6, i_7, i_8, i_9, i_10, i_11, i_12, i_13, i_14, i_15, i_16, i_17, i_18, i_19, i_20, i_21, i_22, i_23, i_24, i_25, i_26, i_27, i_28, i_29, i_30, i_31, i_32, i_36, i_40, i_41, i_43, i_48, i_50, i_56, i_57, i_59, i_63, i_64, i_69, i_75, i_76, i_77, i_78, i_79, i_80, i_95, i_96, i_97, i_98, i_99, i_100, i_101, i_102, i_103, i_104, i_105, i_108, i_109, i_110, i_111, i_112, i_113, i_114, i_115, i_116, i_117, i_118, i_119, i_121, i_122, i_123, i_131, i_160, i_199, i_220, i_255, i_256, i_400, i_531, i_999, i_1000, i_1593, i_6000, i_6001, i_6002, i_10000, i_16383, i_16384, i_32768, i_100000, i_294912, i_1000000, bd0_s, bdS2_0, bdS2_1, bdS3_0, bdS3_1, bdS3_2, bdS4_0, bdS4_1, bdS4_2, bdS4_3, un0_s, bd1_s, bd2_s, bd3_s, bd4_s, bd5_s, bd6_s, bd7_s, bd8_s, bd9_s, bd10_s, bd11_s, bd12_s, bd13_s, bd14_s, bd15_s, bd16_s, un1_s, un2_s, un3_s, un4_s, un5_s, un6_s, un7_s, n_add, n_mul, n_addM, n_addD, n_Dadd, n_subD, n_sub, n_div, nD_succ, nD_zero, n_negM, cl_n, cl_d, rd_n, rd_d, wr_n, wr_d, al_n, al_d, b2i_t, b2i_f, lt_t, lt_f, le_t, le_f, eq_t, eq_f, dlt_t, dlt_f, ltd_t, ltd_f, ddl_t, ddl_f, dle_t, dle_f, led_t, led_f, deq_t, deq_f, eqd_t, eqd_f, dde_t, dde_f, m_ne, n_neM, m_lt, n_ltM, m_le, n_leM, m_eqD, m_neD, d_eqM, d_neM, up_t, up_f, bit_n, bit_d, rp_n, rp_d, asb1, sh1_n, sh1_d, or_n, ↓reduceIte, ite_self, Nat.add_sub_cancel, Nat.sub_self, Nat.add_zero, Nat.zero_add, Nat.mul_zero, Nat.zero_mul, eq_self, and_true, true_and, or_true, true_or, and_self, or_self, not_true_eq_false, not_false_eq_true, g0]
      rw [loopC_inr (show (fun s => FX8_breaksMust_b2 all (nD w) s) (nI (T 56)) = _ from h)]
      rfl
    | succ f ih =>
      intro k hk
      obtain ⟨m1, m2, m3⟩ := hW.2.2.2.2 k (by omega)
      have g1 := hA.n (k := 57 + k) (by omega) (by omega)
      have g2 := hA.n (k := 63 + k) (by omega) (by omega)
      have g6 := hA.n (k := 69 + k) (by omega) (by omega)
      have g4 := isWished8 hA hW (r := T (63 + k)) (by omega) hw
      have g5 := (hW.2.1 (T (63 + k)) (by omega))
      have g3 := hA.d (k := 31 + T (63 + k)) (by omega) (by omega)
      have h : ∃ x, FX8_breaksMust_b2 all (nD w) (nI k) = some x ∧ ((agS T w k = true ∧ (x = .inr (.inl ()) ∨ x = .inr (.inr (.inl ())))) ∨ (agS T w k = false ∧ x = .inl (nI (k + 1)))) := by
        unfold FX8_breaksMust_b2 FX8_breaksMust_j94 agS
        cases hwi : wiS T w (T (63 + k)) with
        | false =>
          rw [hwi] at g4
          refine ⟨.inl (nI (k + 1)), by simp (disch := omega) only [i_0, i_1, i_2, i_3, i_4, i_5, i_6, i_7, i_8, i_9, i_10, i_11, i_12, i_13, i_14, i_15, i_16, i_17, i_18, i_19, i_20, i_21, i_22, i_23, i_24, i_25, i_26, i_27, i_28, i_29, i_30, i_31, i_32, i_36, i_40, i_41, i_43, i_48, i_50, i_56, i_57, i_59, i_63, i_64, i_69, i_75, i_76, i_77, i_78, i_79, i_80, i_95, i_96, i_97, i_98, i_99, i_100, i_101, i_102, i_103, i_104, i_105, i_108, i_109, i_110, i_111, i_112, i_113, i_114, i_115, i_116, i_117, i_118, i_119, i_121, i_122, i_123, i_131, i_160, i_199, i_220, i_255, i_256, i_400, i_531, i_999, i_1000, i_1593, i_6000, i_6001, i_6002, i_10000, i_16383, i_16384, i_32768, i_100000, i_294912, i_1000000, bd0_s, bdS2_0, bdS2_1, bdS3_0, bdS3_1, bdS3_2, bdS4_0, bdS4_1, bdS4_2, bdS4_3, un0_s, bd1_s, bd2_s, bd3_s, bd4_s, bd5_s, bd6_s, bd7_s, bd8_s, bd9_s, bd10_s, bd11_s, bd12_s, bd13_s, bd14_s, bd15_s, bd16_s, un1_s, un2_s, un3_s, un4_s, un5_s, un6_s, un7_s, n_add, n_mul, n_addM, n_addD, n_Dadd, n_subD, n_sub, n_div, nD_succ, nD_zero, n_negM, cl_n, cl_d, rd_n, rd_d, wr_n, wr_d, al_n, al_d, b2i_t, b2i_f, lt_t, lt_f, le_t, le_f, eq_t, eq_f, dlt_t, dlt_f, ltd_t, ltd_f, ddl_t, ddl_f, dle_t, dle_f, led_t, led_f, deq_t, deq_f, eqd_t, eqd_f, dde_t, dde_f, m_ne, n_neM, m_lt, n_ltM, m_le, n_leM, m_eqD, m_neD, d_eqM, d_neM, up_t, up_f, bit_n, bit_d, rp_n, rp_d, asb1, sh1_n, sh1_d, or_n, ↓reduceIte, ite_self, Nat.add_sub_cancel, Nat.sub_self, Nat.add_zero, Nat.zero_add, Nat.mul_zero, Nat.zero_mul, eq_self, and_true, true_and, or_true, true_or, and_self, or_self, not_true_eq_false, not_false_eq_true, g0, g2, g4, Bool.false_eq_true], Or.inr ⟨Bool.false_and _, rfl⟩⟩
        | true =>
          rw [hwi] at g4
          have hp := wiS_pos hwi
          rw [nD_pos (by omega)] at g3
          by_cases c : T (57 + k) = 0
          · rw [if_pos c]
            by_cases c2 : T (69 + k) ≤ T (31 + T (63 + k)) - 1
            · exact ⟨.inl (nI (k + 1)), by simp (disch := omega) only [i_0, i_1, i_2, i_3, i_4, i_5, i_6, i_7, i_8, i_9, i_10, i_11, i_12, i_13, i_14, i_15, i_16, i_17, i_18, i_19, i_20, i_21, i_22, i_23, i_24, i_25, i_26, i_27, i_28, i_29, i_30, i_31, i_32, i_36, i_40, i_41, i_43, i_48, i_50, i_56, i_57, i_59, i_63, i_64, i_69, i_75, i_76, i_77, i_78, i_79, i_80, i_95, i_96, i_97, i_98, i_99, i_100, i_101, i_102, i_103, i_104, i_105, i_108, i_109, i_110, i_111, i_112, i_113, i_114, i_115, i_116, i_117, i_118, i_119, i_121, i_122, i_123, i_131, i_160, i_199, i_220, i_255, i_256, i_400, i_531, i_999, i_1000, i_1593, i_6000, i_6001, i_6002, i_10000, i_16383, i_16384, i_32768, i_100000, i_294912, i_1000000, bd0_s, bdS2_0, bdS2_1, bdS3_0, bdS3_1, bdS3_2, bdS4_0, bdS4_1, bdS4_2, bdS4_3, un0_s, bd1_s, bd2_s, bd3_s, bd4_s, bd5_s, bd6_s, bd7_s, bd8_s, bd9_s, bd10_s, bd11_s, bd12_s, bd13_s, bd14_s, bd15_s, bd16_s, un1_s, un2_s, un3_s, un4_s, un5_s, un6_s, un7_s, n_add, n_mul, n_addM, n_addD, n_Dadd, n_subD, n_sub, n_div, nD_succ, nD_zero, n_negM, cl_n, cl_d, rd_n, rd_d, wr_n, wr_d, al_n, al_d, b2i_t, b2i_f, lt_t, lt_f, le_t, le_f, eq_t, eq_f, dlt_t, dlt_f, ltd_t, ltd_f, ddl_t, ddl_f, dle_t, dle_f, led_t, led_f, deq_t, deq_f, eqd_t, eqd_f, dde_t, dde_f, m_ne, n_neM, m_lt, n_ltM, m_le, n_leM, m_eqD, m_neD, d_eqM, d_neM, up_t, up_f, bit_n, bit_d, rp_n, rp_d, asb1, sh1_n, sh1_d, or_n, ↓reduceIte, ite_self, Nat.add_sub_cancel, Nat.sub_self, Nat.add_zero, Nat.zero_add, Nat.mul_zero, Nat.zero_mul, eq_self, and_true, true_and, or_true, true_or, and_self, or_self, not_true_eq_false, not_false_eq_true, g0, g1, g2, g3, g4, g6, c, c2], Or.inr ⟨by rw [decide_eq_false (by omega)]; rfl, rfl⟩⟩
            · exact ⟨.inr (.inl ()), by simp (disch := omega) only [i_0, i_1, i_2, i_3, i_4, i_5, i_6, i_7, i_8, i_9, i_10, i_11, i_12, i_13, i_14, i_15, i_16, i_17, i_18, i_19, i_20, i_21, i_22, i_23, i_24, i_25, i_26, i_27, i_28, i_29, i_30, i_31, i_32, i_36, i_40, i_41, i_43, i_48, i_50, i_56, i_57, i_59, i_63, i_64, i_69, i_75, i_76, i_77, i_78, i_79, i_80, i_95, i_96, i_97, i_98, i_99, i_100, i_101, i_102, i_103, i_104, i_105, i_108, i_109, i_110, i_111, i_112, i_113, i_114, i_115, i_116, i_117, i_118, i_119, i_121, i_122, i_123, i_131, i_160, i_199, i_220, i_255, i_256, i_400, i_531, i_999, i_1000, i_1593, i_6000, i_6001, i_6002, i_10000, i_16383, i_16384, i_32768, i_100000, i_294912, i_1000000, bd0_s, bdS2_0, bdS2_1, bdS3_0, bdS3_1, bdS3_2, bdS4_0, bdS4_1, bdS4_2, bdS4_3, un0_s, bd1_s, bd2_s, bd3_s, bd4_s, bd5_s, bd6_s, bd7_s, bd8_s, bd9_s, bd10_s, bd11_s, bd12_s, bd13_s, bd14_s, bd15_s, bd16_s, un1_s, un2_s, un3_s, un4_s, un5_s, un6_s, un7_s, n_add, n_mul, n_addM, n_addD, n_Dadd, n_subD, n_sub, n_div, nD_succ, nD_zero, n_negM, cl_n, cl_d, rd_n, rd_d, wr_n, wr_d, al_n, al_d, b2i_t, b2i_f, lt_t, lt_f, le_t, le_f, eq_t, eq_f, dlt_t, dlt_f, ltd_t, ltd_f, ddl_t, ddl_f, dle_t, dle_f, led_t, led_f, deq_t, deq_f, eqd_t, eqd_f, dde_t, dde_f, m_ne, n_neM, m_lt, n_ltM, m_le, n_leM, m_eqD, m_neD, d_eqM, d_neM, up_t, up_f, bit_n, bit_d, rp_n, rp_d, asb1, sh1_n, sh1_d, or_n, ↓reduceIte, ite_self, Nat.add_sub_cancel, Nat.sub_self, Nat.add_zero, Nat.zero_add, Nat.mul_zero, Nat.zero_mul, eq_self, and_true, true_and, or_true, true_or, and_self, or_self, not_true_eq_false, not_false_eq_true, g0, g1, g2, g3, g4, g6, c, c2], Or.inl ⟨by rw [decide_eq_true (by omega)]; rfl, Or.inl rfl⟩⟩
          · rw [if_neg c]
            by_cases c2 : T (31 + T (63 + k)) - 1 ≤ T (69 + k)
            · exact ⟨.inl (nI (k + 1)), by simp (disch := omega) only [i_0, i_1, i_2, i_3, i_4, i_5, i_6, i_7, i_8, i_9, i_10, i_11, i_12, i_13, i_14, i_15, i_16, i_17, i_18, i_19, i_20, i_21, i_22, i_23, i_24, i_25, i_26, i_27, i_28, i_29, i_30, i_31, i_32, i_36, i_40, i_41, i_43, i_48, i_50, i_56, i_57, i_59, i_63, i_64, i_69, i_75, i_76, i_77, i_78, i_79, i_80, i_95, i_96, i_97, i_98, i_99, i_100, i_101, i_102, i_103, i_104, i_105, i_108, i_109, i_110, i_111, i_112, i_113, i_114, i_115, i_116, i_117, i_118, i_119, i_121, i_122, i_123, i_131, i_160, i_199, i_220, i_255, i_256, i_400, i_531, i_999, i_1000, i_1593, i_6000, i_6001, i_6002, i_10000, i_16383, i_16384, i_32768, i_100000, i_294912, i_1000000, bd0_s, bdS2_0, bdS2_1, bdS3_0, bdS3_1, bdS3_2, bdS4_0, bdS4_1, bdS4_2, bdS4_3, un0_s, bd1_s, bd2_s, bd3_s, bd4_s, bd5_s, bd6_s, bd7_s, bd8_s, bd9_s, bd10_s, bd11_s, bd12_s, bd13_s, bd14_s, bd15_s, bd16_s, un1_s, un2_s, un3_s, un4_s, un5_s, un6_s, un7_s, n_add, n_mul, n_addM, n_addD, n_Dadd, n_subD, n_sub, n_div, nD_succ, nD_zero, n_negM, cl_n, cl_d, rd_n, rd_d, wr_n, wr_d, al_n, al_d, b2i_t, b2i_f, lt_t, lt_f, le_t, le_f, eq_t, eq_f, dlt_t, dlt_f, ltd_t, ltd_f, ddl_t, ddl_f, dle_t, dle_f, led_t, led_f, deq_t, deq_f, eqd_t, eqd_f, dde_t, dde_f, m_ne, n_neM, m_lt, n_ltM, m_le, n_leM, m_eqD, m_neD, d_eqM, d_neM, up_t, up_f, bit_n, bit_d, rp_n, rp_d, asb1, sh1_n, sh1_d, or_n, ↓reduceIte, ite_self, Nat.add_sub_cancel, Nat.sub_self, Nat.add_zero, Nat.zero_add, Nat.mul_zero, Nat.zero_mul, eq_self, and_true, true_and, or_true, true_or, and_self, or_self, not_true_eq_false, not_false_eq_true, g0, g1, g2, g3, g4, g6, c, c2], Or.inr ⟨by rw [decide_eq_false (by omega)]; rfl, rfl⟩⟩
            · exact ⟨.inr (.inr (.inl ())), by simp (disch := omega) only [i_0, i_1, i_2, i_3, i_4, i_5, i_6, i_7, i_8, i_9, i_10, i_11, i_12, i_13, i_14, i_15, i_16, i_17, i_18, i_19, i_20, i_21, i_22, i_23, i_24, i_25, i_26, i_27, i_28, i_29, i_30, i_31, i_32, i_36, i_40, i_41, i_43, i_48, i_50, i_56, i_57, i_59, i_63, i_64, i_69, i_75, i_76, i_77, i_78, i_79, i_80, i_95, i_96, i_97, i_98, i_99, i_100, i_101, i_102, i_103, i_104, i_105, i_108, i_109, i_110, i_111, i_112, i_113, i_114, i_115, i_116, i_117, i_118, i_119, i_121, i_122, i_123, i_131, i_160, i_199, i_220, i_255, i_256, i_400, i_531, i_999, i_1000, i_1593, i_6000, i_6001, i_6002, i_10000, i_16383, i_16384, i_32768, i_100000, i_294912, i_1000000, bd0_s, bdS2_0, bdS2_1, bdS3_0, bdS3_1, bdS3_2, bdS4_0, bdS4_1, bdS4_2, bdS4_3, un0_s, bd1_s, bd2_s, bd3_s, bd4_s, bd5_s, bd6_s, bd7_s, bd8_s, bd9_s, bd10_s, bd11_s, bd12_s, bd13_s, bd14_s, bd15_s, bd16_s, un1_s, un2_s, un3_s, un4_s, un5_s, un6_s, un7_s, n_add, n_mul, n_addM, n_addD, n_Dadd, n_subD, n_sub, n_div, nD_succ, nD_zero, n_negM, cl_n, cl_d, rd_n, rd_d, wr_n, wr_d, al_n, al_d, b2i_t, b2i_f, lt_t, lt_f, le_t, le_f, eq_t, eq_f, dlt_t, dlt_f, ltd_t, ltd_f, ddl_t, ddl_f, dle_t, dle_f, led_t, led_f, deq_t, deq_f, eqd_t, eqd_f, dde_t, dde_f, m_ne, n_neM, m_lt, n_ltM, m_le, n_leM, m_eqD, m_neD, d_eqM, d_neM, up_t, up_f, bit_n, bit_d, rp_n, rp_d, asb1, sh1_n, sh1_d, or_n, ↓reduceIte, ite_self, Nat.add_sub_cancel, Nat.sub_self, Nat.add_zero, Nat.zero_add, Nat.mul_zero, Nat.zero_mul, eq_self, and_true, true_and, or_true, true_or, and_self, or_self, not_true_eq_false, not_false_eq_true, g0, g1, g2, g3, g4, g6, c, c2], Or.inl ⟨by rw [decide_eq_true (by omega)]; rfl, Or.inr rfl⟩⟩
      obtain ⟨x, h1, h2⟩ := h
      rw [agA]
      rcases h2 with ⟨e, rfl | rfl⟩ | ⟨e, rfl⟩
      · rw [e, if_pos rfl, loopC_inr (show (fun s => FX8_breaksMust_b2 all (nD w) s) (nI k) = _ from h1)]; rfl
      · rw [e, if_pos rfl, loopC_inr (show (fun s => FX8_breaksMust_b2 all (nD w) s) (nI k) = _ from h1)]; rfl
      · rw [e, if_neg Bool.false_ne_true, loopC_inl (show (fun s => FX8_breaksMust_b2 all (nD w) s) (nI k) = _ from h1)]
        exact ih (k + 1) (by omega)
  unfold FX8_breaksMust
  exact key (T 56) 0 (by omega)
end P40
