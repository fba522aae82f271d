set_option maxRecDepth 100000
theorem nI_inj {a b : Nat} (h : nI a = nI b) (ha : a < 2147483648) (hb : b < 2147483648) : a = b := by
  by_cases c : a = b
  · exact c
  · rw [eq_f c ha hb] at h
    exact h.elim
section P32
variable {all t on at' many ca la : Nat → Int32} {T U O O' M M' : Nat → Nat} {V : Nat → BvT} {mv as1 a b y : Nat} {p q : Int32} {lies : Int64} {year : Int32}
theorem maS_cong (hW : WT T) (hS : WO T O M) (h114 : T 114 ≤ 8) (hU : ∀ k, k < 80 → U k = T k) (hU2 : U 114 = T 114) (hO : ∀ p, p < 15 → O' p = O p) (hM : ∀ r, r < 5 → M' r = M r) (hm : mv < 256) (ha1 : as1 < 100) (p q : Int32) : maS U O' M' V mv as1 p q = maS T O M V mv as1 p q := by
  have e1 := may4 (V := V) (t := rp T) (at' := fun p => nD (O p)) (many := fun r => nI (M r)) (fun k hk => rfl) ⟨fun _ _ => rfl, fun _ _ => rfl⟩ hW hS h114 hm ha1 p q
  have e2 := may4 (V := V) (T := U) (O := O') (M := M') (t := rp T) (at' := fun p => nD (O p)) (many := fun r => nI (M r)) (fun k hk => (rp_cong (hU k hk)).symm) ⟨fun p hp => by show nD (O p) = _; rw [hO p hp], fun r hr => by show nI (M r) = _; rw [hM r hr]⟩ (hW.cong hU) ((hS.congO hO hM).congT hU) (by rw [hU2]; exact h114) hm ha1 p q
  rw [hU2, e1] at e2
  exact (nI_inj (Option.some.inj e2) (by have := maS_le (T := T) (O := O) (M := M) (V := V) (mv := mv) (as1 := as1) (p := p) (q := q); omega) (by have := maS_le (T := U) (O := O') (M := M') (V := V) (mv := mv) (as1 := as1) (p := p) (q := q); omega)).symm
theorem mtS_cong (hW : WT T) (hS : WO T O M) (h114 : T 114 ≤ 8) (hU : ∀ k, k < 80 → U k = T k) (hU2 : U 114 = T 114) (hO : ∀ p, p < 15 → O' p = O p) (hM : ∀ r, r < 5 → M' r = M r) (hm : mv < 256) (p q : Int32) : mtS U O' M' V mv p q = mtS T O M V mv p q := by
  have e1 := mayX4 (V := V) (t := rp T) (at' := fun p => nD (O p)) (many := fun r => nI (M r)) (fun k hk => rfl) ⟨fun _ _ => rfl, fun _ _ => rfl⟩ hW hS h114 hm p q
  have e2 := mayX4 (V := V) (T := U) (O := O') (M := M') (t := rp T) (at' := fun p => nD (O p)) (many := fun r => nI (M r)) (fun k hk => (rp_cong (hU k hk)).symm) ⟨fun p hp => by show nD (O p) = _; rw [hO p hp], fun r hr => by show nI (M r) = _; rw [hM r hr]⟩ (hW.cong hU) ((hS.congO hO hM).congT hU) (by rw [hU2]; exact h114) hm p q
  rw [hU2, e1] at e2
  exact (nI_inj (Option.some.inj e2) (by have := mtS_le (T := T) (O := O) (M := M) (V := V) (mv := mv) (p := p) (q := q); omega) (by have := mtS_le (T := U) (O := O') (M := M') (V := V) (mv := mv) (p := p) (q := q); omega)).symm
theorem whyS_cong (hW : WT T) (hS : WO T O M) (h114 : T 114 ≤ 8) (hU : ∀ k, k < 80 → U k = T k) (hU2 : U 114 = T 114) (hO : ∀ p, p < 15 → O' p = O p) (hM : ∀ r, r < 5 → M' r = M r) (hm : mv < 256) (v : Int64) : whyS U V O' M' mv y v = whyS T V O M mv y v := by
  unfold whyS
  rw [maS_cong hW hS h114 hU hU2 hO hM hm (by omega), mtS_cong hW hS h114 hU hU2 hO hM hm]
theorem ca_cong (hO : ∀ p, p < 15 → O' p = O p) (hM : ∀ r, r < 5 → M' r = M r) (ha : a < 5) (hb : b < 5) (h3 : M a ≤ 3) : (∀ p, p < 15 → caO O' M' a b p = caO O M a b p) ∧ ∀ r, r < 5 → caM M' a b r = caM M a b r := by
  constructor
  · intro p hp
    unfold caO up
    rw [hM a ha, hM b hb, hO (3 * a + (M a - 1)) (by omega), hO p hp]
  · intro r hr
    unfold caM up
    rw [hM a ha, hM b hb, hM r hr]
theorem ex_cong (hO : ∀ p, p < 15 → O' p = O p) (hM : ∀ r, r < 5 → M' r = M r) (ha : a < 5) (hb : b < 5) (h3 : M a ≤ 3) (h4 : M b ≤ 3) : ∀ p, p < 15 → exO O' M' a b p = exO O M a b p := by
  intro p hp
  unfold exO up
  rw [hM a ha, hM b hb, hO (3 * a + (M a - 1)) (by omega), hO (3 * b + (M b - 1)) (by omega), hO p hp]
/-- so many numbers from one on may be, and no more -/
def Tr (T : Nat → Nat) (V : Nat → BvT) (N : Nat) (num : Nat → Int64) : Nat → Nat → (Nat → Nat) → (Nat → Nat) → Nat → Nat → Prop
  | 0, k, O, M, mv, y => N ≤ k ∨ whyS T V O M mv y (num k) ≠ 0
  | n + 1, k, O, M, mv, y => k < N ∧ whyS T V O M mv y (num k) = 0 ∧ ∃ O' M' mv' y', Nx O M mv y (num k) O' M' mv' y' ∧ Tr T V N num n (k + 1) O' M' mv' y'
theorem goesTr (hA : AllAt all T) (hW : WT T) (hB : BarsOK all T V) {rowMany : Nat → Int32} {numbers : Nat → Int64} {num : Nat → Int64} {k0 cnt : Nat} (hk0 : k0 < 4) (hcnt : cnt ≤ 40) (g3 : rowMany k0 = nI cnt) (g4 : ∀ j, j < cnt → numbers (40 * k0 + j) = num j) : ∀ d j (O N : Nat → Nat) (mv y : Nat) (on0 mn0 pl0 : Nat → Int32), j + d = cnt → WO T O N → mv < 256 → y ≤ 999 → OnAt on0 mn0 O N → ∃ n r, loopC (fun (s : Int32 × (Nat → Int32) × (Nat → Int32) × Int32 × (Nat → Int32) × Int32 × Int32) => FX8_goes_b22 all nM rowMany numbers (nI k0) s.1 s.2.1 s.2.2.1 s.2.2.2.1 s.2.2.2.2.1 s.2.2.2.2.2.1 s.2.2.2.2.2.2) (nI j, on0, mn0, nI mv, pl0, nI 0, nI y) = some r ∧ j + n ≤ cnt ∧ Tr T V cnt num n j O N mv y ∧ ((∃ x1 x2 x3 x4 x5 x6, r = .inl (nI (j + n), x1, x2, x3, x4, x5, x6)) ∨ (j + n = cnt ∧ ∃ x1 x2 x3 x4 x5 x6, r = .inr (x1, x2, x3, x4, x5, x6))) := by
  intro d
  induction d with
  | zero =>
    intro j O N mv y on0 mn0 pl0 hj hS hm hy hon
    refine ⟨0, .inr (on0, mn0, nI mv, pl0, nI 0, nI y), loopC_inr ?_, by omega, Or.inl (by omega), Or.inr ⟨by omega, on0, mn0, nI mv, pl0, nI 0, nI y, rfl⟩⟩
    show FX8_goes_b22 all nM rowMany numbers (nI k0) (nI j) on0 mn0 (nI mv) pl0 (nI 0) (nI y) = _
    unfold FX8_goes_b22
    (simp (disch := omega) only [i_0, i_1, i_2, i_3, i_4, i_5, i_6, i_7, i_8, i_9, i_10, i_11, i_12, i_13, i_14, i_15, i_16, i_17, i_18, i_19, i_20, i_21, i_22, i_23, i_24, i_25, i_26, i_27, i_28, i_29, i_30, i_31, i_32, i_36, i_40, i_41, i_43, i_48, i_50, i_56, i_57, i_59, i_63, i_64, i_69, i_75, i_76, i_77, i_78, i_79, i_80, i_95, i_96, i_97, i_98, i_99, i_100, i_101, i_102, i_103, i_104, i_105, i_108, i_109, i_110, i_111, i_112, i_113, i_114, i_115, i_116, i_117, i_118, i_119, i_121, i_122, i_123, i_131, i_160, i_199, i_220, i_255, i_256, i_400, i_531, i_999, i_1000, i_1593, i_6000, i_6001, i_6002, i_10000, i_16383, i_16384, i_32768, i_100000, i_294912, i_1000000, bd0_s, bdS2_0, bdS2_1, bdS3_0, bdS3_1, bdS3_2, bdS4_0, bdS4_1, bdS4_2, bdS4_3, un0_s, bd1_s, bd2_s, bd3_s, bd4_s, bd5_s, bd6_s, bd7_s, bd8_s, bd9_s, bd10_s, bd11_s, bd12_s, bd13_s, bd14_s, bd15_s, bd16_s, un1_s, un2_s, un3_s, un4_s, un5_s, un6_s, un7_s, n_add, n_mul, n_addM, n_addD, n_Dadd, n_subD, n_sub, n_div, nD_succ, nD_zero, n_negM, cl_n, cl_d, rd_n, rd_d, wr_n, wr_d, al_n, al_d, b2i_t, b2i_f, lt_t, lt_f, le_t, le_f, eq_t, eq_f, dlt_t, dlt_f, ltd_t, ltd_f, ddl_t, ddl_f, dle_t, dle_f, led_t, led_f, deq_t, deq_f, eqd_t, eqd_f, dde_t, dde_f, m_ne, n_neM, m_lt, n_ltM, m_le, n_leM, m_eqD, m_neD, d_eqM, d_neM, up_t, up_f, bit_n, bit_d, rp_n, rp_d, asb1, sh1_n, sh1_d, or_n, ↓reduceIte, ite_self, Nat.add_sub_cancel, Nat.sub_self, Nat.add_zero, Nat.zero_add, Nat.mul_zero, Nat.zero_mul, eq_self, and_true, true_and, or_true, true_or, and_self, or_self, not_true_eq_false, not_false_eq_true, g3]; try rfl)
  | succ d ih =>
    intro j O N mv y on0 mn0 pl0 hj hS hm hy hon
    have f3 := g4 j (by omega)
    have hle := whyS_le (T := T) (V := V) (O := O) (M := N) (mv := mv) (y := y) (v := num j)
    obtain ⟨⟨z1, on1, mn1, mv1, pl1, jy1⟩, f5, f6, f7, f8⟩ := does8 hA hon hW hS hB hm hy pl0 (num j)
    dsimp only at f6 f7 f8
    subst f6
    by_cases c : whyS T V O N mv y (num j) = 0
    · obtain ⟨O2, N2, mv2, y2, nx2, hon2, hS3, hm3, hy3, rfl, rfl⟩ := f7 c
      obtain ⟨n, r, h1, h2, h3, h4⟩ := ih (j + 1) O2 N2 mv2 y2 on1 mn1 pl1 (by omega) hS3 hm3 hy3 hon2
      refine ⟨n + 1, r, ?_, by omega, ⟨by omega, c, O2, N2, mv2, y2, nx2, h3⟩, ?_⟩
      · rw [← h1]
        refine loopC_inl ?_
        show FX8_goes_b22 all nM rowMany numbers (nI k0) (nI j) on0 mn0 (nI mv) pl0 (nI 0) (nI y) = _
        unfold FX8_goes_b22
        (simp (disch := omega) only [i_0, i_1, i_2, i_3, i_4, i_5, i_6, i_7, i_8, i_9, i_10, i_11, i_12, i_13, i_14, i_15, i_16, i_17, i_18, i_19, i_20, i_21, i_22, i_23, i_24, i_25, i_26, i_27, i_28, i_29, i_30, i_31, i_32, i_36, i_40, i_41, i_43, i_48, i_50, i_56, i_57, i_59, i_63, i_64, i_69, i_75, i_76, i_77, i_78, i_79, i_80, i_95, i_96, i_97, i_98, i_99, i_100, i_101, i_102, i_103, i_104, i_105, i_108, i_109, i_110, i_111, i_112, i_113, i_114, i_115, i_116, i_117, i_118, i_119, i_121, i_122, i_123, i_131, i_160, i_199, i_220, i_255, i_256, i_400, i_531, i_999, i_1000, i_1593, i_6000, i_6001, i_6002, i_10000, i_16383, i_16384, i_32768, i_100000, i_294912, i_1000000, bd0_s, bdS2_0, bdS2_1, bdS3_0, bdS3_1, bdS3_2, bdS4_0, bdS4_1, bdS4_2, bdS4_3, un0_s, bd1_s, bd2_s, bd3_s, bd4_s, bd5_s, bd6_s, bd7_s, bd8_s, bd9_s, bd10_s, bd11_s, bd12_s, bd13_s, bd14_s, bd15_s, bd16_s, un1_s, un2_s, un3_s, un4_s, un5_s, un6_s, un7_s, n_add, n_mul, n_addM, n_addD, n_Dadd, n_subD, n_sub, n_div, nD_succ, nD_zero, n_negM, cl_n, cl_d, rd_n, rd_d, wr_n, wr_d, al_n, al_d, b2i_t, b2i_f, lt_t, lt_f, le_t, le_f, eq_t, eq_f, dlt_t, dlt_f, ltd_t, ltd_f, ddl_t, ddl_f, dle_t, dle_f, led_t, led_f, deq_t, deq_f, eqd_t, eqd_f, dde_t, dde_f, m_ne, n_neM, m_lt, n_ltM, m_le, n_leM, m_eqD, m_neD, d_eqM, d_neM, up_t, up_f, bit_n, bit_d, rp_n, rp_d, asb1, sh1_n, sh1_d, or_n, ↓reduceIte, ite_self, Nat.add_sub_cancel, Nat.sub_self, Nat.add_zero, Nat.zero_add, Nat.mul_zero, Nat.zero_mul, eq_self, and_true, true_and, or_true, true_or, and_self, or_self, not_true_eq_false, not_false_eq_true, g3, f3, f5, c]; try rfl)
      · rw [show j + (n + 1) = j + 1 + n by omega]
        exact h4
    · refine ⟨0, .inl (nI (j + 0), on1, mn1, mv1, pl1, nI (whyS T V O N mv y (num j)), jy1), loopC_inr ?_, by omega, Or.inr c, Or.inl ⟨on1, mn1, mv1, pl1, nI (whyS T V O N mv y (num j)), jy1, rfl⟩⟩
      show FX8_goes_b22 all nM rowMany numbers (nI k0) (nI j) on0 mn0 (nI mv) pl0 (nI 0) (nI y) = _
      unfold FX8_goes_b22
      (simp (disch := omega) only [i_0, i_1, i_2, i_3, i_4, i_5, i_6, i_7, i_8, i_9, i_10, i_11, i_12, i_13, i_14, i_15, i_16, i_17, i_18, i_19, i_20, i_21, i_22, i_23, i_24, i_25, i_26, i_27, i_28, i_29, i_30, i_31, i_32, i_36, i_40, i_41, i_43, i_48, i_50, i_56, i_57, i_59, i_63, i_64, i_69, i_75, i_76, i_77, i_78, i_79, i_80, i_95, i_96, i_97, i_98, i_99, i_100, i_101, i_102, i_103, i_104, i_105, i_108, i_109, i_110, i_111, i_112, i_113, i_114, i_115, i_116, i_117, i_118, i_119, i_121, i_122, i_123, i_131, i_160, i_199, i_220, i_255, i_256, i_400, i_531, i_999, i_1000, i_1593, i_6000, i_6001, i_6002, i_10000, i_16383, i_16384, i_32768, i_100000, i_294912, i_1000000, bd0_s, bdS2_0, bdS2_1, bdS3_0, bdS3_1, bdS3_2, bdS4_0, bdS4_1, bdS4_2, bdS4_3, un0_s, bd1_s, bd2_s, bd3_s, bd4_s, bd5_s, bd6_s, bd7_s, bd8_s, bd9_s, bd10_s, bd11_s, bd12_s, bd13_s, bd14_s, bd15_s, bd16_s, un1_s, un2_s, un3_s, un4_s, un5_s, un6_s, un7_s, n_add, n_mul, n_addM, n_addD, n_Dadd, n_subD, n_sub, n_div, nD_succ, nD_zero, n_negM, cl_n, cl_d, rd_n, rd_d, wr_n, wr_d, al_n, al_d, b2i_t, b2i_f, lt_t, lt_f, le_t, le_f, eq_t, eq_f, dlt_t, dlt_f, ltd_t, ltd_f, ddl_t, ddl_f, dle_t, dle_f, led_t, led_f, deq_t, deq_f, eqd_t, eqd_f, dde_t, dde_f, m_ne, n_neM, m_lt, n_ltM, m_le, n_leM, m_eqD, m_neD, d_eqM, d_neM, up_t, up_f, bit_n, bit_d, rp_n, rp_d, asb1, sh1_n, sh1_d, or_n, ↓reduceIte, ite_self, Nat.add_sub_cancel, Nat.sub_self, Nat.add_zero, Nat.zero_add, Nat.mul_zero, Nat.zero_mul, eq_self, and_true, true_and, or_true, true_or, and_self, or_self, not_true_eq_false, not_false_eq_true, g3, f3, f5, c]; try rfl)
theorem perfTr (hWT : WT T) (h114 : T 114 ≤ 8) {rsort rmany : Nat → Int32} {nums : Nat → Nat → Int64} {numbers num : Nat → Int64} {k0 cnt s K : Nat} (hk0 : k0 < 4) (hcnt : cnt ≤ 40) (hs : s < 4) (g1 : rsort k0 = nI s) (g2 : rmany k0 = nI cnt) (g4 : ∀ j, j < cnt → numbers (40 * k0 + j) = num j) (g5 : ∀ j, j < cnt → numWid (nI s) (nums k0 j) = num j) : ∀ n j (O N : Nat → Nat) (mv y : Nat) (U MU : Nat → Nat) (al c0 l0 a0 m0 on0 mn0 pl0 : Nat → Int32) (lies : Int64) (hMoved moved year : Int32), Tr T V cnt num n j O N mv y → j + n = K → K ≤ cnt → (∀ p, p < 15 → U (80 + p) = O p) → (∀ r, r < 5 → MU r = N r) → U 95 = mv → U 112 = y → (∀ k, (k < 80 ∨ 113 ≤ k) → U k = T k) → Cur U MU V al t lies c0 l0 year →
    ∃ r1 r2, loopC (fun (s : Int32 × (Nat → Int32) × (Nat → Int32) × (Nat → Int32) × (Nat → Int32) × Int32 × Int32 × Int64) => FX0_perform_b29 nM rsort rmany nums t (nI (T 114)) V (nI k0) s.1 s.2.1 s.2.2.1 s.2.2.2.1 s.2.2.2.2.1 s.2.2.2.2.2.1 s.2.2.2.2.2.2.1 s.2.2.2.2.2.2.2) (nI j, a0, m0, c0, l0, hMoved, year, lies) = some r1 ∧
      loopC (fun (s : Int32 × (Nat → Int32) × (Nat → Int32) × (Nat → Int32) × Int32 × (Nat → Int32)) => FX8_perform_b41 nM numbers (nI k0) (nI K) s.1 s.2.1 s.2.2.1 s.2.2.2.1 s.2.2.2.2.1 s.2.2.2.2.2) (nI j, al, on0, mn0, moved, pl0) = some r2 ∧ r1.1 = nI K ∧ (∀ k, 531 ≤ k → r2.1 k = al k) ∧ ∃ U' M', (∀ k, (k < 80 ∨ 113 ≤ k) → U' k = T k) ∧ Cur U' M' V r2.1 t r1.2.2.2.2.2.2.2 r1.2.2.2.1 r1.2.2.2.2.1 r1.2.2.2.2.2.2.1 := by
  intro n
  induction n with
  | zero =>
    intro j O N mv y U MU al c0 l0 a0 m0 on0 mn0 pl0 lies hMoved moved year hT hjn hK hO hM hmv hyy hlo hC
    have hC0 := hC
    obtain ⟨⟨hW, hS, hm, hy, hB⟩, hA, ht, rfl, hc, hl, rfl⟩ := hC
    have f1 := numMany_n hs hcnt g1 g2
    have m2 : FX8_perform_b41 nM numbers (nI k0) (nI K) (nI j) al on0 mn0 moved pl0 = some (.inr (al, on0, mn0, moved, pl0)) := by
      unfold FX8_perform_b41
      simp (disch := omega) only [i_0, i_1, i_2, i_3, i_4, i_5, i_6, i_7, i_8, i_9, i_10, i_11, i_12, i_13, i_14, i_15, i_16, i_17, i_18, i_19, i_20, i_21, i_22, i_23, i_24, i_25, i_26, i_27, i_28, i_29, i_30, i_31, i_32, i_36, i_40, i_41, i_43, i_48, i_50, i_56, i_57, i_59, i_63, i_64, i_69, i_75, i_76, i_77, i_78, i_79, i_80, i_95, i_96, i_97, i_98, i_99, i_100, i_101, i_102, i_103, i_104, i_105, i_108, i_109, i_110, i_111, i_112, i_113, i_114, i_115, i_116, i_117, i_118, i_119, i_121, i_122, i_123, i_131, i_160, i_199, i_220, i_255, i_256, i_400, i_531, i_999, i_1000, i_1593, i_6000, i_6001, i_6002, i_10000, i_16383, i_16384, i_32768, i_100000, i_294912, i_1000000, bd0_s, bdS2_0, bdS2_1, bdS3_0, bdS3_1, bdS3_2, bdS4_0, bdS4_1, bdS4_2, bdS4_3, un0_s, bd1_s, bd2_s, bd3_s, bd4_s, bd5_s, bd6_s, bd7_s, bd8_s, bd9_s, bd10_s, bd11_s, bd12_s, bd13_s, bd14_s, bd15_s, bd16_s, un1_s, un2_s, un3_s, un4_s, un5_s, un6_s, un7_s, n_add, n_mul, n_addM, n_addD, n_Dadd, n_subD, n_sub, n_div, nD_succ, nD_zero, n_negM, cl_n, cl_d, rd_n, rd_d, wr_n, wr_d, al_n, al_d, b2i_t, b2i_f, lt_t, lt_f, le_t, le_f, eq_t, eq_f, dlt_t, dlt_f, ltd_t, ltd_f, ddl_t, ddl_f, dle_t, dle_f, led_t, led_f, deq_t, deq_f, eqd_t, eqd_f, dde_t, dde_f, m_ne, n_neM, m_lt, n_ltM, m_le, n_leM, m_eqD, m_neD, d_eqM, d_neM, up_t, up_f, bit_n, bit_d, rp_n, rp_d, asb1, sh1_n, sh1_d, or_n, ↓reduceIte, ite_self, Nat.add_sub_cancel, Nat.sub_self, Nat.add_zero, Nat.zero_add, Nat.mul_zero, Nat.zero_mul, eq_self, and_true, true_and, or_true, true_or, and_self, or_self, not_true_eq_false, not_false_eq_true]
    have hU114 : U 114 = T 114 := hlo 114 (by omega)
    by_cases c : cnt ≤ j
    · refine ⟨_, _, loopC_inr (r := (nI j, a0, m0, c0, l0, hMoved, nI (U 112), lN (enc (fun p => U (80 + p)) (U 95)))) ?_, loopC_inr m2, by show nI j = _; rw [show j = K by omega], fun _ _ => rfl, U, MU, hlo, hC0⟩
      show FX0_perform_b29 nM rsort rmany nums t (nI (T 114)) V (nI k0) (nI j) a0 m0 c0 l0 hMoved (nI (U 112)) _ = _
      unfold FX0_perform_b29
      simp (disch := omega) only [i_0, i_1, i_2, i_3, i_4, i_5, i_6, i_7, i_8, i_9, i_10, i_11, i_12, i_13, i_14, i_15, i_16, i_17, i_18, i_19, i_20, i_21, i_22, i_23, i_24, i_25, i_26, i_27, i_28, i_29, i_30, i_31, i_32, i_36, i_40, i_41, i_43, i_48, i_50, i_56, i_57, i_59, i_63, i_64, i_69, i_75, i_76, i_77, i_78, i_79, i_80, i_95, i_96, i_97, i_98, i_99, i_100, i_101, i_102, i_103, i_104, i_105, i_108, i_109, i_110, i_111, i_112, i_113, i_114, i_115, i_116, i_117, i_118, i_119, i_121, i_122, i_123, i_131, i_160, i_199, i_220, i_255, i_256, i_400, i_531, i_999, i_1000, i_1593, i_6000, i_6001, i_6002, i_10000, i_16383, i_16384, i_32768, i_100000, i_294912, i_1000000, bd0_s, bdS2_0, bdS2_1, bdS3_0, bdS3_1, bdS3_2, bdS4_0, bdS4_1, bdS4_2, bdS4_3, un0_s, bd1_s, bd2_s, bd3_s, bd4_s, bd5_s, bd6_s, bd7_s, bd8_s, bd9_s, bd10_s, bd11_s, bd12_s, bd13_s, bd14_s, bd15_s, bd16_s, un1_s, un2_s, un3_s, un4_s, un5_s, un6_s, un7_s, n_add, n_mul, n_addM, n_addD, n_Dadd, n_subD, n_sub, n_div, nD_succ, nD_zero, n_negM, cl_n, cl_d, rd_n, rd_d, wr_n, wr_d, al_n, al_d, b2i_t, b2i_f, lt_t, lt_f, le_t, le_f, eq_t, eq_f, dlt_t, dlt_f, ltd_t, ltd_f, ddl_t, ddl_f, dle_t, dle_f, led_t, led_f, deq_t, deq_f, eqd_t, eqd_f, dde_t, dde_f, m_ne, n_neM, m_lt, n_ltM, m_le, n_leM, m_eqD, m_neD, d_eqM, d_neM, up_t, up_f, bit_n, bit_d, rp_n, rp_d, asb1, sh1_n, sh1_d, or_n, ↓reduceIte, ite_self, Nat.add_sub_cancel, Nat.sub_self, Nat.add_zero, Nat.zero_add, Nat.mul_zero, Nat.zero_mul, eq_self, and_true, true_and, or_true, true_or, and_self, or_self, not_true_eq_false, not_false_eq_true, f1]
    · have hne : whyS T V O N mv y (num j) ≠ 0 := by
        rcases hT with z | z
        · exact absurd z c
        · exact z
      have hcg := whyS_cong (V := V) (y := y) (U := T) (O' := O) (M' := N) hW hS (by rw [hU114]; exact h114) (fun k hk => (hlo k (by omega)).symm) hU114.symm (fun p hp => (hO p hp).symm) (fun r hr => (hM r hr).symm) hm (num j)
      rw [hmv] at hcg
      rw [hcg] at hne
      obtain ⟨a1, m1, e1, hat⟩ := lays4 ht hW hS hm a0 m0
      have e2 := whyNot4 (V := V) ht hat hW hS (by rw [hU114]; exact h114) hm hy (num j)
      rw [hmv, hyy, hU114] at e2
      have f2 := numAt_n (nu := nums) hs hcnt g1 g2 (show j < cnt by omega)
      rw [g5 j (by omega)] at f2
      have hle := whyS_le (T := U) (V := V) (O := fun p => U (80 + p)) (M := MU) (mv := mv) (y := y) (v := num j)
      refine ⟨_, _, loopC_inr (r := (nI j, a1, m1, c0, l0, nI (U 95), nI (U 112), lN (enc (fun p => U (80 + p)) (U 95)))) ?_, loopC_inr m2, by show nI j = _; rw [show j = K by omega], fun _ _ => rfl, U, MU, hlo, hC0⟩
      show FX0_perform_b29 nM rsort rmany nums t (nI (T 114)) V (nI k0) (nI j) a0 m0 c0 l0 hMoved (nI (U 112)) _ = _
      unfold FX0_perform_b29 FX0_here
      rw [hmv] at e1 ⊢
      rw [hyy]
      simp (disch := omega) only [i_0, i_1, i_2, i_3, i_4, i_5, i_6, i_7, i_8, i_9, i_10, i_11, i_12, i_13, i_14, i_15, i_16, i_17, i_18, i_19, i_20, i_21, i_22, i_23, i_24, i_25, i_26, i_27, i_28, i_29, i_30, i_31, i_32, i_36, i_40, i_41, i_43, i_48, i_50, i_56, i_57, i_59, i_63, i_64, i_69, i_75, i_76, i_77, i_78, i_79, i_80, i_95, i_96, i_97, i_98, i_99, i_100, i_101, i_102, i_103, i_104, i_105, i_108, i_109, i_110, i_111, i_112, i_113, i_114, i_115, i_116, i_117, i_118, i_119, i_121, i_122, i_123, i_131, i_160, i_199, i_220, i_255, i_256, i_400, i_531, i_999, i_1000, i_1593, i_6000, i_6001, i_6002, i_10000, i_16383, i_16384, i_32768, i_100000, i_294912, i_1000000, bd0_s, bdS2_0, bdS2_1, bdS3_0, bdS3_1, bdS3_2, bdS4_0, bdS4_1, bdS4_2, bdS4_3, un0_s, bd1_s, bd2_s, bd3_s, bd4_s, bd5_s, bd6_s, bd7_s, bd8_s, bd9_s, bd10_s, bd11_s, bd12_s, bd13_s, bd14_s, bd15_s, bd16_s, un1_s, un2_s, un3_s, un4_s, un5_s, un6_s, un7_s, n_add, n_mul, n_addM, n_addD, n_Dadd, n_subD, n_sub, n_div, nD_succ, nD_zero, n_negM, cl_n, cl_d, rd_n, rd_d, wr_n, wr_d, al_n, al_d, b2i_t, b2i_f, lt_t, lt_f, le_t, le_f, eq_t, eq_f, dlt_t, dlt_f, ltd_t, ltd_f, ddl_t, ddl_f, dle_t, dle_f, led_t, led_f, deq_t, deq_f, eqd_t, eqd_f, dde_t, dde_f, m_ne, n_neM, m_lt, n_ltM, m_le, n_leM, m_eqD, m_neD, d_eqM, d_neM, up_t, up_f, bit_n, bit_d, rp_n, rp_d, asb1, sh1_n, sh1_d, or_n, ↓reduceIte, ite_self, Nat.add_sub_cancel, Nat.sub_self, Nat.add_zero, Nat.zero_add, Nat.mul_zero, Nat.zero_mul, eq_self, and_true, true_and, or_true, true_or, and_self, or_self, not_true_eq_false, not_false_eq_true, f1, e1, f2, e2, hne]
  | succ n ih =>
    intro j O N mv y U MU al c0 l0 a0 m0 on0 mn0 pl0 lies hMoved moved year hT hjn hK hO hM hmv hyy hlo hC
    obtain ⟨hj, hw0, O2, N2, mv2, y2, nx, hT2⟩ := hT
    have hC0 := hC
    obtain ⟨⟨hW, hS, hm, hy, hB⟩, hA, ht, rfl, hc, hl, rfl⟩ := hC
    have hU114 : U 114 = T 114 := hlo 114 (by omega)
    have hb := hW.b
    have f1 := numMany_n hs hcnt g1 g2
    have hcg := whyS_cong (V := V) (y := y) (U := T) (O' := O) (M' := N) hW hS (by rw [hU114]; exact h114) (fun k hk => (hlo k (by omega)).symm) hU114.symm (fun p hp => (hO p hp).symm) (fun r hr => (hM r hr).symm) hm (num j)
    rw [hmv] at hcg
    rw [hcg] at hw0
    obtain ⟨a1, m1, e1, hat⟩ := lays4 ht hW hS hm a0 m0
    have e2 := whyNot4 (V := V) ht hat hW hS (by rw [hU114]; exact h114) hm hy (num j)
    rw [hmv, hyy, hU114, hw0] at e2
    have f2 := numAt_n (nu := nums) hs hcnt g1 g2 hj
    rw [g5 j hj] at f2
    have f3 : rd 160 numbers (40 * nI k0 + nI j) = some (num j) := by
      have := g4 j hj
      simp (disch := omega) only [i_0, i_1, i_2, i_3, i_4, i_5, i_6, i_7, i_8, i_9, i_10, i_11, i_12, i_13, i_14, i_15, i_16, i_17, i_18, i_19, i_20, i_21, i_22, i_23, i_24, i_25, i_26, i_27, i_28, i_29, i_30, i_31, i_32, i_36, i_40, i_41, i_43, i_48, i_50, i_56, i_57, i_59, i_63, i_64, i_69, i_75, i_76, i_77, i_78, i_79, i_80, i_95, i_96, i_97, i_98, i_99, i_100, i_101, i_102, i_103, i_104, i_105, i_108, i_109, i_110, i_111, i_112, i_113, i_114, i_115, i_116, i_117, i_118, i_119, i_121, i_122, i_123, i_131, i_160, i_199, i_220, i_255, i_256, i_400, i_531, i_999, i_1000, i_1593, i_6000, i_6001, i_6002, i_10000, i_16383, i_16384, i_32768, i_100000, i_294912, i_1000000, bd0_s, bdS2_0, bdS2_1, bdS3_0, bdS3_1, bdS3_2, bdS4_0, bdS4_1, bdS4_2, bdS4_3, un0_s, bd1_s, bd2_s, bd3_s, bd4_s, bd5_s, bd6_s, bd7_s, bd8_s, bd9_s, bd10_s, bd11_s, bd12_s, bd13_s, bd14_s, bd15_s, bd16_s, un1_s, un2_s, un3_s, un4_s, un5_s, un6_s, un7_s, n_add, n_mul, n_addM, n_addD, n_Dadd, n_subD, n_sub, n_div, nD_succ, nD_zero, n_negM, cl_n, cl_d, rd_n, rd_d, wr_n, wr_d, al_n, al_d, b2i_t, b2i_f, lt_t, lt_f, le_t, le_f, eq_t, eq_f, dlt_t, dlt_f, ltd_t, ltd_f, ddl_t, ddl_f, dle_t, dle_f, led_t, led_f, deq_t, deq_f, eqd_t, eqd_f, dde_t, dde_f, m_ne, n_neM, m_lt, n_ltM, m_le, n_leM, m_eqD, m_neD, d_eqM, d_neM, up_t, up_f, bit_n, bit_d, rp_n, rp_d, asb1, sh1_n, sh1_d, or_n, ↓reduceIte, ite_self, Nat.add_sub_cancel, Nat.sub_self, Nat.add_zero, Nat.zero_add, Nat.mul_zero, Nat.zero_mul, eq_self, and_true, true_and, or_true, true_or, and_self, or_self, not_true_eq_false, not_false_eq_true, this]
    -- the component's step, to its call
    have st0 : ∀ r, (bd1 (FX0_kindOf (num j)) fun x_152 =>
      if x_152 = 2 then
        bd3 (FX0_year (nI (U 112)) (lN (enc (fun p => U (80 + p)) (U 95)))) fun x_154 v_year_155 y_lies_156 =>
        FX0_perform_j129 (nI j) x_154 a1 m1 c0 l0 (nI (U 95)) v_year_155 y_lies_156
      else
        if x_152 = 0 then
          bd7 (FX0_carry a1 m1 c0 l0 nM (nI (U 112)) (lN (enc (fun p => U (80 + p)) (U 95))) t (nI (T 114)) V ((Int64.toInt32 (num j)) / 10) ((Int64.toInt32 (num j)) - (Int64.toInt32 (num j)) / 10 * 10)) fun x_158 a_hAt_159 a_hMany_160 a_carried_161 a_latest_162 v_hMoved_163 y_lies_164 =>
          FX0_perform_j129 (nI j) x_158 a_hAt_159 a_hMany_160 a_carried_161 a_latest_162 v_hMoved_163 (nI (U 112)) y_lies_164
        else
          bd7 (FX0_exchange a1 m1 c0 l0 (nI (U 112)) (lN (enc (fun p => U (80 + p)) (U 95))) t (nI (T 114)) V (((Int64.toInt32 (num j)) - (Int64.toInt32 (num j)) / 100 * 100) / 10) ((Int64.toInt32 (num j)) - (Int64.toInt32 (num j)) / 10 * 10)) fun x_171 a_hAt_172 a_hMany_173 a_carried_174 a_latest_175 v_hMoved_176 y_lies_177 =>
          FX0_perform_j129 (nI j) x_171 a_hAt_172 a_hMany_173 a_carried_174 a_latest_175 v_hMoved_176 (nI (U 112)) y_lies_177) = some r → FX0_perform_b29 nM rsort rmany nums t (nI (T 114)) V (nI k0) (nI j) a0 m0 c0 l0 hMoved (nI (U 112)) (lN (enc (fun p => U (80 + p)) (U 95))) = some r := by
      intro r hr
      unfold FX0_perform_b29 FX0_here
      rw [cl_n (by omega), f1, bd1_s, if_neg (by rw [le_f (by omega) (by omega)]; exact id), e1, bd3_s, bd3_s, f2, bd1_s, hmv, hyy, e2, bd1_s, if_pos (show nI 0 = 0 from rfl), bd1_s, ← hmv, ← hyy]
      exact hr
    have j1 : ∀ (x : Int32) (b1 b2 b3 b4 : Nat → Int32) (b5 b6 : Int32) (b7 : Int64), ¬ x < 0 → FX0_perform_j129 (nI j) x b1 b2 b3 b4 b5 b6 b7 = some (.inl (nI (j + 1), b1, b2, b3, b4, b5, b6, b7)) := by
      intro x b1 b2 b3 b4 b5 b6 b7 hx
      unfold FX0_perform_j129 FX0_perform_j142
      rw [if_neg hx, show nI j + 1 = nI (j + 1) from n_add j 1]
    rcases nx with ⟨hv, rfl, rfl, rfl, rfl⟩ | ⟨m, hm1, hv, rfl, rfl, rfl, rfl⟩ | ⟨m, hm0, hm1, hv, rfl, rfl, rfl, rfl⟩
    · -- a new year
      rw [hv] at st0 f3 hw0
      rw [whyS_y] at hw0
      have hy9 : U 112 ≠ 999 := fun z => by rw [hyy] at z; rw [if_pos z] at hw0; omega
      obtain ⟨ans, year', lies', al', U2, q1, q2, q3, q4, q5, q6⟩ := year_law hC0
      rcases q6 with ⟨z, -⟩ | ⟨-, q6, q7, q8, q9⟩
      · exact absurd z hy9
      · obtain ⟨r1, r2, w1, w2, w3, w4, w5⟩ := ih (j + 1) O2 N2 0 (y + 1) U2 MU al' c0 l0 a1 m1 on0 mn0 pl0 lies' (nI (U 95)) moved year' hT2 (by omega) hK (fun p hp => (q7 p hp).trans (hO p hp)) hM q8 (by rw [q9, hyy]) (fun k hk => (q4 k hk).trans (hlo k hk)) q5
        refine ⟨r1, r2, ?_, ?_, w3, fun k hk => (w4 k hk).trans (q3 k hk), w5⟩
        · rw [← w1]
          refine loopC_inl (st0 _ ?_)
          rw [kind_y, bd1_s, if_pos rfl, q1, bd3_s, j1 _ _ _ _ _ _ _ _ q6]
        · rw [← w2]
          refine loopC_inl ?_
          show FX8_perform_b41 nM numbers (nI k0) (nI K) (nI j) al on0 mn0 moved pl0 = _
          unfold FX8_perform_b41 FX8_perform_j125
          rw [if_neg (by rw [le_f (by omega) (by omega)]; exact id), f3, bd1_s, if_pos ((lg_eq _ _).mpr rfl), q2, bd2_s, show nI j + 1 = nI (j + 1) from n_add j 1]
    · rw [hv] at st0 f3 hw0
      rw [whyS_c hm1] at hw0
      have e := lNt (n := m) (by omega)
      obtain ⟨ans, b1, b2, b3, b4, b5, lies', al', o2, n2, mo2, pl2, U2, M2, q1, q2, q3, q4, q5, q6⟩ := carry_law hC0 on0 mn0 a1 m1 pl0 (nI (dA m)) (nI (dB m))
      rcases q6 with ⟨z, -⟩ | ⟨a, b, ha5, hb5, q6, ea, eb, q7, rfl, q8, q9⟩
      · rw [hmv] at z
        exact absurd hw0 z
      · have hda : dA m < 10 := by unfold dA; omega
        have hdb : dB m < 10 := by unfold dB; omega
        obtain rfl := nI_inj ea (by omega) (by omega)
        obtain rfl := nI_inj eb (by omega) (by omega)
        have m3 := hS.m3 hW ha5
        obtain ⟨cg1, cg2⟩ := ca_cong (O := O) (M := N) (O' := fun p => U (80 + p)) (M' := MU) hO hM ha5 hb5 (by rw [← hM _ ha5]; omega)
        have q8' : U2 95 = mv ||| 2 ^ (O (3 * dA m + (N (dA m) - 1)) - 1) := by
          rw [q8, hmv, hM _ ha5, hO (3 * dA m + (N (dA m) - 1)) (by rw [← hM _ ha5]; omega)]
        obtain ⟨r1, r2, w1, w2, w3, w4, w5⟩ := ih (j + 1) _ _ _ _ U2 _ al' b3 b4 b1 b2 o2 n2 pl2 lies' b5 mo2 (nI (U 112)) hT2 (by omega) hK (fun p hp => (q7 p hp).trans (cg1 p hp)) cg2 q8' (q9.trans hyy) (fun k hk => (q4 k (by omega)).trans (hlo k hk)) q5
        rw [hU114] at q1
        refine ⟨r1, r2, ?_, ?_, w3, fun k hk => (w4 k hk).trans (q3 k hk), w5⟩
        · rw [← w1]
          refine loopC_inl (st0 _ ?_)
          rw [kind_c hm1, bd1_s, if_neg (by decide), if_pos rfl, tB (n := m) (by omega), tA' hm1, q1, bd7_s, j1 _ _ _ _ _ _ _ _ q6]
        · rw [← w2]
          refine loopC_inl ?_
          show FX8_perform_b41 nM numbers (nI k0) (nI K) (nI j) al on0 mn0 moved pl0 = _
          have hlt : ¬ 0 ≤ lg_cmp (lN m) 100 := by
            rw [lg_cmp_ge, Int64.le_iff_toInt_le, e]
            show ¬ (100 : Int) ≤ _
            omega
          unfold FX8_perform_b41 FX8_perform_j125
          rw [if_neg (by rw [le_f (by omega) (by omega)]; exact id), f3, bd1_s, if_neg (fun z => lN_ne (by omega) ((lg_eq _ _).mp z)), if_neg hlt, tB (n := m) (by omega), tA' hm1, q2, bd6_s, show nI j + 1 = nI (j + 1) from n_add j 1]
    · rw [hv] at st0 f3 hw0
      rw [whyS_x hm0 hm1] at hw0
      have e := lNt (n := m) (by omega)
      obtain ⟨ans, b1, b2, b3, b4, b5, lies', al', o2, n2, mo2, pl2, U2, M2, q1, q2, q3, q4, q5, q6⟩ := exchange_law hC0 on0 mn0 a1 m1 pl0 (nI (dA m)) (nI (dB m))
      rcases q6 with ⟨z, -⟩ | ⟨a, b, ha5, hb5, q6, ea, eb, q7, rfl, q8, q9⟩
      · rw [hmv] at z
        exact absurd hw0 z
      · have hda : dA m < 10 := by unfold dA; omega
        have hdb : dB m < 10 := by unfold dB; omega
        obtain rfl := nI_inj ea (by omega) (by omega)
        obtain rfl := nI_inj eb (by omega) (by omega)
        have m3 := hS.m3 hW ha5
        have n3 := hS.m3 hW hb5
        have cg1 := ex_cong (O := O) (M := N2) (O' := fun p => U (80 + p)) (M' := M2) hO hM ha5 hb5 (by rw [← hM _ ha5]; omega) (by rw [← hM _ hb5]; omega)
        have q8' : U2 95 = mv ||| (2 ^ (O (3 * dA m + (N2 (dA m) - 1)) - 1) ||| 2 ^ (O (3 * dB m + (N2 (dB m) - 1)) - 1)) := by
          rw [q8, hmv, hM _ ha5, hM _ hb5, hO (3 * dA m + (N2 (dA m) - 1)) (by rw [← hM _ ha5]; omega), hO (3 * dB m + (N2 (dB m) - 1)) (by rw [← hM _ hb5]; omega)]
        obtain ⟨r1, r2, w1, w2, w3, w4, w5⟩ := ih (j + 1) _ _ _ _ U2 _ al' b3 b4 b1 b2 o2 n2 pl2 lies' b5 mo2 (nI (U 112)) hT2 (by omega) hK (fun p hp => (q7 p hp).trans (cg1 p hp)) hM q8' (q9.trans hyy) (fun k hk => (q4 k (by omega)).trans (hlo k hk)) q5
        rw [hU114] at q1
        refine ⟨r1, r2, ?_, ?_, w3, fun k hk => (w4 k hk).trans (q3 k hk), w5⟩
        · rw [← w1]
          refine loopC_inl (st0 _ ?_)
          rw [kind_x hm0 hm1, bd1_s, if_neg (by decide), if_neg (by decide), tA hm1, tB hm1, q1, bd7_s, j1 _ _ _ _ _ _ _ _ q6]
        · rw [← w2]
          refine loopC_inl ?_
          show FX8_perform_b41 nM numbers (nI k0) (nI K) (nI j) al on0 mn0 moved pl0 = _
          have hge : 0 ≤ lg_cmp (lN m) 100 := by
            rw [lg_cmp_ge, Int64.le_iff_toInt_le, e]
            show (100 : Int) ≤ _
            omega
          unfold FX8_perform_b41 FX8_perform_j125
          rw [if_neg (by rw [le_f (by omega) (by omega)]; exact id), f3, bd1_s, if_neg (fun z => lN_ne (by omega) ((lg_eq _ _).mp z)), if_pos hge, tA hm1, tB hm1, q2, bd6_s, show nI j + 1 = nI (j + 1) from n_add j 1]
theorem perform_law {rsort rmany rowSort rowMany : Nat → Int32} {nums : Nat → Nat → Int64} {numbers : Nat → Int64} (hN : NumC rsort rmany nums rowSort rowMany numbers) (h : Cur T M V all t lies ca la year) (on many hAt hMany pile : Nat → Int32) (hMoved moved by' jy : Int32) (p : Int32) : ∃ ans a1 m1 ca' la' v1 year' lies' all' o2 m2 v2 pile' by2 jy2 U M', FX0_perform hAt hMany ca la hMoved nM year lies rsort rmany nums t (nI (T 114)) V p = some (ans, a1, m1, ca', la', v1, year', lies') ∧ FX8_perform all on many moved pile nM by' jy rowSort rowMany numbers p = some (ans, all', o2, m2, v2, pile', by2, jy2) ∧ (∀ k, 531 ≤ k → all' k = all k) ∧ (∀ k, (k < 80 ∨ 113 ≤ k) → U k = T k) ∧ Cur U M' V all' t lies' ca' la' year' := by
  have h0 := h
  obtain ⟨⟨hW, hS, hm, hy, hB⟩, hA, ht, rfl, hc, hl, rfl⟩ := h
  have e2 : ∀ p : Int32, FX8_within p.toInt64 0 3 = some (decide (0 ≤ p.toInt ∧ p.toInt ≤ 3)) := fun p => wiL (by decide) (by decide)
  have e3 : ∀ p : Int32, FX0_in p.toInt64 0 3 = some (decide (0 ≤ p.toInt ∧ p.toInt ≤ 3)) := fun p => inL (by decide) (by decide)
  have e4 : ∀ w, w < 4 → decide (0 ≤ (nI w).toInt ∧ (nI w).toInt ≤ 3) = true := fun w hw => dT hw (by omega)
  rcases rng p (n := 4) (by omega) with ⟨k, hk, rfl⟩ | hp
  · have al4 : alg 4 (nI k) = some () := by rw [show (4 : Int32) = nI 4 from rfl, al_n hk (by omega)]
    obtain ⟨hr, hr2⟩ := hN k hk
    rcases hr2 with hr2 | ⟨s, cnt, hs, hcnt, g1, g2, g3, g4⟩
    · have hr' := hr.trans hr2
      exact ⟨-6, _, _, _, _, _, _, _, _, _, _, _, _, _, _, T, M, by unfold FX0_perform FX0_isNumbers; (simp (disch := omega) only [i_0, i_1, i_2, i_3, i_4, i_5, i_6, i_7, i_8, i_9, i_10, i_11, i_12, i_13, i_14, i_15, i_16, i_17, i_18, i_19, i_20, i_21, i_22, i_23, i_24, i_25, i_26, i_27, i_28, i_29, i_30, i_31, i_32, i_36, i_40, i_41, i_43, i_48, i_50, i_56, i_57, i_59, i_63, i_64, i_69, i_75, i_76, i_77, i_78, i_79, i_80, i_95, i_96, i_97, i_98, i_99, i_100, i_101, i_102, i_103, i_104, i_105, i_108, i_109, i_110, i_111, i_112, i_113, i_114, i_115, i_116, i_117, i_118, i_119, i_121, i_122, i_123, i_131, i_160, i_199, i_220, i_255, i_256, i_400, i_531, i_999, i_1000, i_1593, i_6000, i_6001, i_6002, i_10000, i_16383, i_16384, i_32768, i_100000, i_294912, i_1000000, bd0_s, bdS2_0, bdS2_1, bdS3_0, bdS3_1, bdS3_2, bdS4_0, bdS4_1, bdS4_2, bdS4_3, un0_s, bd1_s, bd2_s, bd3_s, bd4_s, bd5_s, bd6_s, bd7_s, bd8_s, bd9_s, bd10_s, bd11_s, bd12_s, bd13_s, bd14_s, bd15_s, bd16_s, un1_s, un2_s, un3_s, un4_s, un5_s, un6_s, un7_s, n_add, n_mul, n_addM, n_addD, n_Dadd, n_subD, n_sub, n_div, nD_succ, nD_zero, n_negM, cl_n, cl_d, rd_n, rd_d, wr_n, wr_d, al_n, al_d, b2i_t, b2i_f, lt_t, lt_f, le_t, le_f, eq_t, eq_f, dlt_t, dlt_f, ltd_t, ltd_f, ddl_t, ddl_f, dle_t, dle_f, led_t, led_f, deq_t, deq_f, eqd_t, eqd_f, dde_t, dde_f, m_ne, n_neM, m_lt, n_ltM, m_le, n_leM, m_eqD, m_neD, d_eqM, d_neM, up_t, up_f, bit_n, bit_d, rp_n, rp_d, asb1, sh1_n, sh1_d, or_n, ↓reduceIte, ite_self, Nat.add_sub_cancel, Nat.sub_self, Nat.add_zero, Nat.zero_add, Nat.mul_zero, Nat.zero_mul, eq_self, and_true, true_and, or_true, true_or, and_self, or_self, not_true_eq_false, not_false_eq_true, e3, e4, al4, hr2]; try rfl), by unfold FX8_perform; (simp (disch := omega) only [i_0, i_1, i_2, i_3, i_4, i_5, i_6, i_7, i_8, i_9, i_10, i_11, i_12, i_13, i_14, i_15, i_16, i_17, i_18, i_19, i_20, i_21, i_22, i_23, i_24, i_25, i_26, i_27, i_28, i_29, i_30, i_31, i_32, i_36, i_40, i_41, i_43, i_48, i_50, i_56, i_57, i_59, i_63, i_64, i_69, i_75, i_76, i_77, i_78, i_79, i_80, i_95, i_96, i_97, i_98, i_99, i_100, i_101, i_102, i_103, i_104, i_105, i_108, i_109, i_110, i_111, i_112, i_113, i_114, i_115, i_116, i_117, i_118, i_119, i_121, i_122, i_123, i_131, i_160, i_199, i_220, i_255, i_256, i_400, i_531, i_999, i_1000, i_1593, i_6000, i_6001, i_6002, i_10000, i_16383, i_16384, i_32768, i_100000, i_294912, i_1000000, bd0_s, bdS2_0, bdS2_1, bdS3_0, bdS3_1, bdS3_2, bdS4_0, bdS4_1, bdS4_2, bdS4_3, un0_s, bd1_s, bd2_s, bd3_s, bd4_s, bd5_s, bd6_s, bd7_s, bd8_s, bd9_s, bd10_s, bd11_s, bd12_s, bd13_s, bd14_s, bd15_s, bd16_s, un1_s, un2_s, un3_s, un4_s, un5_s, un6_s, un7_s, n_add, n_mul, n_addM, n_addD, n_Dadd, n_subD, n_sub, n_div, nD_succ, nD_zero, n_negM, cl_n, cl_d, rd_n, rd_d, wr_n, wr_d, al_n, al_d, b2i_t, b2i_f, lt_t, lt_f, le_t, le_f, eq_t, eq_f, dlt_t, dlt_f, ltd_t, ltd_f, ddl_t, ddl_f, dle_t, dle_f, led_t, led_f, deq_t, deq_f, eqd_t, eqd_f, dde_t, dde_f, m_ne, n_neM, m_lt, n_ltM, m_le, n_leM, m_eqD, m_neD, d_eqM, d_neM, up_t, up_f, bit_n, bit_d, rp_n, rp_d, asb1, sh1_n, sh1_d, or_n, ↓reduceIte, ite_self, Nat.add_sub_cancel, Nat.sub_self, Nat.add_zero, Nat.zero_add, Nat.mul_zero, Nat.zero_mul, eq_self, and_true, true_and, or_true, true_or, and_self, or_self, not_true_eq_false, not_false_eq_true, e2, e4, hr']; try rfl), fun _ _ => rfl, fun _ _ => rfl, h0⟩
    · obtain ⟨o2, m2, e6, hon⟩ := looksNow8 hA hW hS on many
      have hBo := hB.ok hA hW
      obtain ⟨n, r, h1, h2, h3, h4⟩ := goesTr hA hW hBo (rowMany := rowMany) (num := fun j => numWid (nI s) (nums k j)) hk hcnt g3 g4 cnt 0 (fun p => T (80 + p)) M (T 95) (T 112) o2 m2 pile (by omega) hS hm hy hon
      have e112 := hA.n (k := 112) (by omega) (by omega)
      have gg : ∃ x1 x2 x3 x4 x5 x6, FX8_goes all on many pile nM rowMany numbers (nI k) = some (nI n, x1, x2, x3, x4, x5, x6) := by
        rcases h4 with ⟨x1, x2, x3, x4, x5, x6, rfl⟩ | ⟨hn, x1, x2, x3, x4, x5, x6, rfl⟩
        · refine ⟨x1, x2, x3, x4, x5, x6, ?_⟩
          unfold FX8_goes
          (simp (disch := omega) only [i_0, i_1, i_2, i_3, i_4, i_5, i_6, i_7, i_8, i_9, i_10, i_11, i_12, i_13, i_14, i_15, i_16, i_17, i_18, i_19, i_20, i_21, i_22, i_23, i_24, i_25, i_26, i_27, i_28, i_29, i_30, i_31, i_32, i_36, i_40, i_41, i_43, i_48, i_50, i_56, i_57, i_59, i_63, i_64, i_69, i_75, i_76, i_77, i_78, i_79, i_80, i_95, i_96, i_97, i_98, i_99, i_100, i_101, i_102, i_103, i_104, i_105, i_108, i_109, i_110, i_111, i_112, i_113, i_114, i_115, i_116, i_117, i_118, i_119, i_121, i_122, i_123, i_131, i_160, i_199, i_220, i_255, i_256, i_400, i_531, i_999, i_1000, i_1593, i_6000, i_6001, i_6002, i_10000, i_16383, i_16384, i_32768, i_100000, i_294912, i_1000000, bd0_s, bdS2_0, bdS2_1, bdS3_0, bdS3_1, bdS3_2, bdS4_0, bdS4_1, bdS4_2, bdS4_3, un0_s, bd1_s, bd2_s, bd3_s, bd4_s, bd5_s, bd6_s, bd7_s, bd8_s, bd9_s, bd10_s, bd11_s, bd12_s, bd13_s, bd14_s, bd15_s, bd16_s, un1_s, un2_s, un3_s, un4_s, un5_s, un6_s, un7_s, n_add, n_mul, n_addM, n_addD, n_Dadd, n_subD, n_sub, n_div, nD_succ, nD_zero, n_negM, cl_n, cl_d, rd_n, rd_d, wr_n, wr_d, al_n, al_d, b2i_t, b2i_f, lt_t, lt_f, le_t, le_f, eq_t, eq_f, dlt_t, dlt_f, ltd_t, ltd_f, ddl_t, ddl_f, dle_t, dle_f, led_t, led_f, deq_t, deq_f, eqd_t, eqd_f, dde_t, dde_f, m_ne, n_neM, m_lt, n_ltM, m_le, n_leM, m_eqD, m_neD, d_eqM, d_neM, up_t, up_f, bit_n, bit_d, rp_n, rp_d, asb1, sh1_n, sh1_d, or_n, ↓reduceIte, ite_self, Nat.add_sub_cancel, Nat.sub_self, Nat.add_zero, Nat.zero_add, Nat.mul_zero, Nat.zero_mul, eq_self, and_true, true_and, or_true, true_or, and_self, or_self, not_true_eq_false, not_false_eq_true, e6, e112, h1]; try rfl)
        · obtain rfl : n = cnt := by omega
          refine ⟨x1, x2, x3, x4, x5, x6, ?_⟩
          unfold FX8_goes
          (simp (disch := omega) only [i_0, i_1, i_2, i_3, i_4, i_5, i_6, i_7, i_8, i_9, i_10, i_11, i_12, i_13, i_14, i_15, i_16, i_17, i_18, i_19, i_20, i_21, i_22, i_23, i_24, i_25, i_26, i_27, i_28, i_29, i_30, i_31, i_32, i_36, i_40, i_41, i_43, i_48, i_50, i_56, i_57, i_59, i_63, i_64, i_69, i_75, i_76, i_77, i_78, i_79, i_80, i_95, i_96, i_97, i_98, i_99, i_100, i_101, i_102, i_103, i_104, i_105, i_108, i_109, i_110, i_111, i_112, i_113, i_114, i_115, i_116, i_117, i_118, i_119, i_121, i_122, i_123, i_131, i_160, i_199, i_220, i_255, i_256, i_400, i_531, i_999, i_1000, i_1593, i_6000, i_6001, i_6002, i_10000, i_16383, i_16384, i_32768, i_100000, i_294912, i_1000000, bd0_s, bdS2_0, bdS2_1, bdS3_0, bdS3_1, bdS3_2, bdS4_0, bdS4_1, bdS4_2, bdS4_3, un0_s, bd1_s, bd2_s, bd3_s, bd4_s, bd5_s, bd6_s, bd7_s, bd8_s, bd9_s, bd10_s, bd11_s, bd12_s, bd13_s, bd14_s, bd15_s, bd16_s, un1_s, un2_s, un3_s, un4_s, un5_s, un6_s, un7_s, n_add, n_mul, n_addM, n_addD, n_Dadd, n_subD, n_sub, n_div, nD_succ, nD_zero, n_negM, cl_n, cl_d, rd_n, rd_d, wr_n, wr_d, al_n, al_d, b2i_t, b2i_f, lt_t, lt_f, le_t, le_f, eq_t, eq_f, dlt_t, dlt_f, ltd_t, ltd_f, ddl_t, ddl_f, dle_t, dle_f, led_t, led_f, deq_t, deq_f, eqd_t, eqd_f, dde_t, dde_f, m_ne, n_neM, m_lt, n_ltM, m_le, n_leM, m_eqD, m_neD, d_eqM, d_neM, up_t, up_f, bit_n, bit_d, rp_n, rp_d, asb1, sh1_n, sh1_d, or_n, ↓reduceIte, ite_self, Nat.add_sub_cancel, Nat.sub_self, Nat.add_zero, Nat.zero_add, Nat.mul_zero, Nat.zero_mul, eq_self, and_true, true_and, or_true, true_or, and_self, or_self, not_true_eq_false, not_false_eq_true, e6, e112, h1, g3]; try rfl)
      obtain ⟨x1, x2, x3, x4, x5, x6, gg⟩ := gg
      obtain ⟨⟨z1, z2, z3, z4, z5, z6, z7, z8⟩, ⟨y1, y2, y3, y4, y5⟩, w1, w2, w3, w4, U', M', w5, w6⟩ := perfTr (V := V) hW hB.1 (rsort := rsort) (rmany := rmany) (nums := nums) (numbers := numbers) (num := fun j => numWid (nI s) (nums k j)) (K := n) hk hcnt hs g1 g2 g4 (fun _ _ => rfl) n 0 (fun p => T (80 + p)) M (T 95) (T 112) T M all ca la hAt hMany x1 x2 x4 (lN (enc (fun p => T (80 + p)) (T 95))) hMoved x3 (nI (T 112)) h3 (by omega) (by omega) (fun _ _ => rfl) (fun _ _ => rfl) rfl rfl (fun _ _ => rfl) h0
      dsimp only at w3 w4 w6
      subst w3
      have hrs : ¬ rsort k = nM := by rw [g1, n_neM (by omega)]; exact id
      have hrw : ¬ rowSort k = nM := by rw [hr]; exact hrs
      exact ⟨nI n, _, _, _, _, _, _, _, _, _, _, _, _, _, _, U', M', by unfold FX0_perform FX0_isNumbers; (simp (disch := omega) only [i_0, i_1, i_2, i_3, i_4, i_5, i_6, i_7, i_8, i_9, i_10, i_11, i_12, i_13, i_14, i_15, i_16, i_17, i_18, i_19, i_20, i_21, i_22, i_23, i_24, i_25, i_26, i_27, i_28, i_29, i_30, i_31, i_32, i_36, i_40, i_41, i_43, i_48, i_50, i_56, i_57, i_59, i_63, i_64, i_69, i_75, i_76, i_77, i_78, i_79, i_80, i_95, i_96, i_97, i_98, i_99, i_100, i_101, i_102, i_103, i_104, i_105, i_108, i_109, i_110, i_111, i_112, i_113, i_114, i_115, i_116, i_117, i_118, i_119, i_121, i_122, i_123, i_131, i_160, i_199, i_220, i_255, i_256, i_400, i_531, i_999, i_1000, i_1593, i_6000, i_6001, i_6002, i_10000, i_16383, i_16384, i_32768, i_100000, i_294912, i_1000000, bd0_s, bdS2_0, bdS2_1, bdS3_0, bdS3_1, bdS3_2, bdS4_0, bdS4_1, bdS4_2, bdS4_3, un0_s, bd1_s, bd2_s, bd3_s, bd4_s, bd5_s, bd6_s, bd7_s, bd8_s, bd9_s, bd10_s, bd11_s, bd12_s, bd13_s, bd14_s, bd15_s, bd16_s, un1_s, un2_s, un3_s, un4_s, un5_s, un6_s, un7_s, n_add, n_mul, n_addM, n_addD, n_Dadd, n_subD, n_sub, n_div, nD_succ, nD_zero, n_negM, cl_n, cl_d, rd_n, rd_d, wr_n, wr_d, al_n, al_d, b2i_t, b2i_f, lt_t, lt_f, le_t, le_f, eq_t, eq_f, dlt_t, dlt_f, ltd_t, ltd_f, ddl_t, ddl_f, dle_t, dle_f, led_t, led_f, deq_t, deq_f, eqd_t, eqd_f, dde_t, dde_f, m_ne, n_neM, m_lt, n_ltM, m_le, n_leM, m_eqD, m_neD, d_eqM, d_neM, up_t, up_f, bit_n, bit_d, rp_n, rp_d, asb1, sh1_n, sh1_d, or_n, ↓reduceIte, ite_self, Nat.add_sub_cancel, Nat.sub_self, Nat.add_zero, Nat.zero_add, Nat.mul_zero, Nat.zero_mul, eq_self, and_true, true_and, or_true, true_or, and_self, or_self, not_true_eq_false, not_false_eq_true, e3, e4, al4, eq_false hrs, w1]; try rfl), by unfold FX8_perform; (simp (disch := omega) only [i_0, i_1, i_2, i_3, i_4, i_5, i_6, i_7, i_8, i_9, i_10, i_11, i_12, i_13, i_14, i_15, i_16, i_17, i_18, i_19, i_20, i_21, i_22, i_23, i_24, i_25, i_26, i_27, i_28, i_29, i_30, i_31, i_32, i_36, i_40, i_41, i_43, i_48, i_50, i_56, i_57, i_59, i_63, i_64, i_69, i_75, i_76, i_77, i_78, i_79, i_80, i_95, i_96, i_97, i_98, i_99, i_100, i_101, i_102, i_103, i_104, i_105, i_108, i_109, i_110, i_111, i_112, i_113, i_114, i_115, i_116, i_117, i_118, i_119, i_121, i_122, i_123, i_131, i_160, i_199, i_220, i_255, i_256, i_400, i_531, i_999, i_1000, i_1593, i_6000, i_6001, i_6002, i_10000, i_16383, i_16384, i_32768, i_100000, i_294912, i_1000000, bd0_s, bdS2_0, bdS2_1, bdS3_0, bdS3_1, bdS3_2, bdS4_0, bdS4_1, bdS4_2, bdS4_3, un0_s, bd1_s, bd2_s, bd3_s, bd4_s, bd5_s, bd6_s, bd7_s, bd8_s, bd9_s, bd10_s, bd11_s, bd12_s, bd13_s, bd14_s, bd15_s, bd16_s, un1_s, un2_s, un3_s, un4_s, un5_s, un6_s, un7_s, n_add, n_mul, n_addM, n_addD, n_Dadd, n_subD, n_sub, n_div, nD_succ, nD_zero, n_negM, cl_n, cl_d, rd_n, rd_d, wr_n, wr_d, al_n, al_d, b2i_t, b2i_f, lt_t, lt_f, le_t, le_f, eq_t, eq_f, dlt_t, dlt_f, ltd_t, ltd_f, ddl_t, ddl_f, dle_t, dle_f, led_t, led_f, deq_t, deq_f, eqd_t, eqd_f, dde_t, dde_f, m_ne, n_neM, m_lt, n_ltM, m_le, n_leM, m_eqD, m_neD, d_eqM, d_neM, up_t, up_f, bit_n, bit_d, rp_n, rp_d, asb1, sh1_n, sh1_d, or_n, ↓reduceIte, ite_self, Nat.add_sub_cancel, Nat.sub_self, Nat.add_zero, Nat.zero_add, Nat.mul_zero, Nat.zero_mul, eq_self, and_true, true_and, or_true, true_or, and_self, or_self, not_true_eq_false, not_false_eq_true, e2, e4, eq_false hrw, gg, w2]; try rfl), w4, w5, w6⟩
  · have e5 : decide (0 ≤ p.toInt ∧ p.toInt ≤ 3) = false := decide_eq_false (fun z => hp (by omega))
    exact ⟨-2, _, _, _, _, _, _, _, _, _, _, _, _, _, _, T, M, by unfold FX0_perform FX0_isNumbers; (simp (disch := omega) only [i_0, i_1, i_2, i_3, i_4, i_5, i_6, i_7, i_8, i_9, i_10, i_11, i_12, i_13, i_14, i_15, i_16, i_17, i_18, i_19, i_20, i_21, i_22, i_23, i_24, i_25, i_26, i_27, i_28, i_29, i_30, i_31, i_32, i_36, i_40, i_41, i_43, i_48, i_50, i_56, i_57, i_59, i_63, i_64, i_69, i_75, i_76, i_77, i_78, i_79, i_80, i_95, i_96, i_97, i_98, i_99, i_100, i_101, i_102, i_103, i_104, i_105, i_108, i_109, i_110, i_111, i_112, i_113, i_114, i_115, i_116, i_117, i_118, i_119, i_121, i_122, i_123, i_131, i_160, i_199, i_220, i_255, i_256, i_400, i_531, i_999, i_1000, i_1593, i_6000, i_6001, i_6002, i_10000, i_16383, i_16384, i_32768, i_100000, i_294912, i_1000000, bd0_s, bdS2_0, bdS2_1, bdS3_0, bdS3_1, bdS3_2, bdS4_0, bdS4_1, bdS4_2, bdS4_3, un0_s, bd1_s, bd2_s, bd3_s, bd4_s, bd5_s, bd6_s, bd7_s, bd8_s, bd9_s, bd10_s, bd11_s, bd12_s, bd13_s, bd14_s, bd15_s, bd16_s, un1_s, un2_s, un3_s, un4_s, un5_s, un6_s, un7_s, n_add, n_mul, n_addM, n_addD, n_Dadd, n_subD, n_sub, n_div, nD_succ, nD_zero, n_negM, cl_n, cl_d, rd_n, rd_d, wr_n, wr_d, al_n, al_d, b2i_t, b2i_f, lt_t, lt_f, le_t, le_f, eq_t, eq_f, dlt_t, dlt_f, ltd_t, ltd_f, ddl_t, ddl_f, dle_t, dle_f, led_t, led_f, deq_t, deq_f, eqd_t, eqd_f, dde_t, dde_f, m_ne, n_neM, m_lt, n_ltM, m_le, n_leM, m_eqD, m_neD, d_eqM, d_neM, up_t, up_f, bit_n, bit_d, rp_n, rp_d, asb1, sh1_n, sh1_d, or_n, ↓reduceIte, ite_self, Nat.add_sub_cancel, Nat.sub_self, Nat.add_zero, Nat.zero_add, Nat.mul_zero, Nat.zero_mul, eq_self, and_true, true_and, or_true, true_or, and_self, or_self, not_true_eq_false, not_false_eq_true, e3, e5]; try rfl), by unfold FX8_perform; (simp (disch := omega) only [i_0, i_1, i_2, i_3, i_4, i_5, i_6, i_7, i_8, i_9, i_10, i_11, i_12, i_13, i_14, i_15, i_16, i_17, i_18, i_19, i_20, i_21, i_22, i_23, i_24, i_25, i_26, i_27, i_28, i_29, i_30, i_31, i_32, i_36, i_40, i_41, i_43, i_48, i_50, i_56, i_57, i_59, i_63, i_64, i_69, i_75, i_76, i_77, i_78, i_79, i_80, i_95, i_96, i_97, i_98, i_99, i_100, i_101, i_102, i_103, i_104, i_105, i_108, i_109, i_110, i_111, i_112, i_113, i_114, i_115, i_116, i_117, i_118, i_119, i_121, i_122, i_123, i_131, i_160, i_199, i_220, i_255, i_256, i_400, i_531, i_999, i_1000, i_1593, i_6000, i_6001, i_6002, i_10000, i_16383, i_16384, i_32768, i_100000, i_294912, i_1000000, bd0_s, bdS2_0, bdS2_1, bdS3_0, bdS3_1, bdS3_2, bdS4_0, bdS4_1, bdS4_2, bdS4_3, un0_s, bd1_s, bd2_s, bd3_s, bd4_s, bd5_s, bd6_s, bd7_s, bd8_s, bd9_s, bd10_s, bd11_s, bd12_s, bd13_s, bd14_s, bd15_s, bd16_s, un1_s, un2_s, un3_s, un4_s, un5_s, un6_s, un7_s, n_add, n_mul, n_addM, n_addD, n_Dadd, n_subD, n_sub, n_div, nD_succ, nD_zero, n_negM, cl_n, cl_d, rd_n, rd_d, wr_n, wr_d, al_n, al_d, b2i_t, b2i_f, lt_t, lt_f, le_t, le_f, eq_t, eq_f, dlt_t, dlt_f, ltd_t, ltd_f, ddl_t, ddl_f, dle_t, dle_f, led_t, led_f, deq_t, deq_f, eqd_t, eqd_f, dde_t, dde_f, m_ne, n_neM, m_lt, n_ltM, m_le, n_leM, m_eqD, m_neD, d_eqM, d_neM, up_t, up_f, bit_n, bit_d, rp_n, rp_d, asb1, sh1_n, sh1_d, or_n, ↓reduceIte, ite_self, Nat.add_sub_cancel, Nat.sub_self, Nat.add_zero, Nat.zero_add, Nat.mul_zero, Nat.zero_mul, eq_self, and_true, true_and, or_true, true_or, and_self, or_self, not_true_eq_false, not_false_eq_true, e2, e5]; try rfl), fun _ _ => rfl, fun _ _ => rfl, h0⟩
end P32
