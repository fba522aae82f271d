set_option maxRecDepth 100000
/-! digits of sixteen -/
def pk (P : Nat → Nat) : Nat → Nat
  | 0 => 0
  | n + 1 => pk P n + P n * 16 ^ n
theorem dk_lt {P : Nat → Nat} : ∀ n, (∀ j, j < n → P j < 16) → pk P n < 16 ^ n := by
  intro n
  induction n with
  | zero => intro _; exact Nat.one_pos
  | succ n ih =>
    intro h
    have h1 := ih fun j hj => h j (by omega)
    have h2 := h n (by omega)
    have h3 : P n * 16 ^ n ≤ 15 * 16 ^ n := Nat.mul_le_mul_right _ (by omega)
    rw [pk, Nat.pow_succ]
    omega
theorem dk_cong {P Q : Nat → Nat} : ∀ n, (∀ j, j < n → P j = Q j) → pk P n = pk Q n := by
  intro n
  induction n with
  | zero => intro _; rfl
  | succ n ih => intro h; rw [pk, pk, ih fun j hj => h j (by omega), h n (by omega)]
theorem dk_hi {P : Nat → Nat} (n X : Nat) (h : ∀ j, j < n → P j < 16) : (pk P n + X * 16 ^ n) / 16 ^ n = X := by
  have h1 := dk_lt n h
  rw [Nat.add_mul_div_right _ _ (Nat.pow_pos (by decide)), Nat.div_eq_of_lt h1, Nat.zero_add]
theorem dk_dig {P : Nat → Nat} : ∀ (n X i : Nat), (∀ j, j < n → P j < 16) → i < n → (pk P n + X * 16 ^ n) / 16 ^ i % 16 = P i := by
  intro n
  induction n with
  | zero => intro X i _ hi; omega
  | succ n ih =>
    intro X i h hi
    have e : pk P (n + 1) + X * 16 ^ (n + 1) = pk P n + (P n + X * 16) * 16 ^ n := by
      rw [pk, Nat.pow_succ, Nat.add_mul, Nat.add_assoc, Nat.mul_assoc X 16, Nat.mul_comm 16 (16 ^ n)]
    rw [e]
    by_cases c : i = n
    · subst c
      rw [dk_hi i _ fun j hj => h j (by omega)]
      have := h i (by omega)
      omega
    · exact ih _ i (fun j hj => h j (by omega)) (by omega)
theorem p16 (i : Nat) : 2 ^ (4 * i) = 16 ^ i := by rw [Nat.pow_mul]
theorem tb16 (Y q s : Nat) (hs : s < 4) : (Y / 16 ^ q % 16).testBit s = Y.testBit (4 * q + s) := by
  have h1 := Nat.testBit_mod_two_pow (Y / 16 ^ q) 4 s
  have h2 : (Y / 16 ^ q % 16).testBit s = (decide (s < 4) && (Y / 16 ^ q).testBit s) := h1
  rw [h2, decide_eq_true hs, Bool.true_and, ← p16, Nat.testBit_div_two_pow, Nat.add_comm]
theorem tbhi (Y n j : Nat) : (Y / 16 ^ n).testBit j = Y.testBit (4 * n + j) := by rw [← p16, Nat.testBit_div_two_pow, Nat.add_comm]
theorem dk_bit {P : Nat → Nat} {n X : Nat} (h : ∀ j, j < n → P j < 16) (q s : Nat) (hs : s < 4) : (pk P n + X * 16 ^ n).testBit (4 * q + s) = if q < n then (P q).testBit s else X.testBit (4 * (q - n) + s) := by
  by_cases c : q < n
  · rw [if_pos c, ← tb16 _ _ _ hs, dk_dig n X q h c]
  · have e := tbhi (pk P n + X * 16 ^ n) n (4 * (q - n) + s)
    rw [dk_hi n X h] at e
    rw [if_neg c, e]
    congr 1
    omega
theorem tb_ext {x y : Nat} (h : ∀ q s, s < 4 → x.testBit (4 * q + s) = y.testBit (4 * q + s)) : x = y := Nat.eq_of_testBit_eq fun i => by
  have := h (i / 4) (i % 4) (by omega)
  rwa [Nat.div_add_mod] at this
/-! longs by their numbers -/
theorem lNt {n : Nat} (h : n < 9223372036854775808) : (lN n).toInt = (n : Int) := by
  have := lN_ti (m := n) (by omega)
  rw [this, if_pos (by omega)]
theorem e_l {a b : Int64} (h : a.toInt = b.toInt) : a = b := Int64.toInt_inj.mp h
theorem shrL_n {n k : Nat} (hk : k < 64) (hn : n < 9223372036854775808) : shrL (lN n) (nI k) = lN (n / 2 ^ k) := by
  apply e_l
  have hd : n / 2 ^ k < 9223372036854775808 := Nat.lt_of_le_of_lt (Nat.div_le_self _ _) hn
  rw [lNt hd]
  show (BitVec.sshiftRight (lN n).toBitVec (((nI k).toInt64 &&& 63).toBitVec.smod 64).toNat).toInt = _
  rw [wb_c k hk, wb_tb k, wb_sm k hk, BitVec.toNat_ofNat, Nat.mod_eq_of_lt (by omega), BitVec.toInt_sshiftRight, Int.shiftRight_eq_div_pow]
  show (lN n).toInt / _ = _
  rw [lNt hn]
  rfl
theorem shlL_n (n : Nat) {k : Nat} (hk : k < 64) : shlL (lN n) (nI k) = lN (n * 2 ^ k) := wb_shl n hk
theorem and15 (n : Nat) : lN n &&& 15 = lN (n % 16) := fb_maskL n 4
theorem andF (n : Nat) : lN n &&& 4294967295 = lN (n % 4294967296) := fb_maskL n 32
theorem and1L (n : Nat) : lN n &&& 1 = lN (n % 2) := fb_maskL n 1
theorem l2i (n : Nat) : (lN n).toInt32 = nI n := Int64.toInt32_ofNat'
theorem i2l {n : Nat} (h : n < 2147483648) : (nI n).toInt64 = lN n := Int32.toInt64_ofNat' (by show (n : Int) ≤ 2147483647; omega)
theorem i2lM : nM.toInt64 = -1 := by decide
/-! the component's long: places of stones and who was moved -/
def plR (O : Nat → Nat) (i : Nat) : Nat → Nat
  | 0 => 15
  | n + 1 => if O n = i + 1 then n else plR O i n
/-- where a stone lies; 15: nowhere -/
def pl (O : Nat → Nat) (i : Nat) : Nat := plR O i 15
theorem plR_le (O : Nat → Nat) (i : Nat) : ∀ n, n ≤ 15 → plR O i n ≤ 15 ∧ (plR O i n < 15 → plR O i n < n ∧ O (plR O i n) = i + 1) ∧ (plR O i n = 15 → ∀ p, p < n → O p ≠ i + 1) := by
  intro n
  induction n with
  | zero => intro _; exact ⟨Nat.le_refl _, fun h => absurd h (Nat.lt_irrefl _), fun _ p hp => absurd hp (Nat.not_lt_zero p)⟩
  | succ n ih =>
    intro hn
    obtain ⟨h1, h2, h3⟩ := ih (by omega)
    unfold plR
    by_cases c : O n = i + 1
    · rw [if_pos c]
      exact ⟨by omega, fun _ => ⟨by omega, c⟩, fun h => by omega⟩
    · rw [if_neg c]
      refine ⟨h1, fun h => ⟨Nat.lt_succ_of_lt (h2 h).1, (h2 h).2⟩, fun h p hp => ?_⟩
      by_cases e : p = n
      · rw [e]; exact c
      · exact h3 h p (by omega)
theorem pl_le (O : Nat → Nat) (i : Nat) : pl O i ≤ 15 := (plR_le O i 15 (by omega)).1
theorem pl_in {O : Nat → Nat} {i : Nat} (h : pl O i < 15) : O (pl O i) = i + 1 := ((plR_le O i 15 (by omega)).2.1 h).2
theorem pl_out {O : Nat → Nat} {i : Nat} (h : pl O i = 15) : ∀ p, p < 15 → O p ≠ i + 1 := (plR_le O i 15 (by omega)).2.2 h
theorem pl_of {T O M : Nat → Nat} (hS : WO T O M) {i p : Nat} (hp : p < 15) (h : O p = i + 1) : pl O i = p := by
  have h1 := pl_le O i
  by_cases c : pl O i = 15
  · exact absurd h (pl_out c p hp)
  · have h2 := pl_in (O := O) (i := i) (by omega)
    exact hS.2.2.2 _ _ (by omega) hp (h2.trans h.symm) (by omega)
theorem pl_cong {O Q : Nat → Nat} (h : ∀ p, p < 15 → O p = Q p) (i : Nat) : pl O i = pl Q i := by
  have : ∀ n, n ≤ 15 → plR O i n = plR Q i n := by
    intro n
    induction n with
    | zero => intro _; rfl
    | succ n ih => intro hn; rw [plR, plR, h n (by omega), ih (by omega)]
  exact this 15 (by omega)
def enc (O : Nat → Nat) (mv : Nat) : Nat := pk (pl O) 8 + mv * 16 ^ 8
theorem enc_lt (O : Nat → Nat) {mv : Nat} (h : mv < 256) : enc O mv < 1099511627776 := by
  have h1 := dk_lt (P := pl O) 8 (fun j _ => by have := pl_le O j; omega)
  unfold enc
  rw [show (16 : Nat) ^ 8 = 4294967296 from rfl] at h1 ⊢
  omega
theorem enc_dig (O : Nat → Nat) (mv : Nat) {i : Nat} (hi : i < 8) : enc O mv / 16 ^ i % 16 = pl O i := dk_dig 8 mv i (fun j _ => by have := pl_le O j; omega) hi
theorem enc_hi (O : Nat → Nat) (mv : Nat) : enc O mv / 4294967296 = mv := dk_hi 8 mv (fun j _ => by have := pl_le O j; omega)
theorem placeIn_n {O : Nat → Nat} {mv i : Nat} (hi : i < 8) (hm : mv < 256) : FX0_placeIn (lN (enc O mv)) (nI i) = some (nI (pl O i)) := by
  have h := enc_lt O hm
  unfold FX0_placeIn
  rw [show (4 : Int32) = nI 4 from rfl, n_mul, shrL_n (by omega) (by omega), and15, l2i, p16, enc_dig O mv hi]
/-- the same state of two longs -/
theorem enc_inj {T O M O' M' : Nat → Nat} (hW : WT T) (hS : WO T O M) (hS' : WO T O' M') {mv mv' : Nat} (h : enc O mv = enc O' mv') : (∀ p, p < 15 → O p = O' p) ∧ mv = mv' := by
  have hp : ∀ i, i < 8 → pl O i = pl O' i := fun i hi => by rw [← enc_dig O mv hi, h, enc_dig O' mv' hi]
  have h6 := hW.b
  have key : ∀ {A B : Nat → Nat} {MA MB : Nat → Nat}, WO T A MA → WO T B MB → (∀ i, i < 8 → pl A i = pl B i) → ∀ p, p < 15 → 0 < A p → B p = A p := by
    intro A B MA MB hA hB hab p hp h0
    have h1 := hA.1 p hp
    obtain ⟨i, hi⟩ : ∃ i, A p = i + 1 := ⟨A p - 1, by omega⟩
    have h2 := pl_of hA hp hi
    have h3 := hab i (by omega)
    rw [hi, ← pl_in (O := B) (i := i) (by omega), ← h3, h2]
  refine ⟨fun p hpp => ?_, ?_⟩
  · by_cases c : 0 < O p
    · exact (key hS hS' hp p hpp c).symm
    · by_cases c' : 0 < O' p
      · exact key hS' hS (fun i hi => (hp i hi).symm) p hpp c'
      · omega
  · rw [← enc_hi O mv, h, enc_hi]
theorem enc_cong {O O' : Nat → Nat} (h : ∀ p, p < 15 → O p = O' p) (mv : Nat) : enc O mv = enc O' mv := by
  unfold enc
  rw [dk_cong 8 fun j _ => pl_cong h j]
/-! who lies in a row: the model counts -/
def c3 (O : Nat → Nat) (r : Nat) : Nat → Nat
  | 0 => 0
  | l + 1 => c3 O r l + if 0 < O (3 * r + l) then 1 else 0
theorem c3_eq {T O M : Nat → Nat} (hS : WO T O M) {r : Nat} (hr : r < 5) : ∀ l, l ≤ 3 → c3 O r l = min l (M r) := by
  intro l
  induction l with
  | zero => intro _; exact (Nat.zero_min _).symm
  | succ l ih =>
    intro hl
    have h := hS.2.1 r l hr (by omega)
    have e : c3 O r (l + 1) = c3 O r l + if 0 < O (3 * r + l) then 1 else 0 := rfl
    rw [e, ih (by omega)]
    by_cases c : 0 < O (3 * r + l)
    · have := h.mp c
      rw [if_pos c]
      omega
    · have : ¬ l < M r := fun z => c (h.mpr z)
      rw [if_neg c]
      omega
theorem c3_le (O : Nat → Nat) (r : Nat) : ∀ l, c3 O r l ≤ l := by
  intro l
  induction l with
  | zero => exact Nat.le_refl _
  | succ l ih =>
    have e : c3 O r (l + 1) = c3 O r l + if 0 < O (3 * r + l) then 1 else 0 := rfl
    rw [e]
    split <;> omega
section P23
variable {all t on at' many : Nat → Int32} {T O M : Nat → Nat}
theorem counts_in (hO : ∀ p, p < 15 → on p = nI (O p)) (hb : ∀ p, p < 15 → O p < 100) {r : Nat} (hr : r < 5) (m0 : Nat → Int32) (h0 : m0 r = nI 0) : ∃ m1, loopC (fun s => FX8_counts_b16 on (nI r) s.1 s.2) (nI 0, m0) = some m1 ∧ m1 r = nI (c3 O r 3) ∧ ∀ j, j ≠ r → m1 j = m0 j := by
  refine up_rule (B := fun s => FX8_counts_b16 on (nI r) s.1 s.2) (fun k (a : Nat → Int32) => (nI k, a)) (fun k a => a r = nI (c3 O r k) ∧ ∀ j, j ≠ r → a j = m0 j) (fun m1 => m1 r = nI (c3 O r 3) ∧ ∀ j, j ≠ r → m1 j = m0 j) 3 ?_ ?_ 0 m0 (by omega) ⟨h0, fun _ _ => rfl⟩
  · intro k a hk ⟨h1, h2⟩
    have e1 := hO (3 * r + k) (by omega)
    have e2 := hb (3 * r + k) (by omega)
    refine Or.inl ⟨upd a r (nI (c3 O r (k + 1))), ?_, up_t rfl, fun j hj => (up_f hj).trans (h2 j hj)⟩
    show FX8_counts_b16 on (nI r) (nI k) a = _
    have e : c3 O r (k + 1) = c3 O r k + if 0 < O (3 * r + k) then 1 else 0 := rfl
    unfold FX8_counts_b16 FX8_counts_j46
    rw [e]
    by_cases c : 0 < O (3 * r + k)
    · simp (disch := omega) only [i_0, i_1, i_2, i_3, i_4, i_5, i_6, i_7, i_8, i_9, i_10, i_11, i_12, i_13, i_14, i_15, i_16, i_17, i_18, i_19, i_20, i_21, i_22, i_23, i_24, i_25, i_26, i_27, i_28, i_29, i_30, i_31, i_32, i_36, i_40, i_41, i_43, i_48, i_50, i_56, i_57, i_59, i_63, i_64, i_69, i_75, i_76, i_77, i_78, i_79, i_80, i_95, i_96, i_97, i_98, i_99, i_100, i_101, i_102, i_103, i_104, i_105, i_108, i_109, i_110, i_111, i_112, i_113, i_114, i_115, i_116, i_117, i_118, i_119, i_121, i_122, i_123, i_131, i_160, i_199, i_220, i_255, i_256, i_400, i_531, i_999, i_1000, i_1593, i_6000, i_6001, i_6002, i_10000, i_16383, i_16384, i_32768, i_100000, i_294912, i_1000000, bd0_s, bdS2_0, bdS2_1, bdS3_0, bdS3_1, bdS3_2, bdS4_0, bdS4_1, bdS4_2, bdS4_3, un0_s, bd1_s, bd2_s, bd3_s, bd4_s, bd5_s, bd6_s, bd7_s, bd8_s, bd9_s, bd10_s, bd11_s, bd12_s, bd13_s, bd14_s, bd15_s, bd16_s, un1_s, un2_s, un3_s, un4_s, un5_s, un6_s, un7_s, n_add, n_mul, n_addM, n_addD, n_Dadd, n_subD, n_sub, n_div, nD_succ, nD_zero, n_negM, cl_n, cl_d, rd_n, rd_d, wr_n, wr_d, al_n, al_d, b2i_t, b2i_f, lt_t, lt_f, le_t, le_f, eq_t, eq_f, dlt_t, dlt_f, ltd_t, ltd_f, ddl_t, ddl_f, dle_t, dle_f, led_t, led_f, deq_t, deq_f, eqd_t, eqd_f, dde_t, dde_f, m_ne, n_neM, m_lt, n_ltM, m_le, n_leM, m_eqD, m_neD, d_eqM, d_neM, up_t, up_f, bit_n, bit_d, rp_n, rp_d, asb1, sh1_n, sh1_d, or_n, ↓reduceIte, ite_self, Nat.add_sub_cancel, Nat.sub_self, Nat.add_zero, Nat.zero_add, Nat.mul_zero, Nat.zero_mul, eq_self, and_true, true_and, or_true, true_or, and_self, or_self, not_true_eq_false, not_false_eq_true, e1, h1, c]
    · simp (disch := omega) only [i_0, i_1, i_2, i_3, i_4, i_5, i_6, i_7, i_8, i_9, i_10, i_11, i_12, i_13, i_14, i_15, i_16, i_17, i_18, i_19, i_20, i_21, i_22, i_23, i_24, i_25, i_26, i_27, i_28, i_29, i_30, i_31, i_32, i_36, i_40, i_41, i_43, i_48, i_50, i_56, i_57, i_59, i_63, i_64, i_69, i_75, i_76, i_77, i_78, i_79, i_80, i_95, i_96, i_97, i_98, i_99, i_100, i_101, i_102, i_103, i_104, i_105, i_108, i_109, i_110, i_111, i_112, i_113, i_114, i_115, i_116, i_117, i_118, i_119, i_121, i_122, i_123, i_131, i_160, i_199, i_220, i_255, i_256, i_400, i_531, i_999, i_1000, i_1593, i_6000, i_6001, i_6002, i_10000, i_16383, i_16384, i_32768, i_100000, i_294912, i_1000000, bd0_s, bdS2_0, bdS2_1, bdS3_0, bdS3_1, bdS3_2, bdS4_0, bdS4_1, bdS4_2, bdS4_3, un0_s, bd1_s, bd2_s, bd3_s, bd4_s, bd5_s, bd6_s, bd7_s, bd8_s, bd9_s, bd10_s, bd11_s, bd12_s, bd13_s, bd14_s, bd15_s, bd16_s, un1_s, un2_s, un3_s, un4_s, un5_s, un6_s, un7_s, n_add, n_mul, n_addM, n_addD, n_Dadd, n_subD, n_sub, n_div, nD_succ, nD_zero, n_negM, cl_n, cl_d, rd_n, rd_d, wr_n, wr_d, al_n, al_d, b2i_t, b2i_f, lt_t, lt_f, le_t, le_f, eq_t, eq_f, dlt_t, dlt_f, ltd_t, ltd_f, ddl_t, ddl_f, dle_t, dle_f, led_t, led_f, deq_t, deq_f, eqd_t, eqd_f, dde_t, dde_f, m_ne, n_neM, m_lt, n_ltM, m_le, n_leM, m_eqD, m_neD, d_eqM, d_neM, up_t, up_f, bit_n, bit_d, rp_n, rp_d, asb1, sh1_n, sh1_d, or_n, ↓reduceIte, ite_self, Nat.add_sub_cancel, Nat.sub_self, Nat.add_zero, Nat.zero_add, Nat.mul_zero, Nat.zero_mul, eq_self, and_true, true_and, or_true, true_or, and_self, or_self, not_true_eq_false, not_false_eq_true, e1, h1, c]
  · intro a h
    refine ⟨a, ?_, h⟩
    show FX8_counts_b16 on (nI r) (nI 3) a = _
    unfold FX8_counts_b16
    simp (disch := omega) only [i_0, i_1, i_2, i_3, i_4, i_5, i_6, i_7, i_8, i_9, i_10, i_11, i_12, i_13, i_14, i_15, i_16, i_17, i_18, i_19, i_20, i_21, i_22, i_23, i_24, i_25, i_26, i_27, i_28, i_29, i_30, i_31, i_32, i_36, i_40, i_41, i_43, i_48, i_50, i_56, i_57, i_59, i_63, i_64, i_69, i_75, i_76, i_77, i_78, i_79, i_80, i_95, i_96, i_97, i_98, i_99, i_100, i_101, i_102, i_103, i_104, i_105, i_108, i_109, i_110, i_111, i_112, i_113, i_114, i_115, i_116, i_117, i_118, i_119, i_121, i_122, i_123, i_131, i_160, i_199, i_220, i_255, i_256, i_400, i_531, i_999, i_1000, i_1593, i_6000, i_6001, i_6002, i_10000, i_16383, i_16384, i_32768, i_100000, i_294912, i_1000000, bd0_s, bdS2_0, bdS2_1, bdS3_0, bdS3_1, bdS3_2, bdS4_0, bdS4_1, bdS4_2, bdS4_3, un0_s, bd1_s, bd2_s, bd3_s, bd4_s, bd5_s, bd6_s, bd7_s, bd8_s, bd9_s, bd10_s, bd11_s, bd12_s, bd13_s, bd14_s, bd15_s, bd16_s, un1_s, un2_s, un3_s, un4_s, un5_s, un6_s, un7_s, n_add, n_mul, n_addM, n_addD, n_Dadd, n_subD, n_sub, n_div, nD_succ, nD_zero, n_negM, cl_n, cl_d, rd_n, rd_d, wr_n, wr_d, al_n, al_d, b2i_t, b2i_f, lt_t, lt_f, le_t, le_f, eq_t, eq_f, dlt_t, dlt_f, ltd_t, ltd_f, ddl_t, ddl_f, dle_t, dle_f, led_t, led_f, deq_t, deq_f, eqd_t, eqd_f, dde_t, dde_f, m_ne, n_neM, m_lt, n_ltM, m_le, n_leM, m_eqD, m_neD, d_eqM, d_neM, up_t, up_f, bit_n, bit_d, rp_n, rp_d, asb1, sh1_n, sh1_d, or_n, ↓reduceIte, ite_self, Nat.add_sub_cancel, Nat.sub_self, Nat.add_zero, Nat.zero_add, Nat.mul_zero, Nat.zero_mul, eq_self, and_true, true_and, or_true, true_or, and_self, or_self, not_true_eq_false, not_false_eq_true]
theorem counts8 (hO : ∀ p, p < 15 → on p = nI (O p)) (hW : WT T) (hS : WO T O M) (many : Nat → Int32) : ∃ m1, FX8_counts on many = some m1 ∧ ∀ r, r < 5 → m1 r = nI (M r) := by
  have hb : ∀ p, p < 15 → O p < 100 := fun p hp => by have := hS.1 p hp; have := hW.b; omega
  obtain ⟨m1, h1, h2⟩ := up_rule (B := fun s => FX8_counts_b2 on s.1 s.2) (fun k (a : Nat → Int32) => (nI k, a)) (fun k a => ∀ r, r < k → a r = nI (M r)) (fun m1 => ∀ r, r < 5 → m1 r = nI (M r)) 5 (by
    intro k a hk h
    have m3 := hS.m3 hW hk
    obtain ⟨m2, h1, h2, h3⟩ := counts_in hO hb hk (upd a k (nI 0)) (up_t rfl)
    refine Or.inl ⟨m2, ?_, fun r hr => ?_⟩
    · show FX8_counts_b2 on (nI k) a = _
      unfold FX8_counts_b2
      simp (disch := omega) only [i_0, i_1, i_2, i_3, i_4, i_5, i_6, i_7, i_8, i_9, i_10, i_11, i_12, i_13, i_14, i_15, i_16, i_17, i_18, i_19, i_20, i_21, i_22, i_23, i_24, i_25, i_26, i_27, i_28, i_29, i_30, i_31, i_32, i_36, i_40, i_41, i_43, i_48, i_50, i_56, i_57, i_59, i_63, i_64, i_69, i_75, i_76, i_77, i_78, i_79, i_80, i_95, i_96, i_97, i_98, i_99, i_100, i_101, i_102, i_103, i_104, i_105, i_108, i_109, i_110, i_111, i_112, i_113, i_114, i_115, i_116, i_117, i_118, i_119, i_121, i_122, i_123, i_131, i_160, i_199, i_220, i_255, i_256, i_400, i_531, i_999, i_1000, i_1593, i_6000, i_6001, i_6002, i_10000, i_16383, i_16384, i_32768, i_100000, i_294912, i_1000000, bd0_s, bdS2_0, bdS2_1, bdS3_0, bdS3_1, bdS3_2, bdS4_0, bdS4_1, bdS4_2, bdS4_3, un0_s, bd1_s, bd2_s, bd3_s, bd4_s, bd5_s, bd6_s, bd7_s, bd8_s, bd9_s, bd10_s, bd11_s, bd12_s, bd13_s, bd14_s, bd15_s, bd16_s, un1_s, un2_s, un3_s, un4_s, un5_s, un6_s, un7_s, n_add, n_mul, n_addM, n_addD, n_Dadd, n_subD, n_sub, n_div, nD_succ, nD_zero, n_negM, cl_n, cl_d, rd_n, rd_d, wr_n, wr_d, al_n, al_d, b2i_t, b2i_f, lt_t, lt_f, le_t, le_f, eq_t, eq_f, dlt_t, dlt_f, ltd_t, ltd_f, ddl_t, ddl_f, dle_t, dle_f, led_t, led_f, deq_t, deq_f, eqd_t, eqd_f, dde_t, dde_f, m_ne, n_neM, m_lt, n_ltM, m_le, n_leM, m_eqD, m_neD, d_eqM, d_neM, up_t, up_f, bit_n, bit_d, rp_n, rp_d, asb1, sh1_n, sh1_d, or_n, ↓reduceIte, ite_self, Nat.add_sub_cancel, Nat.sub_self, Nat.add_zero, Nat.zero_add, Nat.mul_zero, Nat.zero_mul, eq_self, and_true, true_and, or_true, true_or, and_self, or_self, not_true_eq_false, not_false_eq_true, h1]
    · by_cases c : r = k
      · rw [c, h2, c3_eq hS hk 3 (by omega), show min 3 (M k) = M k by omega]
      · rw [h3 r c, up_f c, h r (by omega)]) (by
    intro a h
    refine ⟨a, ?_, h⟩
    show FX8_counts_b2 on (nI 5) a = _
    unfold FX8_counts_b2
    simp (disch := omega) only [i_0, i_1, i_2, i_3, i_4, i_5, i_6, i_7, i_8, i_9, i_10, i_11, i_12, i_13, i_14, i_15, i_16, i_17, i_18, i_19, i_20, i_21, i_22, i_23, i_24, i_25, i_26, i_27, i_28, i_29, i_30, i_31, i_32, i_36, i_40, i_41, i_43, i_48, i_50, i_56, i_57, i_59, i_63, i_64, i_69, i_75, i_76, i_77, i_78, i_79, i_80, i_95, i_96, i_97, i_98, i_99, i_100, i_101, i_102, i_103, i_104, i_105, i_108, i_109, i_110, i_111, i_112, i_113, i_114, i_115, i_116, i_117, i_118, i_119, i_121, i_122, i_123, i_131, i_160, i_199, i_220, i_255, i_256, i_400, i_531, i_999, i_1000, i_1593, i_6000, i_6001, i_6002, i_10000, i_16383, i_16384, i_32768, i_100000, i_294912, i_1000000, bd0_s, bdS2_0, bdS2_1, bdS3_0, bdS3_1, bdS3_2, bdS4_0, bdS4_1, bdS4_2, bdS4_3, un0_s, bd1_s, bd2_s, bd3_s, bd4_s, bd5_s, bd6_s, bd7_s, bd8_s, bd9_s, bd10_s, bd11_s, bd12_s, bd13_s, bd14_s, bd15_s, bd16_s, un1_s, un2_s, un3_s, un4_s, un5_s, un6_s, un7_s, n_add, n_mul, n_addM, n_addD, n_Dadd, n_subD, n_sub, n_div, nD_succ, nD_zero, n_negM, cl_n, cl_d, rd_n, rd_d, wr_n, wr_d, al_n, al_d, b2i_t, b2i_f, lt_t, lt_f, le_t, le_f, eq_t, eq_f, dlt_t, dlt_f, ltd_t, ltd_f, ddl_t, ddl_f, dle_t, dle_f, led_t, led_f, deq_t, deq_f, eqd_t, eqd_f, dde_t, dde_f, m_ne, n_neM, m_lt, n_ltM, m_le, n_leM, m_eqD, m_neD, d_eqM, d_neM, up_t, up_f, bit_n, bit_d, rp_n, rp_d, asb1, sh1_n, sh1_d, or_n, ↓reduceIte, ite_self, Nat.add_sub_cancel, Nat.sub_self, Nat.add_zero, Nat.zero_add, Nat.mul_zero, Nat.zero_mul, eq_self, and_true, true_and, or_true, true_or, and_self, or_self, not_true_eq_false, not_false_eq_true]) 0 many (by omega) (fun r hr => absurd hr (Nat.not_lt_zero r))
  refine ⟨m1, ?_, h2⟩
  unfold FX8_counts
  rw [show (0 : Int32) = nI 0 from rfl, h1]
  rfl
/-- the state that is looked at, as T has it -/
theorem looksNow8 (hA : AllAt all T) (hW : WT T) {M : Nat → Nat} (hS : WO T (fun p => T (80 + p)) M) (on many : Nat → Int32) : ∃ o1 m1, FX8_looksNow all on many = some (o1, m1, nI (T 95)) ∧ OnAt o1 m1 (fun p => T (80 + p)) M := by
  obtain ⟨o1, h1, h2⟩ := up_rule (B := fun s => FX8_looksNow_b2 all s.1 s.2) (fun k (a : Nat → Int32) => (nI k, a)) (fun k a => ∀ p, p < k → a p = nI (T (80 + p))) (fun o => ∀ p, p < 15 → o p = nI (T (80 + p))) 15 (by
    intro k a hk h
    have e := hA.n (k := 80 + k) (by omega) (by omega)
    refine Or.inl ⟨upd a k (nI (T (80 + k))), ?_, fun p hp => ?_⟩
    · show FX8_looksNow_b2 all (nI k) a = _
      unfold FX8_looksNow_b2
      simp (disch := omega) only [i_0, i_1, i_2, i_3, i_4, i_5, i_6, i_7, i_8, i_9, i_10, i_11, i_12, i_13, i_14, i_15, i_16, i_17, i_18, i_19, i_20, i_21, i_22, i_23, i_24, i_25, i_26, i_27, i_28, i_29, i_30, i_31, i_32, i_36, i_40, i_41, i_43, i_48, i_50, i_56, i_57, i_59, i_63, i_64, i_69, i_75, i_76, i_77, i_78, i_79, i_80, i_95, i_96, i_97, i_98, i_99, i_100, i_101, i_102, i_103, i_104, i_105, i_108, i_109, i_110, i_111, i_112, i_113, i_114, i_115, i_116, i_117, i_118, i_119, i_121, i_122, i_123, i_131, i_160, i_199, i_220, i_255, i_256, i_400, i_531, i_999, i_1000, i_1593, i_6000, i_6001, i_6002, i_10000, i_16383, i_16384, i_32768, i_100000, i_294912, i_1000000, bd0_s, bdS2_0, bdS2_1, bdS3_0, bdS3_1, bdS3_2, bdS4_0, bdS4_1, bdS4_2, bdS4_3, un0_s, bd1_s, bd2_s, bd3_s, bd4_s, bd5_s, bd6_s, bd7_s, bd8_s, bd9_s, bd10_s, bd11_s, bd12_s, bd13_s, bd14_s, bd15_s, bd16_s, un1_s, un2_s, un3_s, un4_s, un5_s, un6_s, un7_s, n_add, n_mul, n_addM, n_addD, n_Dadd, n_subD, n_sub, n_div, nD_succ, nD_zero, n_negM, cl_n, cl_d, rd_n, rd_d, wr_n, wr_d, al_n, al_d, b2i_t, b2i_f, lt_t, lt_f, le_t, le_f, eq_t, eq_f, dlt_t, dlt_f, ltd_t, ltd_f, ddl_t, ddl_f, dle_t, dle_f, led_t, led_f, deq_t, deq_f, eqd_t, eqd_f, dde_t, dde_f, m_ne, n_neM, m_lt, n_ltM, m_le, n_leM, m_eqD, m_neD, d_eqM, d_neM, up_t, up_f, bit_n, bit_d, rp_n, rp_d, asb1, sh1_n, sh1_d, or_n, ↓reduceIte, ite_self, Nat.add_sub_cancel, Nat.sub_self, Nat.add_zero, Nat.zero_add, Nat.mul_zero, Nat.zero_mul, eq_self, and_true, true_and, or_true, true_or, and_self, or_self, not_true_eq_false, not_false_eq_true, e]
    · by_cases c : p = k
      · rw [c, up_t rfl]
      · rw [up_f c, h p (by omega)]) (by
    intro a h
    refine ⟨a, ?_, h⟩
    show FX8_looksNow_b2 all (nI 15) a = _
    unfold FX8_looksNow_b2
    simp (disch := omega) only [i_0, i_1, i_2, i_3, i_4, i_5, i_6, i_7, i_8, i_9, i_10, i_11, i_12, i_13, i_14, i_15, i_16, i_17, i_18, i_19, i_20, i_21, i_22, i_23, i_24, i_25, i_26, i_27, i_28, i_29, i_30, i_31, i_32, i_36, i_40, i_41, i_43, i_48, i_50, i_56, i_57, i_59, i_63, i_64, i_69, i_75, i_76, i_77, i_78, i_79, i_80, i_95, i_96, i_97, i_98, i_99, i_100, i_101, i_102, i_103, i_104, i_105, i_108, i_109, i_110, i_111, i_112, i_113, i_114, i_115, i_116, i_117, i_118, i_119, i_121, i_122, i_123, i_131, i_160, i_199, i_220, i_255, i_256, i_400, i_531, i_999, i_1000, i_1593, i_6000, i_6001, i_6002, i_10000, i_16383, i_16384, i_32768, i_100000, i_294912, i_1000000, bd0_s, bdS2_0, bdS2_1, bdS3_0, bdS3_1, bdS3_2, bdS4_0, bdS4_1, bdS4_2, bdS4_3, un0_s, bd1_s, bd2_s, bd3_s, bd4_s, bd5_s, bd6_s, bd7_s, bd8_s, bd9_s, bd10_s, bd11_s, bd12_s, bd13_s, bd14_s, bd15_s, bd16_s, un1_s, un2_s, un3_s, un4_s, un5_s, un6_s, un7_s, n_add, n_mul, n_addM, n_addD, n_Dadd, n_subD, n_sub, n_div, nD_succ, nD_zero, n_negM, cl_n, cl_d, rd_n, rd_d, wr_n, wr_d, al_n, al_d, b2i_t, b2i_f, lt_t, lt_f, le_t, le_f, eq_t, eq_f, dlt_t, dlt_f, ltd_t, ltd_f, ddl_t, ddl_f, dle_t, dle_f, led_t, led_f, deq_t, deq_f, eqd_t, eqd_f, dde_t, dde_f, m_ne, n_neM, m_lt, n_ltM, m_le, n_leM, m_eqD, m_neD, d_eqM, d_neM, up_t, up_f, bit_n, bit_d, rp_n, rp_d, asb1, sh1_n, sh1_d, or_n, ↓reduceIte, ite_self, Nat.add_sub_cancel, Nat.sub_self, Nat.add_zero, Nat.zero_add, Nat.mul_zero, Nat.zero_mul, eq_self, and_true, true_and, or_true, true_or, and_self, or_self, not_true_eq_false, not_false_eq_true]) 0 on (by omega) (fun r hr => absurd hr (Nat.not_lt_zero r))
  obtain ⟨m1, h3, h4⟩ := counts8 h2 hW hS many
  have e := hA.n (k := 95) (by omega) (by omega)
  refine ⟨o1, m1, ?_, h2, h4⟩
  unfold FX8_looksNow
  rw [show (0 : Int32) = nI 0 from rfl, h1]
  simp (disch := omega) only [i_0, i_1, i_2, i_3, i_4, i_5, i_6, i_7, i_8, i_9, i_10, i_11, i_12, i_13, i_14, i_15, i_16, i_17, i_18, i_19, i_20, i_21, i_22, i_23, i_24, i_25, i_26, i_27, i_28, i_29, i_30, i_31, i_32, i_36, i_40, i_41, i_43, i_48, i_50, i_56, i_57, i_59, i_63, i_64, i_69, i_75, i_76, i_77, i_78, i_79, i_80, i_95, i_96, i_97, i_98, i_99, i_100, i_101, i_102, i_103, i_104, i_105, i_108, i_109, i_110, i_111, i_112, i_113, i_114, i_115, i_116, i_117, i_118, i_119, i_121, i_122, i_123, i_131, i_160, i_199, i_220, i_255, i_256, i_400, i_531, i_999, i_1000, i_1593, i_6000, i_6001, i_6002, i_10000, i_16383, i_16384, i_32768, i_100000, i_294912, i_1000000, bd0_s, bdS2_0, bdS2_1, bdS3_0, bdS3_1, bdS3_2, bdS4_0, bdS4_1, bdS4_2, bdS4_3, un0_s, bd1_s, bd2_s, bd3_s, bd4_s, bd5_s, bd6_s, bd7_s, bd8_s, bd9_s, bd10_s, bd11_s, bd12_s, bd13_s, bd14_s, bd15_s, bd16_s, un1_s, un2_s, un3_s, un4_s, un5_s, un6_s, un7_s, n_add, n_mul, n_addM, n_addD, n_Dadd, n_subD, n_sub, n_div, nD_succ, nD_zero, n_negM, cl_n, cl_d, rd_n, rd_d, wr_n, wr_d, al_n, al_d, b2i_t, b2i_f, lt_t, lt_f, le_t, le_f, eq_t, eq_f, dlt_t, dlt_f, ltd_t, ltd_f, ddl_t, ddl_f, dle_t, dle_f, led_t, led_f, deq_t, deq_f, eqd_t, eqd_f, dde_t, dde_f, m_ne, n_neM, m_lt, n_ltM, m_le, n_leM, m_eqD, m_neD, d_eqM, d_neM, up_t, up_f, bit_n, bit_d, rp_n, rp_d, asb1, sh1_n, sh1_d, or_n, ↓reduceIte, ite_self, Nat.add_sub_cancel, Nat.sub_self, Nat.add_zero, Nat.zero_add, Nat.mul_zero, Nat.zero_mul, eq_self, and_true, true_and, or_true, true_or, and_self, or_self, not_true_eq_false, not_false_eq_true, e, h3]
/-- a state that was packed -/
theorem looksAt8 (hW : WT T) (hS : WO T O M) (mv : Nat) (on many : Nat → Int32) : ∃ o1 m1, FX8_looksAt on many (lN (pk O 15)) (nI mv) = some (o1, m1, nI mv) ∧ OnAt o1 m1 O M := by
  have hb : ∀ p, p < 15 → O p < 16 := fun p hp => by have := hS.1 p hp; have := hW.b; omega
  have hlt := dk_lt (P := O) 15 hb
  rw [show (16 : Nat) ^ 15 = 1152921504606846976 from rfl] at hlt
  obtain ⟨o1, h1, h2⟩ := up_rule (B := fun s => FX8_looksAt_b3 (lN (pk O 15)) s.1 s.2) (fun k (a : Nat → Int32) => (nI k, a)) (fun k a => ∀ p, p < k → a p = nI (O p)) (fun o => ∀ p, p < 15 → o p = nI (O p)) 15 (by
    intro k a hk h
    refine Or.inl ⟨upd a k (nI (O k)), ?_, fun p hp => ?_⟩
    · show FX8_looksAt_b3 (lN (pk O 15)) (nI k) a = _
      have e := dk_dig 15 0 k hb hk
      rw [Nat.zero_mul, Nat.add_zero, ← p16] at e
      have e2 := shrL_n (n := pk O 15) (k := 4 * k) (by omega) (by omega)
      unfold FX8_looksAt_b3
      simp (disch := omega) only [i_0, i_1, i_2, i_3, i_4, i_5, i_6, i_7, i_8, i_9, i_10, i_11, i_12, i_13, i_14, i_15, i_16, i_17, i_18, i_19, i_20, i_21, i_22, i_23, i_24, i_25, i_26, i_27, i_28, i_29, i_30, i_31, i_32, i_36, i_40, i_41, i_43, i_48, i_50, i_56, i_57, i_59, i_63, i_64, i_69, i_75, i_76, i_77, i_78, i_79, i_80, i_95, i_96, i_97, i_98, i_99, i_100, i_101, i_102, i_103, i_104, i_105, i_108, i_109, i_110, i_111, i_112, i_113, i_114, i_115, i_116, i_117, i_118, i_119, i_121, i_122, i_123, i_131, i_160, i_199, i_220, i_255, i_256, i_400, i_531, i_999, i_1000, i_1593, i_6000, i_6001, i_6002, i_10000, i_16383, i_16384, i_32768, i_100000, i_294912, i_1000000, bd0_s, bdS2_0, bdS2_1, bdS3_0, bdS3_1, bdS3_2, bdS4_0, bdS4_1, bdS4_2, bdS4_3, un0_s, bd1_s, bd2_s, bd3_s, bd4_s, bd5_s, bd6_s, bd7_s, bd8_s, bd9_s, bd10_s, bd11_s, bd12_s, bd13_s, bd14_s, bd15_s, bd16_s, un1_s, un2_s, un3_s, un4_s, un5_s, un6_s, un7_s, n_add, n_mul, n_addM, n_addD, n_Dadd, n_subD, n_sub, n_div, nD_succ, nD_zero, n_negM, cl_n, cl_d, rd_n, rd_d, wr_n, wr_d, al_n, al_d, b2i_t, b2i_f, lt_t, lt_f, le_t, le_f, eq_t, eq_f, dlt_t, dlt_f, ltd_t, ltd_f, ddl_t, ddl_f, dle_t, dle_f, led_t, led_f, deq_t, deq_f, eqd_t, eqd_f, dde_t, dde_f, m_ne, n_neM, m_lt, n_ltM, m_le, n_leM, m_eqD, m_neD, d_eqM, d_neM, up_t, up_f, bit_n, bit_d, rp_n, rp_d, asb1, sh1_n, sh1_d, or_n, ↓reduceIte, ite_self, Nat.add_sub_cancel, Nat.sub_self, Nat.add_zero, Nat.zero_add, Nat.mul_zero, Nat.zero_mul, eq_self, and_true, true_and, or_true, true_or, and_self, or_self, not_true_eq_false, not_false_eq_true, e2, and15, l2i, e]
    · by_cases c : p = k
      · rw [c, up_t rfl]
      · rw [up_f c, h p (by omega)]) (by
    intro a h
    refine ⟨a, ?_, h⟩
    show FX8_looksAt_b3 (lN (pk O 15)) (nI 15) a = _
    unfold FX8_looksAt_b3
    simp (disch := omega) only [i_0, i_1, i_2, i_3, i_4, i_5, i_6, i_7, i_8, i_9, i_10, i_11, i_12, i_13, i_14, i_15, i_16, i_17, i_18, i_19, i_20, i_21, i_22, i_23, i_24, i_25, i_26, i_27, i_28, i_29, i_30, i_31, i_32, i_36, i_40, i_41, i_43, i_48, i_50, i_56, i_57, i_59, i_63, i_64, i_69, i_75, i_76, i_77, i_78, i_79, i_80, i_95, i_96, i_97, i_98, i_99, i_100, i_101, i_102, i_103, i_104, i_105, i_108, i_109, i_110, i_111, i_112, i_113, i_114, i_115, i_116, i_117, i_118, i_119, i_121, i_122, i_123, i_131, i_160, i_199, i_220, i_255, i_256, i_400, i_531, i_999, i_1000, i_1593, i_6000, i_6001, i_6002, i_10000, i_16383, i_16384, i_32768, i_100000, i_294912, i_1000000, bd0_s, bdS2_0, bdS2_1, bdS3_0, bdS3_1, bdS3_2, bdS4_0, bdS4_1, bdS4_2, bdS4_3, un0_s, bd1_s, bd2_s, bd3_s, bd4_s, bd5_s, bd6_s, bd7_s, bd8_s, bd9_s, bd10_s, bd11_s, bd12_s, bd13_s, bd14_s, bd15_s, bd16_s, un1_s, un2_s, un3_s, un4_s, un5_s, un6_s, un7_s, n_add, n_mul, n_addM, n_addD, n_Dadd, n_subD, n_sub, n_div, nD_succ, nD_zero, n_negM, cl_n, cl_d, rd_n, rd_d, wr_n, wr_d, al_n, al_d, b2i_t, b2i_f, lt_t, lt_f, le_t, le_f, eq_t, eq_f, dlt_t, dlt_f, ltd_t, ltd_f, ddl_t, ddl_f, dle_t, dle_f, led_t, led_f, deq_t, deq_f, eqd_t, eqd_f, dde_t, dde_f, m_ne, n_neM, m_lt, n_ltM, m_le, n_leM, m_eqD, m_neD, d_eqM, d_neM, up_t, up_f, bit_n, bit_d, rp_n, rp_d, asb1, sh1_n, sh1_d, or_n, ↓reduceIte, ite_self, Nat.add_sub_cancel, Nat.sub_self, Nat.add_zero, Nat.zero_add, Nat.mul_zero, Nat.zero_mul, eq_self, and_true, true_and, or_true, true_or, and_self, or_self, not_true_eq_false, not_false_eq_true]) 0 on (by omega) (fun r hr => absurd hr (Nat.not_lt_zero r))
  obtain ⟨m1, h3, h4⟩ := counts8 h2 hW hS many
  refine ⟨o1, m1, ?_, h2, h4⟩
  unfold FX8_looksAt
  rw [show (0 : Int32) = nI 0 from rfl, h1]
  simp (disch := omega) only [i_0, i_1, i_2, i_3, i_4, i_5, i_6, i_7, i_8, i_9, i_10, i_11, i_12, i_13, i_14, i_15, i_16, i_17, i_18, i_19, i_20, i_21, i_22, i_23, i_24, i_25, i_26, i_27, i_28, i_29, i_30, i_31, i_32, i_36, i_40, i_41, i_43, i_48, i_50, i_56, i_57, i_59, i_63, i_64, i_69, i_75, i_76, i_77, i_78, i_79, i_80, i_95, i_96, i_97, i_98, i_99, i_100, i_101, i_102, i_103, i_104, i_105, i_108, i_109, i_110, i_111, i_112, i_113, i_114, i_115, i_116, i_117, i_118, i_119, i_121, i_122, i_123, i_131, i_160, i_199, i_220, i_255, i_256, i_400, i_531, i_999, i_1000, i_1593, i_6000, i_6001, i_6002, i_10000, i_16383, i_16384, i_32768, i_100000, i_294912, i_1000000, bd0_s, bdS2_0, bdS2_1, bdS3_0, bdS3_1, bdS3_2, bdS4_0, bdS4_1, bdS4_2, bdS4_3, un0_s, bd1_s, bd2_s, bd3_s, bd4_s, bd5_s, bd6_s, bd7_s, bd8_s, bd9_s, bd10_s, bd11_s, bd12_s, bd13_s, bd14_s, bd15_s, bd16_s, un1_s, un2_s, un3_s, un4_s, un5_s, un6_s, un7_s, n_add, n_mul, n_addM, n_addD, n_Dadd, n_subD, n_sub, n_div, nD_succ, nD_zero, n_negM, cl_n, cl_d, rd_n, rd_d, wr_n, wr_d, al_n, al_d, b2i_t, b2i_f, lt_t, lt_f, le_t, le_f, eq_t, eq_f, dlt_t, dlt_f, ltd_t, ltd_f, ddl_t, ddl_f, dle_t, dle_f, led_t, led_f, deq_t, deq_f, eqd_t, eqd_f, dde_t, dde_f, m_ne, n_neM, m_lt, n_ltM, m_le, n_leM, m_eqD, m_neD, d_eqM, d_neM, up_t, up_f, bit_n, bit_d, rp_n, rp_d, asb1, sh1_n, sh1_d, or_n, ↓reduceIte, ite_self, Nat.add_sub_cancel, Nat.sub_self, Nat.add_zero, Nat.zero_add, Nat.mul_zero, Nat.zero_mul, eq_self, and_true, true_and, or_true, true_or, and_self, or_self, not_true_eq_false, not_false_eq_true, h3]
/-- what lies where as one long -/
theorem packed8 (hW : WT T) (hS : WO T O M) (hO : ∀ p, p < 15 → on p = nI (O p)) : FX8_packed on = some (lN (pk O 15)) := by
  have hb : ∀ p, p < 15 → O p < 16 := fun p hp => by have := hS.1 p hp; have := hW.b; omega
  -- from the highest place down: the value is the number of the places from k on
  have key : ∀ k, k ≤ 15 → loopC (fun s => FX8_packed_b5 on s.1 s.2) (lN (pk (fun j => O (k + j)) (15 - k)), nD k) = some (lN (pk O 15)) := by
    intro k
    induction k with
    | zero =>
      intro _
      refine loopC_inr ?_
      show FX8_packed_b5 on (lN (pk (fun j => O (0 + j)) (15 - 0))) (nD 0) = _
      unfold FX8_packed_b5
      simp (disch := omega) only [i_0, i_1, i_2, i_3, i_4, i_5, i_6, i_7, i_8, i_9, i_10, i_11, i_12, i_13, i_14, i_15, i_16, i_17, i_18, i_19, i_20, i_21, i_22, i_23, i_24, i_25, i_26, i_27, i_28, i_29, i_30, i_31, i_32, i_36, i_40, i_41, i_43, i_48, i_50, i_56, i_57, i_59, i_63, i_64, i_69, i_75, i_76, i_77, i_78, i_79, i_80, i_95, i_96, i_97, i_98, i_99, i_100, i_101, i_102, i_103, i_104, i_105, i_108, i_109, i_110, i_111, i_112, i_113, i_114, i_115, i_116, i_117, i_118, i_119, i_121, i_122, i_123, i_131, i_160, i_199, i_220, i_255, i_256, i_400, i_531, i_999, i_1000, i_1593, i_6000, i_6001, i_6002, i_10000, i_16383, i_16384, i_32768, i_100000, i_294912, i_1000000, bd0_s, bdS2_0, bdS2_1, bdS3_0, bdS3_1, bdS3_2, bdS4_0, bdS4_1, bdS4_2, bdS4_3, un0_s, bd1_s, bd2_s, bd3_s, bd4_s, bd5_s, bd6_s, bd7_s, bd8_s, bd9_s, bd10_s, bd11_s, bd12_s, bd13_s, bd14_s, bd15_s, bd16_s, un1_s, un2_s, un3_s, un4_s, un5_s, un6_s, un7_s, n_add, n_mul, n_addM, n_addD, n_Dadd, n_subD, n_sub, n_div, nD_succ, nD_zero, n_negM, cl_n, cl_d, rd_n, rd_d, wr_n, wr_d, al_n, al_d, b2i_t, b2i_f, lt_t, lt_f, le_t, le_f, eq_t, eq_f, dlt_t, dlt_f, ltd_t, ltd_f, ddl_t, ddl_f, dle_t, dle_f, led_t, led_f, deq_t, deq_f, eqd_t, eqd_f, dde_t, dde_f, m_ne, n_neM, m_lt, n_ltM, m_le, n_leM, m_eqD, m_neD, d_eqM, d_neM, up_t, up_f, bit_n, bit_d, rp_n, rp_d, asb1, sh1_n, sh1_d, or_n, ↓reduceIte, ite_self, Nat.add_sub_cancel, Nat.sub_self, Nat.add_zero, Nat.zero_add, Nat.mul_zero, Nat.zero_mul, eq_self, and_true, true_and, or_true, true_or, and_self, or_self, not_true_eq_false, not_false_eq_true]
    | succ k ih =>
      intro hk
      rw [← ih (by omega)]
      refine loopC_inl ?_
      show FX8_packed_b5 on (lN (pk (fun j => O (k + 1 + j)) (15 - (k + 1)))) (nD (k + 1)) = _
      have e1 := hO k (by omega)
      have hbk := hb k (by omega)
      have e2 : pk (fun j => O (k + j)) (15 - k) = pk (fun j => O (k + 1 + j)) (15 - (k + 1)) * 2 ^ 4 + O k := by
        have gen : ∀ n, pk (fun j => O (k + j)) (n + 1) = pk (fun j => O (k + 1 + j)) n * 16 + O k := by
          intro n
          induction n with
          | zero => simp [pk]
          | succ n ihn =>
            rw [pk, ihn, pk, Nat.add_mul, Nat.pow_succ, Nat.mul_assoc, show k + (n + 1) = k + 1 + n by omega]
            omega
        have := gen (15 - (k + 1))
        rw [show 15 - (k + 1) + 1 = 15 - k by omega] at this
        exact this
      have e3 : lN (pk (fun j => O (k + 1 + j)) (15 - (k + 1)) * 2 ^ 4) ||| lN (O k) = lN (pk (fun j => O (k + j)) (15 - k)) := by
        rw [e2, Nat.mul_comm]
        exact fb_or_sumL _ hbk
      have e4 := shlL_n (pk (fun j => O (k + 1 + j)) (15 - (k + 1))) (k := 4) (by omega)
      have e5 := i2l (n := O k) (by omega)
      unfold FX8_packed_b5
      simp (disch := omega) only [i_0, i_1, i_2, i_3, i_4, i_5, i_6, i_7, i_8, i_9, i_10, i_11, i_12, i_13, i_14, i_15, i_16, i_17, i_18, i_19, i_20, i_21, i_22, i_23, i_24, i_25, i_26, i_27, i_28, i_29, i_30, i_31, i_32, i_36, i_40, i_41, i_43, i_48, i_50, i_56, i_57, i_59, i_63, i_64, i_69, i_75, i_76, i_77, i_78, i_79, i_80, i_95, i_96, i_97, i_98, i_99, i_100, i_101, i_102, i_103, i_104, i_105, i_108, i_109, i_110, i_111, i_112, i_113, i_114, i_115, i_116, i_117, i_118, i_119, i_121, i_122, i_123, i_131, i_160, i_199, i_220, i_255, i_256, i_400, i_531, i_999, i_1000, i_1593, i_6000, i_6001, i_6002, i_10000, i_16383, i_16384, i_32768, i_100000, i_294912, i_1000000, bd0_s, bdS2_0, bdS2_1, bdS3_0, bdS3_1, bdS3_2, bdS4_0, bdS4_1, bdS4_2, bdS4_3, un0_s, bd1_s, bd2_s, bd3_s, bd4_s, bd5_s, bd6_s, bd7_s, bd8_s, bd9_s, bd10_s, bd11_s, bd12_s, bd13_s, bd14_s, bd15_s, bd16_s, un1_s, un2_s, un3_s, un4_s, un5_s, un6_s, un7_s, n_add, n_mul, n_addM, n_addD, n_Dadd, n_subD, n_sub, n_div, nD_succ, nD_zero, n_negM, cl_n, cl_d, rd_n, rd_d, wr_n, wr_d, al_n, al_d, b2i_t, b2i_f, lt_t, lt_f, le_t, le_f, eq_t, eq_f, dlt_t, dlt_f, ltd_t, ltd_f, ddl_t, ddl_f, dle_t, dle_f, led_t, led_f, deq_t, deq_f, eqd_t, eqd_f, dde_t, dde_f, m_ne, n_neM, m_lt, n_ltM, m_le, n_leM, m_eqD, m_neD, d_eqM, d_neM, up_t, up_f, bit_n, bit_d, rp_n, rp_d, asb1, sh1_n, sh1_d, or_n, ↓reduceIte, ite_self, Nat.add_sub_cancel, Nat.sub_self, Nat.add_zero, Nat.zero_add, Nat.mul_zero, Nat.zero_mul, eq_self, and_true, true_and, or_true, true_or, and_self, or_self, not_true_eq_false, not_false_eq_true, e1, e4, e5, e3]
  have := key 15 (by omega)
  unfold FX8_packed
  rw [show nD 15 = (14 : Int32) by decide] at this
  have h2 : loopC (fun s => FX8_packed_b5 on s.1 s.2) ((0 : Int64), (14 : Int32)) = some (lN (pk O 15)) := this
  rw [h2]
  rfl
/-! the component lays a long out -/
def cK (O : Nat → Nat) (k r : Nat) : Nat → Nat
  | 0 => 0
  | l + 1 => cK O k r l + if 0 < O (3 * r + l) ∧ O (3 * r + l) ≤ k then 1 else 0
theorem cK_le (O : Nat → Nat) (k r : Nat) : ∀ l, cK O k r l ≤ l := by
  intro l
  induction l with
  | zero => exact Nat.le_refl _
  | succ l ih =>
    have e : cK O k r (l + 1) = cK O k r l + if 0 < O (3 * r + l) ∧ O (3 * r + l) ≤ k then 1 else 0 := rfl
    rw [e]
    split <;> omega
theorem cK_0 (O : Nat → Nat) (r : Nat) : ∀ l, cK O 0 r l = 0 := by
  intro l
  induction l with
  | zero => rfl
  | succ l ih =>
    have e : cK O 0 r (l + 1) = cK O 0 r l + if 0 < O (3 * r + l) ∧ O (3 * r + l) ≤ 0 then 1 else 0 := rfl
    rw [e, ih, if_neg (by omega)]
theorem cK_all {n : Nat} (r : Nat) (hr : r < 5) (h : ∀ p, p < 15 → O p ≤ n) : ∀ l, l ≤ 3 → cK O n r l = c3 O r l := by
  intro l
  induction l with
  | zero => intro _; rfl
  | succ l ih =>
    intro hl
    have e : cK O n r (l + 1) = cK O n r l + if 0 < O (3 * r + l) ∧ O (3 * r + l) ≤ n then 1 else 0 := rfl
    have e' : c3 O r (l + 1) = c3 O r l + if 0 < O (3 * r + l) then 1 else 0 := rfl
    have := h (3 * r + l) (by omega)
    rw [e, e', ih (by omega)]
    by_cases c : 0 < O (3 * r + l)
    · rw [if_pos ⟨c, this⟩, if_pos c]
    · rw [if_neg (fun z => c z.1), if_neg c]
/-- a stone more -/
theorem cK_no {k r : Nat} (h : ∀ l, l < 3 → O (3 * r + l) ≠ k + 1) : ∀ l, l ≤ 3 → cK O (k + 1) r l = cK O k r l := by
  intro l
  induction l with
  | zero => intro _; rfl
  | succ l ih =>
    intro hl
    have e : ∀ k, cK O k r (l + 1) = cK O k r l + if 0 < O (3 * r + l) ∧ O (3 * r + l) ≤ k then 1 else 0 := fun _ => rfl
    have := h l (by omega)
    rw [e, e, ih (by omega)]
    by_cases c : 0 < O (3 * r + l) ∧ O (3 * r + l) ≤ k
    · rw [if_pos c, if_pos (by omega)]
    · rw [if_neg c, if_neg (by omega)]
theorem cK_yes {k r l0 : Nat} (h0 : l0 < 3) (hv : O (3 * r + l0) = k + 1) (h : ∀ l, l < 3 → O (3 * r + l) = k + 1 → l = l0) : ∀ l, l ≤ 3 → cK O (k + 1) r l = cK O k r l + if l0 < l then 1 else 0 := by
  intro l
  induction l with
  | zero => intro _; rfl
  | succ l ih =>
    intro hl
    have e : ∀ k, cK O k r (l + 1) = cK O k r l + if 0 < O (3 * r + l) ∧ O (3 * r + l) ≤ k then 1 else 0 := fun _ => rfl
    have hx := h l (by omega)
    rw [e, e, ih (by omega)]
    by_cases c : l = l0
    · subst c
      rw [hv, if_neg (by omega), if_pos (by omega), if_neg (by omega), if_pos (by omega)]
    · have hx2 : O (3 * r + l) ≠ k + 1 := fun z => c (hx z)
      have q1 : (if l0 < l then 1 else 0) = (if l0 < l + 1 then 1 else 0) := by
        by_cases q : l0 < l
        · rw [if_pos q, if_pos (by omega)]
        · rw [if_neg q, if_neg (by omega)]
      rw [q1]
      by_cases c2 : 0 < O (3 * r + l) ∧ O (3 * r + l) ≤ k
      · rw [if_pos c2, if_pos (show 0 < O (3 * r + l) ∧ O (3 * r + l) ≤ k + 1 by omega)]; omega
      · rw [if_neg c2, if_neg (show ¬ (0 < O (3 * r + l) ∧ O (3 * r + l) ≤ k + 1) by omega)]; omega
theorem lays4 (ht : TwAt t T) (hW : WT T) (hS : WO T O M) {mv : Nat} (hm : mv < 256) (a0 m0 : Nat → Int32) : ∃ a1 m1, FX4_lays t a0 m0 (lN (enc O mv)) = some (a1, m1, nI mv) ∧ AtAt a1 m1 O M := by
  have hbb := hW.b
  have e6 := ht.n (k := 6) (by omega) (by omega)
  obtain ⟨m1, h1, h2⟩ := up_rule (B := fun s => FX4_lays_b17 s.1 s.2) (fun k (a : Nat → Int32) => (nI k, a)) (fun k a => ∀ r, r < k → a r = nI 0) (fun m => ∀ r, r < 5 → m r = nI 0) 5 (by
    intro k a hk h
    refine Or.inl ⟨upd a k (nI 0), ?_, fun p hp => ?_⟩
    · show FX4_lays_b17 (nI k) a = _
      unfold FX4_lays_b17
      simp (disch := omega) only [i_0, i_1, i_2, i_3, i_4, i_5, i_6, i_7, i_8, i_9, i_10, i_11, i_12, i_13, i_14, i_15, i_16, i_17, i_18, i_19, i_20, i_21, i_22, i_23, i_24, i_25, i_26, i_27, i_28, i_29, i_30, i_31, i_32, i_36, i_40, i_41, i_43, i_48, i_50, i_56, i_57, i_59, i_63, i_64, i_69, i_75, i_76, i_77, i_78, i_79, i_80, i_95, i_96, i_97, i_98, i_99, i_100, i_101, i_102, i_103, i_104, i_105, i_108, i_109, i_110, i_111, i_112, i_113, i_114, i_115, i_116, i_117, i_118, i_119, i_121, i_122, i_123, i_131, i_160, i_199, i_220, i_255, i_256, i_400, i_531, i_999, i_1000, i_1593, i_6000, i_6001, i_6002, i_10000, i_16383, i_16384, i_32768, i_100000, i_294912, i_1000000, bd0_s, bdS2_0, bdS2_1, bdS3_0, bdS3_1, bdS3_2, bdS4_0, bdS4_1, bdS4_2, bdS4_3, un0_s, bd1_s, bd2_s, bd3_s, bd4_s, bd5_s, bd6_s, bd7_s, bd8_s, bd9_s, bd10_s, bd11_s, bd12_s, bd13_s, bd14_s, bd15_s, bd16_s, un1_s, un2_s, un3_s, un4_s, un5_s, un6_s, un7_s, n_add, n_mul, n_addM, n_addD, n_Dadd, n_subD, n_sub, n_div, nD_succ, nD_zero, n_negM, cl_n, cl_d, rd_n, rd_d, wr_n, wr_d, al_n, al_d, b2i_t, b2i_f, lt_t, lt_f, le_t, le_f, eq_t, eq_f, dlt_t, dlt_f, ltd_t, ltd_f, ddl_t, ddl_f, dle_t, dle_f, led_t, led_f, deq_t, deq_f, eqd_t, eqd_f, dde_t, dde_f, m_ne, n_neM, m_lt, n_ltM, m_le, n_leM, m_eqD, m_neD, d_eqM, d_neM, up_t, up_f, bit_n, bit_d, rp_n, rp_d, asb1, sh1_n, sh1_d, or_n, ↓reduceIte, ite_self, Nat.add_sub_cancel, Nat.sub_self, Nat.add_zero, Nat.zero_add, Nat.mul_zero, Nat.zero_mul, eq_self, and_true, true_and, or_true, true_or, and_self, or_self, not_true_eq_false, not_false_eq_true]
    · by_cases c : p = k
      · rw [c, up_t rfl]
      · rw [up_f c, h p (by omega)]) (by
    intro a h
    refine ⟨a, ?_, h⟩
    show FX4_lays_b17 (nI 5) a = _
    unfold FX4_lays_b17
    simp (disch := omega) only [i_0, i_1, i_2, i_3, i_4, i_5, i_6, i_7, i_8, i_9, i_10, i_11, i_12, i_13, i_14, i_15, i_16, i_17, i_18, i_19, i_20, i_21, i_22, i_23, i_24, i_25, i_26, i_27, i_28, i_29, i_30, i_31, i_32, i_36, i_40, i_41, i_43, i_48, i_50, i_56, i_57, i_59, i_63, i_64, i_69, i_75, i_76, i_77, i_78, i_79, i_80, i_95, i_96, i_97, i_98, i_99, i_100, i_101, i_102, i_103, i_104, i_105, i_108, i_109, i_110, i_111, i_112, i_113, i_114, i_115, i_116, i_117, i_118, i_119, i_121, i_122, i_123, i_131, i_160, i_199, i_220, i_255, i_256, i_400, i_531, i_999, i_1000, i_1593, i_6000, i_6001, i_6002, i_10000, i_16383, i_16384, i_32768, i_100000, i_294912, i_1000000, bd0_s, bdS2_0, bdS2_1, bdS3_0, bdS3_1, bdS3_2, bdS4_0, bdS4_1, bdS4_2, bdS4_3, un0_s, bd1_s, bd2_s, bd3_s, bd4_s, bd5_s, bd6_s, bd7_s, bd8_s, bd9_s, bd10_s, bd11_s, bd12_s, bd13_s, bd14_s, bd15_s, bd16_s, un1_s, un2_s, un3_s, un4_s, un5_s, un6_s, un7_s, n_add, n_mul, n_addM, n_addD, n_Dadd, n_subD, n_sub, n_div, nD_succ, nD_zero, n_negM, cl_n, cl_d, rd_n, rd_d, wr_n, wr_d, al_n, al_d, b2i_t, b2i_f, lt_t, lt_f, le_t, le_f, eq_t, eq_f, dlt_t, dlt_f, ltd_t, ltd_f, ddl_t, ddl_f, dle_t, dle_f, led_t, led_f, deq_t, deq_f, eqd_t, eqd_f, dde_t, dde_f, m_ne, n_neM, m_lt, n_ltM, m_le, n_leM, m_eqD, m_neD, d_eqM, d_neM, up_t, up_f, bit_n, bit_d, rp_n, rp_d, asb1, sh1_n, sh1_d, or_n, ↓reduceIte, ite_self, Nat.add_sub_cancel, Nat.sub_self, Nat.add_zero, Nat.zero_add, Nat.mul_zero, Nat.zero_mul, eq_self, and_true, true_and, or_true, true_or, and_self, or_self, not_true_eq_false, not_false_eq_true]) 0 m0 (by omega) (fun r hr => absurd hr (Nat.not_lt_zero r))
  obtain ⟨a1, h3, h4⟩ := up_rule (B := fun s => FX4_lays_b40 s.1 s.2) (fun k (a : Nat → Int32) => (nI k, a)) (fun k a => ∀ r, r < k → a r = nM) (fun m => ∀ r, r < 15 → m r = nM) 15 (by
    intro k a hk h
    refine Or.inl ⟨upd a k nM, ?_, fun p hp => ?_⟩
    · show FX4_lays_b40 (nI k) a = _
      unfold FX4_lays_b40
      simp (disch := omega) only [i_0, i_1, i_2, i_3, i_4, i_5, i_6, i_7, i_8, i_9, i_10, i_11, i_12, i_13, i_14, i_15, i_16, i_17, i_18, i_19, i_20, i_21, i_22, i_23, i_24, i_25, i_26, i_27, i_28, i_29, i_30, i_31, i_32, i_36, i_40, i_41, i_43, i_48, i_50, i_56, i_57, i_59, i_63, i_64, i_69, i_75, i_76, i_77, i_78, i_79, i_80, i_95, i_96, i_97, i_98, i_99, i_100, i_101, i_102, i_103, i_104, i_105, i_108, i_109, i_110, i_111, i_112, i_113, i_114, i_115, i_116, i_117, i_118, i_119, i_121, i_122, i_123, i_131, i_160, i_199, i_220, i_255, i_256, i_400, i_531, i_999, i_1000, i_1593, i_6000, i_6001, i_6002, i_10000, i_16383, i_16384, i_32768, i_100000, i_294912, i_1000000, bd0_s, bdS2_0, bdS2_1, bdS3_0, bdS3_1, bdS3_2, bdS4_0, bdS4_1, bdS4_2, bdS4_3, un0_s, bd1_s, bd2_s, bd3_s, bd4_s, bd5_s, bd6_s, bd7_s, bd8_s, bd9_s, bd10_s, bd11_s, bd12_s, bd13_s, bd14_s, bd15_s, bd16_s, un1_s, un2_s, un3_s, un4_s, un5_s, un6_s, un7_s, n_add, n_mul, n_addM, n_addD, n_Dadd, n_subD, n_sub, n_div, nD_succ, nD_zero, n_negM, cl_n, cl_d, rd_n, rd_d, wr_n, wr_d, al_n, al_d, b2i_t, b2i_f, lt_t, lt_f, le_t, le_f, eq_t, eq_f, dlt_t, dlt_f, ltd_t, ltd_f, ddl_t, ddl_f, dle_t, dle_f, led_t, led_f, deq_t, deq_f, eqd_t, eqd_f, dde_t, dde_f, m_ne, n_neM, m_lt, n_ltM, m_le, n_leM, m_eqD, m_neD, d_eqM, d_neM, up_t, up_f, bit_n, bit_d, rp_n, rp_d, asb1, sh1_n, sh1_d, or_n, ↓reduceIte, ite_self, Nat.add_sub_cancel, Nat.sub_self, Nat.add_zero, Nat.zero_add, Nat.mul_zero, Nat.zero_mul, eq_self, and_true, true_and, or_true, true_or, and_self, or_self, not_true_eq_false, not_false_eq_true]
    · by_cases c : p = k
      · rw [c, up_t rfl]
      · rw [up_f c, h p (by omega)]) (by
    intro a h
    refine ⟨a, ?_, h⟩
    show FX4_lays_b40 (nI 15) a = _
    unfold FX4_lays_b40
    simp (disch := omega) only [i_0, i_1, i_2, i_3, i_4, i_5, i_6, i_7, i_8, i_9, i_10, i_11, i_12, i_13, i_14, i_15, i_16, i_17, i_18, i_19, i_20, i_21, i_22, i_23, i_24, i_25, i_26, i_27, i_28, i_29, i_30, i_31, i_32, i_36, i_40, i_41, i_43, i_48, i_50, i_56, i_57, i_59, i_63, i_64, i_69, i_75, i_76, i_77, i_78, i_79, i_80, i_95, i_96, i_97, i_98, i_99, i_100, i_101, i_102, i_103, i_104, i_105, i_108, i_109, i_110, i_111, i_112, i_113, i_114, i_115, i_116, i_117, i_118, i_119, i_121, i_122, i_123, i_131, i_160, i_199, i_220, i_255, i_256, i_400, i_531, i_999, i_1000, i_1593, i_6000, i_6001, i_6002, i_10000, i_16383, i_16384, i_32768, i_100000, i_294912, i_1000000, bd0_s, bdS2_0, bdS2_1, bdS3_0, bdS3_1, bdS3_2, bdS4_0, bdS4_1, bdS4_2, bdS4_3, un0_s, bd1_s, bd2_s, bd3_s, bd4_s, bd5_s, bd6_s, bd7_s, bd8_s, bd9_s, bd10_s, bd11_s, bd12_s, bd13_s, bd14_s, bd15_s, bd16_s, un1_s, un2_s, un3_s, un4_s, un5_s, un6_s, un7_s, n_add, n_mul, n_addM, n_addD, n_Dadd, n_subD, n_sub, n_div, nD_succ, nD_zero, n_negM, cl_n, cl_d, rd_n, rd_d, wr_n, wr_d, al_n, al_d, b2i_t, b2i_f, lt_t, lt_f, le_t, le_f, eq_t, eq_f, dlt_t, dlt_f, ltd_t, ltd_f, ddl_t, ddl_f, dle_t, dle_f, led_t, led_f, deq_t, deq_f, eqd_t, eqd_f, dde_t, dde_f, m_ne, n_neM, m_lt, n_ltM, m_le, n_leM, m_eqD, m_neD, d_eqM, d_neM, up_t, up_f, bit_n, bit_d, rp_n, rp_d, asb1, sh1_n, sh1_d, or_n, ↓reduceIte, ite_self, Nat.add_sub_cancel, Nat.sub_self, Nat.add_zero, Nat.zero_add, Nat.mul_zero, Nat.zero_mul, eq_self, and_true, true_and, or_true, true_or, and_self, or_self, not_true_eq_false, not_false_eq_true]) 0 a0 (by omega) (fun r hr => absurd hr (Nat.not_lt_zero r))
  obtain ⟨⟨a2, m2⟩, h5, h6, h7⟩ := up_rule (B := fun s => FX4_lays_b64 t (lN (enc O mv)) s.1 s.2.1 s.2.2) (fun k (a : (Nat → Int32) × (Nat → Int32)) => (nI k, a.1, a.2)) (fun k a => (∀ p, p < 15 → a.1 p = if 0 < O p ∧ O p ≤ k then nD (O p) else nM) ∧ ∀ r, r < 5 → a.2 r = nI (cK O k r 3)) (fun x => (∀ p, p < 15 → x.1 p = nD (O p)) ∧ ∀ r, r < 5 → x.2 r = nI (M r)) (T 6) (by
    rintro k ⟨a, m⟩ hk ⟨ha, hmm⟩
    dsimp only at ha hmm
    refine Or.inl ?_
    have ep := placeIn_n (O := O) (mv := mv) (i := k) (by omega) hm
    have hle := pl_le O k
    by_cases c : pl O k = 15
    · have hno := pl_out c
      refine ⟨(a, m), ?_, fun p hp => ?_, fun r hr => ?_⟩
      · show FX4_lays_b64 t (lN (enc O mv)) (nI k) a m = _
        unfold FX4_lays_b64 FX4_lays_j116
        simp (disch := omega) only [i_0, i_1, i_2, i_3, i_4, i_5, i_6, i_7, i_8, i_9, i_10, i_11, i_12, i_13, i_14, i_15, i_16, i_17, i_18, i_19, i_20, i_21, i_22, i_23, i_24, i_25, i_26, i_27, i_28, i_29, i_30, i_31, i_32, i_36, i_40, i_41, i_43, i_48, i_50, i_56, i_57, i_59, i_63, i_64, i_69, i_75, i_76, i_77, i_78, i_79, i_80, i_95, i_96, i_97, i_98, i_99, i_100, i_101, i_102, i_103, i_104, i_105, i_108, i_109, i_110, i_111, i_112, i_113, i_114, i_115, i_116, i_117, i_118, i_119, i_121, i_122, i_123, i_131, i_160, i_199, i_220, i_255, i_256, i_400, i_531, i_999, i_1000, i_1593, i_6000, i_6001, i_6002, i_10000, i_16383, i_16384, i_32768, i_100000, i_294912, i_1000000, bd0_s, bdS2_0, bdS2_1, bdS3_0, bdS3_1, bdS3_2, bdS4_0, bdS4_1, bdS4_2, bdS4_3, un0_s, bd1_s, bd2_s, bd3_s, bd4_s, bd5_s, bd6_s, bd7_s, bd8_s, bd9_s, bd10_s, bd11_s, bd12_s, bd13_s, bd14_s, bd15_s, bd16_s, un1_s, un2_s, un3_s, un4_s, un5_s, un6_s, un7_s, n_add, n_mul, n_addM, n_addD, n_Dadd, n_subD, n_sub, n_div, nD_succ, nD_zero, n_negM, cl_n, cl_d, rd_n, rd_d, wr_n, wr_d, al_n, al_d, b2i_t, b2i_f, lt_t, lt_f, le_t, le_f, eq_t, eq_f, dlt_t, dlt_f, ltd_t, ltd_f, ddl_t, ddl_f, dle_t, dle_f, led_t, led_f, deq_t, deq_f, eqd_t, eqd_f, dde_t, dde_f, m_ne, n_neM, m_lt, n_ltM, m_le, n_leM, m_eqD, m_neD, d_eqM, d_neM, up_t, up_f, bit_n, bit_d, rp_n, rp_d, asb1, sh1_n, sh1_d, or_n, ↓reduceIte, ite_self, Nat.add_sub_cancel, Nat.sub_self, Nat.add_zero, Nat.zero_add, Nat.mul_zero, Nat.zero_mul, eq_self, and_true, true_and, or_true, true_or, and_self, or_self, not_true_eq_false, not_false_eq_true, e6, ep, c]
      · have := hno p hp
        show a p = _
        rw [ha p hp]
        by_cases q : 0 < O p ∧ O p ≤ k
        · rw [if_pos q, if_pos (by omega)]
        · rw [if_neg q, if_neg (by omega)]
      · show m r = _
        rw [hmm r hr, cK_no (fun l hl => hno (3 * r + l) (by omega)) 3 (by omega)]
    · have hin := pl_in (O := O) (i := k) (by omega)
      have er := hmm (pl O k / 3) (by omega)
      have hcl := cK_le O k (pl O k / 3) 3
      refine ⟨(upd a (pl O k) (nI k), upd m (pl O k / 3) (nI (cK O k (pl O k / 3) 3 + 1))), ?_, fun p hp => ?_, fun r hr => ?_⟩
      · show FX4_lays_b64 t (lN (enc O mv)) (nI k) a m = _
        unfold FX4_lays_b64 FX4_lays_j116
        simp (disch := omega) only [i_0, i_1, i_2, i_3, i_4, i_5, i_6, i_7, i_8, i_9, i_10, i_11, i_12, i_13, i_14, i_15, i_16, i_17, i_18, i_19, i_20, i_21, i_22, i_23, i_24, i_25, i_26, i_27, i_28, i_29, i_30, i_31, i_32, i_36, i_40, i_41, i_43, i_48, i_50, i_56, i_57, i_59, i_63, i_64, i_69, i_75, i_76, i_77, i_78, i_79, i_80, i_95, i_96, i_97, i_98, i_99, i_100, i_101, i_102, i_103, i_104, i_105, i_108, i_109, i_110, i_111, i_112, i_113, i_114, i_115, i_116, i_117, i_118, i_119, i_121, i_122, i_123, i_131, i_160, i_199, i_220, i_255, i_256, i_400, i_531, i_999, i_1000, i_1593, i_6000, i_6001, i_6002, i_10000, i_16383, i_16384, i_32768, i_100000, i_294912, i_1000000, bd0_s, bdS2_0, bdS2_1, bdS3_0, bdS3_1, bdS3_2, bdS4_0, bdS4_1, bdS4_2, bdS4_3, un0_s, bd1_s, bd2_s, bd3_s, bd4_s, bd5_s, bd6_s, bd7_s, bd8_s, bd9_s, bd10_s, bd11_s, bd12_s, bd13_s, bd14_s, bd15_s, bd16_s, un1_s, un2_s, un3_s, un4_s, un5_s, un6_s, un7_s, n_add, n_mul, n_addM, n_addD, n_Dadd, n_subD, n_sub, n_div, nD_succ, nD_zero, n_negM, cl_n, cl_d, rd_n, rd_d, wr_n, wr_d, al_n, al_d, b2i_t, b2i_f, lt_t, lt_f, le_t, le_f, eq_t, eq_f, dlt_t, dlt_f, ltd_t, ltd_f, ddl_t, ddl_f, dle_t, dle_f, led_t, led_f, deq_t, deq_f, eqd_t, eqd_f, dde_t, dde_f, m_ne, n_neM, m_lt, n_ltM, m_le, n_leM, m_eqD, m_neD, d_eqM, d_neM, up_t, up_f, bit_n, bit_d, rp_n, rp_d, asb1, sh1_n, sh1_d, or_n, ↓reduceIte, ite_self, Nat.add_sub_cancel, Nat.sub_self, Nat.add_zero, Nat.zero_add, Nat.mul_zero, Nat.zero_mul, eq_self, and_true, true_and, or_true, true_or, and_self, or_self, not_true_eq_false, not_false_eq_true, e6, ep, c, er]
      · show upd a (pl O k) (nI k) p = _
        by_cases q0 : p = pl O k
        · rw [up_t q0, q0, hin, if_pos (by omega), nD_succ]
        · have : O p ≠ k + 1 := fun z => q0 (pl_of hS hp z).symm
          rw [up_f q0, ha p hp]
          by_cases q : 0 < O p ∧ O p ≤ k
          · rw [if_pos q, if_pos (by omega)]
          · rw [if_neg q, if_neg (by omega)]
      · show upd m (pl O k / 3) (nI (cK O k (pl O k / 3) 3 + 1)) r = _
        by_cases q0 : r = pl O k / 3
        · subst q0
          have := cK_yes (O := O) (k := k) (r := pl O k / 3) (l0 := pl O k % 3) (by omega) (by rw [Nat.div_add_mod]; exact hin) (fun l hl hz => by have := pl_of hS (p := 3 * (pl O k / 3) + l) (by omega) hz; omega) 3 (by omega)
          rw [up_t rfl, this, if_pos (by omega)]
        · rw [up_f q0, hmm r hr, cK_no (fun l hl hz => by have := pl_of hS (p := 3 * r + l) (by omega) hz; omega) 3 (by omega)]) (by
    rintro ⟨a, m⟩ ⟨ha, hmm⟩
    dsimp only at ha hmm
    refine ⟨(a, m), ?_, fun p hp => ?_, fun r hr => ?_⟩
    · show FX4_lays_b64 t (lN (enc O mv)) (nI (T 6)) a m = _
      unfold FX4_lays_b64
      simp (disch := omega) only [i_0, i_1, i_2, i_3, i_4, i_5, i_6, i_7, i_8, i_9, i_10, i_11, i_12, i_13, i_14, i_15, i_16, i_17, i_18, i_19, i_20, i_21, i_22, i_23, i_24, i_25, i_26, i_27, i_28, i_29, i_30, i_31, i_32, i_36, i_40, i_41, i_43, i_48, i_50, i_56, i_57, i_59, i_63, i_64, i_69, i_75, i_76, i_77, i_78, i_79, i_80, i_95, i_96, i_97, i_98, i_99, i_100, i_101, i_102, i_103, i_104, i_105, i_108, i_109, i_110, i_111, i_112, i_113, i_114, i_115, i_116, i_117, i_118, i_119, i_121, i_122, i_123, i_131, i_160, i_199, i_220, i_255, i_256, i_400, i_531, i_999, i_1000, i_1593, i_6000, i_6001, i_6002, i_10000, i_16383, i_16384, i_32768, i_100000, i_294912, i_1000000, bd0_s, bdS2_0, bdS2_1, bdS3_0, bdS3_1, bdS3_2, bdS4_0, bdS4_1, bdS4_2, bdS4_3, un0_s, bd1_s, bd2_s, bd3_s, bd4_s, bd5_s, bd6_s, bd7_s, bd8_s, bd9_s, bd10_s, bd11_s, bd12_s, bd13_s, bd14_s, bd15_s, bd16_s, un1_s, un2_s, un3_s, un4_s, un5_s, un6_s, un7_s, n_add, n_mul, n_addM, n_addD, n_Dadd, n_subD, n_sub, n_div, nD_succ, nD_zero, n_negM, cl_n, cl_d, rd_n, rd_d, wr_n, wr_d, al_n, al_d, b2i_t, b2i_f, lt_t, lt_f, le_t, le_f, eq_t, eq_f, dlt_t, dlt_f, ltd_t, ltd_f, ddl_t, ddl_f, dle_t, dle_f, led_t, led_f, deq_t, deq_f, eqd_t, eqd_f, dde_t, dde_f, m_ne, n_neM, m_lt, n_ltM, m_le, n_leM, m_eqD, m_neD, d_eqM, d_neM, up_t, up_f, bit_n, bit_d, rp_n, rp_d, asb1, sh1_n, sh1_d, or_n, ↓reduceIte, ite_self, Nat.add_sub_cancel, Nat.sub_self, Nat.add_zero, Nat.zero_add, Nat.mul_zero, Nat.zero_mul, eq_self, and_true, true_and, or_true, true_or, and_self, or_self, not_true_eq_false, not_false_eq_true, e6]
    · have h1 := hS.1 p hp
      show a p = _
      rw [ha p hp]
      by_cases q : 0 < O p ∧ O p ≤ T 6
      · rw [if_pos q]
      · rw [if_neg q, show O p = 0 by omega, nD_zero]
    · have m3 := hS.m3 hW hr
      show m r = _
      rw [hmm r hr, cK_all r hr hS.1 3 (by omega), c3_eq hS hr 3 (by omega), show min 3 (M r) = M r by omega]) 0 (a1, m1) (by omega) ⟨fun p hp => by rw [if_neg (by omega)]; exact h4 p hp, fun r hr => by rw [cK_0]; exact h2 r hr⟩
  have hlt := enc_lt O hm
  have e8 : shrL (lN (enc O mv)) 32 = lN mv := by
    rw [show (32 : Int32) = nI 32 from rfl, shrL_n (by omega) (by omega), show 2 ^ 32 = 4294967296 from rfl, enc_hi]
  refine ⟨a2, m2, ?_, h6, h7⟩
  unfold FX4_lays
  rw [show (0 : Int32) = nI 0 from rfl, h1, bd1_s, h3, bd1_s, h5, bd2_s, e8, l2i]
/-! the component makes the long of what lies where -/
theorem lies4_in (hO : ∀ p, p < 15 → at' p = nD (O p)) (hb : ∀ p, p < 15 → O p < 100) {i : Nat} (hi : i < 8) : loopC (fun s => FX4_lies_b26 at' (nI i) s.1 s.2) (nI 15, nI 0) = some (nI (pl O i)) := by
  refine up_eq (B := fun s => FX4_lies_b26 at' (nI i) s.1 s.2) (fun k (a : Int32) => (a, nI k)) (fun k => nI (plR O i k)) 15 (fun k hk => ?_) ?_ 0 (by omega)
  · have e1 := hO k hk
    have e2 := hb k hk
    show FX4_lies_b26 at' (nI i) (nI (plR O i k)) (nI k) = _
    have e : plR O i (k + 1) = if O k = i + 1 then k else plR O i k := rfl
    unfold FX4_lies_b26 FX4_lies_j49
    rw [e]
    by_cases c : O k = i + 1
    · simp (disch := omega) only [i_0, i_1, i_2, i_3, i_4, i_5, i_6, i_7, i_8, i_9, i_10, i_11, i_12, i_13, i_14, i_15, i_16, i_17, i_18, i_19, i_20, i_21, i_22, i_23, i_24, i_25, i_26, i_27, i_28, i_29, i_30, i_31, i_32, i_36, i_40, i_41, i_43, i_48, i_50, i_56, i_57, i_59, i_63, i_64, i_69, i_75, i_76, i_77, i_78, i_79, i_80, i_95, i_96, i_97, i_98, i_99, i_100, i_101, i_102, i_103, i_104, i_105, i_108, i_109, i_110, i_111, i_112, i_113, i_114, i_115, i_116, i_117, i_118, i_119, i_121, i_122, i_123, i_131, i_160, i_199, i_220, i_255, i_256, i_400, i_531, i_999, i_1000, i_1593, i_6000, i_6001, i_6002, i_10000, i_16383, i_16384, i_32768, i_100000, i_294912, i_1000000, bd0_s, bdS2_0, bdS2_1, bdS3_0, bdS3_1, bdS3_2, bdS4_0, bdS4_1, bdS4_2, bdS4_3, un0_s, bd1_s, bd2_s, bd3_s, bd4_s, bd5_s, bd6_s, bd7_s, bd8_s, bd9_s, bd10_s, bd11_s, bd12_s, bd13_s, bd14_s, bd15_s, bd16_s, un1_s, un2_s, un3_s, un4_s, un5_s, un6_s, un7_s, n_add, n_mul, n_addM, n_addD, n_Dadd, n_subD, n_sub, n_div, nD_succ, nD_zero, n_negM, cl_n, cl_d, rd_n, rd_d, wr_n, wr_d, al_n, al_d, b2i_t, b2i_f, lt_t, lt_f, le_t, le_f, eq_t, eq_f, dlt_t, dlt_f, ltd_t, ltd_f, ddl_t, ddl_f, dle_t, dle_f, led_t, led_f, deq_t, deq_f, eqd_t, eqd_f, dde_t, dde_f, m_ne, n_neM, m_lt, n_ltM, m_le, n_leM, m_eqD, m_neD, d_eqM, d_neM, up_t, up_f, bit_n, bit_d, rp_n, rp_d, asb1, sh1_n, sh1_d, or_n, ↓reduceIte, ite_self, Nat.add_sub_cancel, Nat.sub_self, Nat.add_zero, Nat.zero_add, Nat.mul_zero, Nat.zero_mul, eq_self, and_true, true_and, or_true, true_or, and_self, or_self, not_true_eq_false, not_false_eq_true, e1, c]
    · simp (disch := omega) only [i_0, i_1, i_2, i_3, i_4, i_5, i_6, i_7, i_8, i_9, i_10, i_11, i_12, i_13, i_14, i_15, i_16, i_17, i_18, i_19, i_20, i_21, i_22, i_23, i_24, i_25, i_26, i_27, i_28, i_29, i_30, i_31, i_32, i_36, i_40, i_41, i_43, i_48, i_50, i_56, i_57, i_59, i_63, i_64, i_69, i_75, i_76, i_77, i_78, i_79, i_80, i_95, i_96, i_97, i_98, i_99, i_100, i_101, i_102, i_103, i_104, i_105, i_108, i_109, i_110, i_111, i_112, i_113, i_114, i_115, i_116, i_117, i_118, i_119, i_121, i_122, i_123, i_131, i_160, i_199, i_220, i_255, i_256, i_400, i_531, i_999, i_1000, i_1593, i_6000, i_6001, i_6002, i_10000, i_16383, i_16384, i_32768, i_100000, i_294912, i_1000000, bd0_s, bdS2_0, bdS2_1, bdS3_0, bdS3_1, bdS3_2, bdS4_0, bdS4_1, bdS4_2, bdS4_3, un0_s, bd1_s, bd2_s, bd3_s, bd4_s, bd5_s, bd6_s, bd7_s, bd8_s, bd9_s, bd10_s, bd11_s, bd12_s, bd13_s, bd14_s, bd15_s, bd16_s, un1_s, un2_s, un3_s, un4_s, un5_s, un6_s, un7_s, n_add, n_mul, n_addM, n_addD, n_Dadd, n_subD, n_sub, n_div, nD_succ, nD_zero, n_negM, cl_n, cl_d, rd_n, rd_d, wr_n, wr_d, al_n, al_d, b2i_t, b2i_f, lt_t, lt_f, le_t, le_f, eq_t, eq_f, dlt_t, dlt_f, ltd_t, ltd_f, ddl_t, ddl_f, dle_t, dle_f, led_t, led_f, deq_t, deq_f, eqd_t, eqd_f, dde_t, dde_f, m_ne, n_neM, m_lt, n_ltM, m_le, n_leM, m_eqD, m_neD, d_eqM, d_neM, up_t, up_f, bit_n, bit_d, rp_n, rp_d, asb1, sh1_n, sh1_d, or_n, ↓reduceIte, ite_self, Nat.add_sub_cancel, Nat.sub_self, Nat.add_zero, Nat.zero_add, Nat.mul_zero, Nat.zero_mul, eq_self, and_true, true_and, or_true, true_or, and_self, or_self, not_true_eq_false, not_false_eq_true, e1, c]
  · show FX4_lies_b26 at' (nI i) (nI (plR O i 15)) (nI 15) = _
    unfold FX4_lies_b26
    simp (disch := omega) only [i_0, i_1, i_2, i_3, i_4, i_5, i_6, i_7, i_8, i_9, i_10, i_11, i_12, i_13, i_14, i_15, i_16, i_17, i_18, i_19, i_20, i_21, i_22, i_23, i_24, i_25, i_26, i_27, i_28, i_29, i_30, i_31, i_32, i_36, i_40, i_41, i_43, i_48, i_50, i_56, i_57, i_59, i_63, i_64, i_69, i_75, i_76, i_77, i_78, i_79, i_80, i_95, i_96, i_97, i_98, i_99, i_100, i_101, i_102, i_103, i_104, i_105, i_108, i_109, i_110, i_111, i_112, i_113, i_114, i_115, i_116, i_117, i_118, i_119, i_121, i_122, i_123, i_131, i_160, i_199, i_220, i_255, i_256, i_400, i_531, i_999, i_1000, i_1593, i_6000, i_6001, i_6002, i_10000, i_16383, i_16384, i_32768, i_100000, i_294912, i_1000000, bd0_s, bdS2_0, bdS2_1, bdS3_0, bdS3_1, bdS3_2, bdS4_0, bdS4_1, bdS4_2, bdS4_3, un0_s, bd1_s, bd2_s, bd3_s, bd4_s, bd5_s, bd6_s, bd7_s, bd8_s, bd9_s, bd10_s, bd11_s, bd12_s, bd13_s, bd14_s, bd15_s, bd16_s, un1_s, un2_s, un3_s, un4_s, un5_s, un6_s, un7_s, n_add, n_mul, n_addM, n_addD, n_Dadd, n_subD, n_sub, n_div, nD_succ, nD_zero, n_negM, cl_n, cl_d, rd_n, rd_d, wr_n, wr_d, al_n, al_d, b2i_t, b2i_f, lt_t, lt_f, le_t, le_f, eq_t, eq_f, dlt_t, dlt_f, ltd_t, ltd_f, ddl_t, ddl_f, dle_t, dle_f, led_t, led_f, deq_t, deq_f, eqd_t, eqd_f, dde_t, dde_f, m_ne, n_neM, m_lt, n_ltM, m_le, n_leM, m_eqD, m_neD, d_eqM, d_neM, up_t, up_f, bit_n, bit_d, rp_n, rp_d, asb1, sh1_n, sh1_d, or_n, ↓reduceIte, ite_self, Nat.add_sub_cancel, Nat.sub_self, Nat.add_zero, Nat.zero_add, Nat.mul_zero, Nat.zero_mul, eq_self, and_true, true_and, or_true, true_or, and_self, or_self, not_true_eq_false, not_false_eq_true]
    rfl
theorem lies4 (hO : ∀ p, p < 15 → at' p = nD (O p)) (hb : ∀ p, p < 15 → O p < 100) {mv : Nat} (hm : mv < 256) (x : Int64) : FX4_lies at' (nI mv) x = some (lN (enc O mv)) := by
  have hl15 : ∀ j, pl O j < 16 := fun j => by have := pl_le O j; omega
  have key := up_eq (B := fun s => FX4_lies_b12 at' s.1 s.2) (fun k (a : Int64) => (a, nI k)) (fun k => lN (pk (fun j => if j < k then pl O j else 0) 8 + mv * 16 ^ 8)) 8 (r := lN (enc O mv)) (fun k hk => by
    have e1 := lies4_in hO hb hk
    show FX4_lies_b12 at' (lN _) (nI k) = _
    have hle := hl15 k
    have e2 := i2l (n := pl O k) (by omega)
    have e3 := shlL_n (pl O k) (k := 4 * k) (by omega)
    have e4 : (pk (fun j => if j < k then pl O j else 0) 8 + mv * 16 ^ 8) ||| (pl O k * 2 ^ (4 * k)) = pk (fun j => if j < k + 1 then pl O j else 0) 8 + mv * 16 ^ 8 := by
      refine tb_ext fun q s hs => ?_
      rw [Nat.testBit_or, dk_bit (fun j _ => by have := hl15 j; show (if j < k then pl O j else 0) < 16; split <;> omega) q s hs, dk_bit (fun j _ => by have := hl15 j; show (if j < k + 1 then pl O j else 0) < 16; split <;> omega) q s hs, Nat.testBit_mul_two_pow]
      by_cases c : q = k
      · subst c
        rw [if_pos hk, if_pos hk, if_neg (Nat.lt_irrefl _), if_pos (Nat.lt_succ_self _), Nat.zero_testBit, decide_eq_true (by omega), Bool.true_and, Bool.false_or, show 4 * q + s - 4 * q = s by omega]
      · have z : (decide (4 * q + s ≥ 4 * k) && (pl O k).testBit (4 * q + s - 4 * k)) = false := by
          by_cases c2 : 4 * k ≤ 4 * q + s
          · rw [Nat.testBit_lt_two_pow (Nat.lt_of_lt_of_le hle (show (16 : Nat) ≤ 2 ^ (4 * q + s - 4 * k) from Nat.pow_le_pow_right (n := 2) (i := 4) (by decide) (by omega))), Bool.and_false]
          · rw [decide_eq_false (by omega), Bool.false_and]
        rw [z, Bool.or_false]
        by_cases c3 : q < 8
        · rw [if_pos c3, if_pos c3]
          by_cases c4 : q < k
          · rw [if_pos c4, if_pos (by omega)]
          · rw [if_neg c4, if_neg (by omega)]
        · rw [if_neg c3, if_neg c3]
    have e5 : lN (pk (fun j => if j < k then pl O j else 0) 8 + mv * 16 ^ 8) ||| lN (pl O k * 2 ^ (4 * k)) = lN (pk (fun j => if j < k + 1 then pl O j else 0) 8 + mv * 16 ^ 8) := by rw [fb_orL, e4]
    unfold FX4_lies_b12
    simp (disch := omega) only [i_0, i_1, i_2, i_3, i_4, i_5, i_6, i_7, i_8, i_9, i_10, i_11, i_12, i_13, i_14, i_15, i_16, i_17, i_18, i_19, i_20, i_21, i_22, i_23, i_24, i_25, i_26, i_27, i_28, i_29, i_30, i_31, i_32, i_36, i_40, i_41, i_43, i_48, i_50, i_56, i_57, i_59, i_63, i_64, i_69, i_75, i_76, i_77, i_78, i_79, i_80, i_95, i_96, i_97, i_98, i_99, i_100, i_101, i_102, i_103, i_104, i_105, i_108, i_109, i_110, i_111, i_112, i_113, i_114, i_115, i_116, i_117, i_118, i_119, i_121, i_122, i_123, i_131, i_160, i_199, i_220, i_255, i_256, i_400, i_531, i_999, i_1000, i_1593, i_6000, i_6001, i_6002, i_10000, i_16383, i_16384, i_32768, i_100000, i_294912, i_1000000, bd0_s, bdS2_0, bdS2_1, bdS3_0, bdS3_1, bdS3_2, bdS4_0, bdS4_1, bdS4_2, bdS4_3, un0_s, bd1_s, bd2_s, bd3_s, bd4_s, bd5_s, bd6_s, bd7_s, bd8_s, bd9_s, bd10_s, bd11_s, bd12_s, bd13_s, bd14_s, bd15_s, bd16_s, un1_s, un2_s, un3_s, un4_s, un5_s, un6_s, un7_s, n_add, n_mul, n_addM, n_addD, n_Dadd, n_subD, n_sub, n_div, nD_succ, nD_zero, n_negM, cl_n, cl_d, rd_n, rd_d, wr_n, wr_d, al_n, al_d, b2i_t, b2i_f, lt_t, lt_f, le_t, le_f, eq_t, eq_f, dlt_t, dlt_f, ltd_t, ltd_f, ddl_t, ddl_f, dle_t, dle_f, led_t, led_f, deq_t, deq_f, eqd_t, eqd_f, dde_t, dde_f, m_ne, n_neM, m_lt, n_ltM, m_le, n_leM, m_eqD, m_neD, d_eqM, d_neM, up_t, up_f, bit_n, bit_d, rp_n, rp_d, asb1, sh1_n, sh1_d, or_n, ↓reduceIte, ite_self, Nat.add_sub_cancel, Nat.sub_self, Nat.add_zero, Nat.zero_add, Nat.mul_zero, Nat.zero_mul, eq_self, and_true, true_and, or_true, true_or, and_self, or_self, not_true_eq_false, not_false_eq_true, e1, e2, e3, e5]) (by
    show FX4_lies_b12 at' (lN _) (nI 8) = _
    unfold FX4_lies_b12
    simp (disch := omega) only [i_0, i_1, i_2, i_3, i_4, i_5, i_6, i_7, i_8, i_9, i_10, i_11, i_12, i_13, i_14, i_15, i_16, i_17, i_18, i_19, i_20, i_21, i_22, i_23, i_24, i_25, i_26, i_27, i_28, i_29, i_30, i_31, i_32, i_36, i_40, i_41, i_43, i_48, i_50, i_56, i_57, i_59, i_63, i_64, i_69, i_75, i_76, i_77, i_78, i_79, i_80, i_95, i_96, i_97, i_98, i_99, i_100, i_101, i_102, i_103, i_104, i_105, i_108, i_109, i_110, i_111, i_112, i_113, i_114, i_115, i_116, i_117, i_118, i_119, i_121, i_122, i_123, i_131, i_160, i_199, i_220, i_255, i_256, i_400, i_531, i_999, i_1000, i_1593, i_6000, i_6001, i_6002, i_10000, i_16383, i_16384, i_32768, i_100000, i_294912, i_1000000, bd0_s, bdS2_0, bdS2_1, bdS3_0, bdS3_1, bdS3_2, bdS4_0, bdS4_1, bdS4_2, bdS4_3, un0_s, bd1_s, bd2_s, bd3_s, bd4_s, bd5_s, bd6_s, bd7_s, bd8_s, bd9_s, bd10_s, bd11_s, bd12_s, bd13_s, bd14_s, bd15_s, bd16_s, un1_s, un2_s, un3_s, un4_s, un5_s, un6_s, un7_s, n_add, n_mul, n_addM, n_addD, n_Dadd, n_subD, n_sub, n_div, nD_succ, nD_zero, n_negM, cl_n, cl_d, rd_n, rd_d, wr_n, wr_d, al_n, al_d, b2i_t, b2i_f, lt_t, lt_f, le_t, le_f, eq_t, eq_f, dlt_t, dlt_f, ltd_t, ltd_f, ddl_t, ddl_f, dle_t, dle_f, led_t, led_f, deq_t, deq_f, eqd_t, eqd_f, dde_t, dde_f, m_ne, n_neM, m_lt, n_ltM, m_le, n_leM, m_eqD, m_neD, d_eqM, d_neM, up_t, up_f, bit_n, bit_d, rp_n, rp_d, asb1, sh1_n, sh1_d, or_n, ↓reduceIte, ite_self, Nat.add_sub_cancel, Nat.sub_self, Nat.add_zero, Nat.zero_add, Nat.mul_zero, Nat.zero_mul, eq_self, and_true, true_and, or_true, true_or, and_self, or_self, not_true_eq_false, not_false_eq_true]
    rw [enc, dk_cong 8 (fun j hj => (if_pos hj : (if j < 8 then pl O j else 0) = pl O j))]) 0 (by omega)
  have e0 : pk (fun j => if j < 0 then pl O j else 0) 8 = 0 := by
    rw [dk_cong (Q := fun _ => 0) 8 (fun j _ => if_neg (Nat.not_lt_zero j))]
    rfl
  rw [e0, Nat.zero_add] at key
  have e6 : shlL (Int32.toInt64 (nI mv)) 32 = lN (mv * 16 ^ 8) := by
    rw [i2l (by omega), show (32 : Int32) = nI 32 from rfl, shlL_n _ (by omega)]
  unfold FX4_lies
  rw [e6]
  have key2 : loopC (fun s => FX4_lies_b12 at' s.1 s.2) (lN (mv * 16 ^ 8), (0 : Int32)) = some (lN (enc O mv)) := key
  rw [key2]
  rfl
end P23
