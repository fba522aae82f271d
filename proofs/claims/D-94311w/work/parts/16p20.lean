set_option maxRecDepth 100000
/-! numbers: nI k, one less (nD k), none (nM) -/
def nM : Int32 := -1
def nD (k : Nat) : Int32 := nI k - 1
theorem i_0 : (0 : Int32) = nI 0 := rfl
theorem i_1 : (1 : Int32) = nI 1 := rfl
theorem i_2 : (2 : Int32) = nI 2 := rfl
theorem i_3 : (3 : Int32) = nI 3 := rfl
theorem i_4 : (4 : Int32) = nI 4 := rfl
theorem i_5 : (5 : Int32) = nI 5 := rfl
theorem i_6 : (6 : Int32) = nI 6 := rfl
theorem i_7 : (7 : Int32) = nI 7 := rfl
theorem i_8 : (8 : Int32) = nI 8 := rfl
theorem i_9 : (9 : Int32) = nI 9 := rfl
theorem i_10 : (10 : Int32) = nI 10 := rfl
theorem i_11 : (11 : Int32) = nI 11 := rfl
theorem i_12 : (12 : Int32) = nI 12 := rfl
theorem i_13 : (13 : Int32) = nI 13 := rfl
theorem i_14 : (14 : Int32) = nI 14 := rfl
theorem i_15 : (15 : Int32) = nI 15 := rfl
theorem i_16 : (16 : Int32) = nI 16 := rfl
theorem i_17 : (17 : Int32) = nI 17 := rfl
theorem i_18 : (18 : Int32) = nI 18 := rfl
theorem i_19 : (19 : Int32) = nI 19 := rfl
theorem i_20 : (20 : Int32) = nI 20 := rfl
theorem i_21 : (21 : Int32) = nI 21 := rfl
theorem i_22 : (22 : Int32) = nI 22 := rfl
theorem i_23 : (23 : Int32) = nI 23 := rfl
theorem i_24 : (24 : Int32) = nI 24 := rfl
theorem i_25 : (25 : Int32) = nI 25 := rfl
theorem i_26 : (26 : Int32) = nI 26 := rfl
theorem i_27 : (27 : Int32) = nI 27 := rfl
theorem i_28 : (28 : Int32) = nI 28 := rfl
theorem i_29 : (29 : Int32) = nI 29 := rfl
theorem i_30 : (30 : Int32) = nI 30 := rfl
theorem i_31 : (31 : Int32) = nI 31 := rfl
theorem i_32 : (32 : Int32) = nI 32 := rfl
theorem i_36 : (36 : Int32) = nI 36 := rfl
theorem i_40 : (40 : Int32) = nI 40 := rfl
theorem i_41 : (41 : Int32) = nI 41 := rfl
theorem i_43 : (43 : Int32) = nI 43 := rfl
theorem i_48 : (48 : Int32) = nI 48 := rfl
theorem i_50 : (50 : Int32) = nI 50 := rfl
theorem i_56 : (56 : Int32) = nI 56 := rfl
theorem i_57 : (57 : Int32) = nI 57 := rfl
theorem i_59 : (59 : Int32) = nI 59 := rfl
theorem i_63 : (63 : Int32) = nI 63 := rfl
theorem i_64 : (64 : Int32) = nI 64 := rfl
theorem i_69 : (69 : Int32) = nI 69 := rfl
theorem i_75 : (75 : Int32) = nI 75 := rfl
theorem i_76 : (76 : Int32) = nI 76 := rfl
theorem i_77 : (77 : Int32) = nI 77 := rfl
theorem i_78 : (78 : Int32) = nI 78 := rfl
theorem i_79 : (79 : Int32) = nI 79 := rfl
theorem i_80 : (80 : Int32) = nI 80 := rfl
theorem i_95 : (95 : Int32) = nI 95 := rfl
theorem i_96 : (96 : Int32) = nI 96 := rfl
theorem i_97 : (97 : Int32) = nI 97 := rfl
theorem i_98 : (98 : Int32) = nI 98 := rfl
theorem i_99 : (99 : Int32) = nI 99 := rfl
theorem i_100 : (100 : Int32) = nI 100 := rfl
theorem i_101 : (101 : Int32) = nI 101 := rfl
theorem i_102 : (102 : Int32) = nI 102 := rfl
theorem i_103 : (103 : Int32) = nI 103 := rfl
theorem i_104 : (104 : Int32) = nI 104 := rfl
theorem i_105 : (105 : Int32) = nI 105 := rfl
theorem i_108 : (108 : Int32) = nI 108 := rfl
theorem i_109 : (109 : Int32) = nI 109 := rfl
theorem i_110 : (110 : Int32) = nI 110 := rfl
theorem i_111 : (111 : Int32) = nI 111 := rfl
theorem i_112 : (112 : Int32) = nI 112 := rfl
theorem i_113 : (113 : Int32) = nI 113 := rfl
theorem i_114 : (114 : Int32) = nI 114 := rfl
theorem i_115 : (115 : Int32) = nI 115 := rfl
theorem i_116 : (116 : Int32) = nI 116 := rfl
theorem i_117 : (117 : Int32) = nI 117 := rfl
theorem i_118 : (118 : Int32) = nI 118 := rfl
theorem i_119 : (119 : Int32) = nI 119 := rfl
theorem i_121 : (121 : Int32) = nI 121 := rfl
theorem i_122 : (122 : Int32) = nI 122 := rfl
theorem i_123 : (123 : Int32) = nI 123 := rfl
theorem i_131 : (131 : Int32) = nI 131 := rfl
theorem i_160 : (160 : Int32) = nI 160 := rfl
theorem i_199 : (199 : Int32) = nI 199 := rfl
theorem i_220 : (220 : Int32) = nI 220 := rfl
theorem i_255 : (255 : Int32) = nI 255 := rfl
theorem i_256 : (256 : Int32) = nI 256 := rfl
theorem i_400 : (400 : Int32) = nI 400 := rfl
theorem i_531 : (531 : Int32) = nI 531 := rfl
theorem i_999 : (999 : Int32) = nI 999 := rfl
theorem i_1000 : (1000 : Int32) = nI 1000 := rfl
theorem i_1593 : (1593 : Int32) = nI 1593 := rfl
theorem i_6000 : (6000 : Int32) = nI 6000 := rfl
theorem i_6001 : (6001 : Int32) = nI 6001 := rfl
theorem i_6002 : (6002 : Int32) = nI 6002 := rfl
theorem i_10000 : (10000 : Int32) = nI 10000 := rfl
theorem i_16383 : (16383 : Int32) = nI 16383 := rfl
theorem i_16384 : (16384 : Int32) = nI 16384 := rfl
theorem i_32768 : (32768 : Int32) = nI 32768 := rfl
theorem i_100000 : (100000 : Int32) = nI 100000 := rfl
theorem i_294912 : (294912 : Int32) = nI 294912 := rfl
theorem i_1000000 : (1000000 : Int32) = nI 1000000 := rfl
theorem un0_s {γ : Type} {f : Unit → γ} {x : Unit} : un0 f x = f () := rfl
theorem toN {k : Nat} (h : k < 2147483648) : (nI k).toInt = (k : Int) := nI_toInt h
theorem toM : nM.toInt = -1 := by decide
theorem toD {k : Nat} (h : k < 2147483648) : (nD k).toInt = (k : Int) - 1 := by
  unfold nD
  rw [Int32.toInt_sub, toN h]
  show ((k : Int) - 1).bmod (2 ^ 32) = _
  exact fb_bmod (by omega) (by omega)
theorem e_i {a b : Int32} (h : a.toInt = b.toInt) : a = b := Int32.toInt_inj.mp h
theorem n_add (a b : Nat) : nI a + nI b = nI (a + b) := (Int32.ofNat_add a b).symm
theorem n_mul (a b : Nat) : nI a * nI b = nI (a * b) := (Int32.ofNat_mul a b).symm
theorem n_subD (a : Nat) : nI a - nI 1 = nD a := rfl
theorem n_negM : -nI 1 = nM := rfl
theorem nD_zero : nD 0 = nM := by decide
theorem nD_succ (n : Nat) : nD (n + 1) = nI n := by
  unfold nD
  have h : nI (n + 1) = nI n + 1 := nI_succ n
  rw [h]
  exact Int32.add_sub_cancel _ _
theorem n_addM (a : Nat) : nI a + nM = nD a := by
  unfold nD nM
  rw [Int32.sub_eq_add_neg]
theorem n_addD (a b : Nat) : nI a + nD b = nD (a + b) := by
  unfold nD
  rw [Int32.sub_eq_add_neg, Int32.sub_eq_add_neg, ← Int32.add_assoc, n_add]
theorem n_Dadd (a b : Nat) : nD a + nI b = nD (a + b) := by rw [Int32.add_comm, n_addD, Nat.add_comm]
theorem n_sub {a b : Nat} (h : b ≤ a) (hb : b ≠ 1) : nI a - nI b = nI (a - b) := (Int32.ofNat_sub a b h).symm
theorem n_div {a b : Nat} (ha : a < 2147483648) (hb : b < 2147483648) : nI a / nI b = nI (a / b) := (Int32.ofNat_div ha hb).symm
theorem cl_n {k : Nat} (h : k < 2147483648) : (nI k).toNatClampNeg = k := nI_clamp h
theorem cl_d {k : Nat} (h : k < 2147483648) : (nD k).toNatClampNeg = k - 1 := by
  show (nD k).toInt.toNat = _
  rw [toD h]
  omega
theorem lt_iff (a b : Int32) : (a < b) = (a.toInt < b.toInt) := propext Int32.lt_iff_toInt_lt
theorem le_iff (a b : Int32) : (a ≤ b) = (a.toInt ≤ b.toInt) := propext Int32.le_iff_toInt_le
theorem eq_iff (a b : Int32) : (a = b) = (a.toInt = b.toInt) := propext Int32.toInt_inj.symm
theorem rd_n {α : Type} {n : Nat} {f : Nat → α} {k : Nat} (h : k < n) (h2 : n < 2147483648) : rd n f (nI k) = some (f k) := by
  unfold rd
  rw [cl_n (by omega), if_neg]
  rw [lt_iff, toN (by omega)]
  show ¬ ((k : Int) < 0 ∨ n ≤ k)
  omega
theorem rd_d {α : Type} {n : Nat} {f : Nat → α} {k : Nat} (h0 : 1 ≤ k) (h : k ≤ n) (h2 : n < 2147483647) : rd n f (nD k) = some (f (k - 1)) := by
  obtain ⟨j, rfl⟩ : ∃ j, k = j + 1 := ⟨k - 1, by omega⟩
  rw [nD_succ, rd_n (by omega) (by omega), Nat.add_sub_cancel]
theorem wr_n {n : Nat} {f : Nat → Int32} {k : Nat} {v : Int32} (h : k < n) (h2 : n < 2147483648) : wrI n f (nI k) v = some (upd f k v) := by
  unfold wrI
  rw [cl_n (by omega), if_neg]
  rw [lt_iff, toN (by omega)]
  show ¬ ((k : Int) < 0 ∨ n ≤ k)
  omega
theorem wr_d {n : Nat} {f : Nat → Int32} {k : Nat} {v : Int32} (h0 : 1 ≤ k) (h : k ≤ n) (h2 : n < 2147483647) : wrI n f (nD k) v = some (upd f (k - 1) v) := by
  obtain ⟨j, rfl⟩ : ∃ j, k = j + 1 := ⟨k - 1, by omega⟩
  rw [nD_succ, wr_n (by omega) (by omega), Nat.add_sub_cancel]
theorem wl_n {n : Nat} {f : Nat → Int64} {k : Nat} {v : Int64} (h : k < n) (h2 : n < 2147483648) : wrL n f (nI k) v = some (vp_updL f k v) := by
  unfold wrL
  rw [cl_n (by omega), if_neg]
  rw [lt_iff, toN (by omega)]
  show ¬ ((k : Int) < 0 ∨ n ≤ k)
  omega
theorem al_n {n k : Nat} (h : k < n) (h2 : n < 2147483648) : alg (nI n) (nI k) = some () := by
  unfold alg
  rw [if_neg]
  rw [lt_iff, le_iff, toN (by omega), toN (by omega)]
  show ¬ ((k : Int) < 0 ∨ (n : Int) ≤ k)
  omega
theorem al_d {n k : Nat} (h0 : 1 ≤ k) (h : k ≤ n) (h2 : n < 2147483647) : alg (nI n) (nD k) = some () := by
  obtain ⟨j, rfl⟩ : ∃ j, k = j + 1 := ⟨k - 1, by omega⟩
  rw [nD_succ, al_n (by omega) (by omega)]
theorem b2i_t : b2i true = nI 1 := rfl
theorem b2i_f : b2i false = nI 0 := rfl
theorem lt_t {a b : Nat} (h : a < b) (hb : b < 2147483648) : (nI a < nI b) = True := by rw [lt_iff, toN hb, toN (by omega)]; exact eq_true (by omega)
theorem lt_f {a b : Nat} (h : b ≤ a) (hb : a < 2147483648) : (nI a < nI b) = False := by rw [lt_iff, toN hb, toN (by omega)]; exact eq_false (by omega)
theorem le_t {a b : Nat} (h : a ≤ b) (hb : b < 2147483648) : (nI a ≤ nI b) = True := by rw [le_iff, toN hb, toN (by omega)]; exact eq_true (by omega)
theorem le_f {a b : Nat} (h : b < a) (hb : a < 2147483648) : (nI a ≤ nI b) = False := by rw [le_iff, toN hb, toN (by omega)]; exact eq_false (by omega)
theorem eq_t {a b : Nat} (h : a = b) : (nI a = nI b) = True := by rw [h]; exact eq_self _
theorem eq_f {a b : Nat} (h : a ≠ b) (ha : a < 2147483648) (hb : b < 2147483648) : (nI a = nI b) = False := by rw [eq_iff, toN ha, toN hb]; exact eq_false (by omega)
theorem dlt_t {a b : Nat} (h : a < b + 1) (hb : b < 2147483647) : (nD a < nI b) = True := by rw [lt_iff, toN (by omega), toD (by omega)]; exact eq_true (by omega)
theorem dlt_f {a b : Nat} (h : b + 1 ≤ a) (ha : a < 2147483648) : (nD a < nI b) = False := by rw [lt_iff, toN (by omega), toD ha]; exact eq_false (by omega)
theorem ltd_t {a b : Nat} (h : a + 1 < b) (hb : b < 2147483648) : (nI a < nD b) = True := by rw [lt_iff, toN (by omega), toD hb]; exact eq_true (by omega)
theorem ltd_f {a b : Nat} (h : b ≤ a + 1) (ha : a < 2147483647) : (nI a < nD b) = False := by rw [lt_iff, toN (by omega), toD (by omega)]; exact eq_false (by omega)
theorem ddl_t {a b : Nat} (h : a < b) (hb : b < 2147483648) : (nD a < nD b) = True := by rw [lt_iff, toD (by omega), toD hb]; exact eq_true (by omega)
theorem ddl_f {a b : Nat} (h : b ≤ a) (ha : a < 2147483648) : (nD a < nD b) = False := by rw [lt_iff, toD ha, toD (by omega)]; exact eq_false (by omega)
theorem dle_t {a b : Nat} (h : a ≤ b + 1) (hb : b < 2147483647) : (nD a ≤ nI b) = True := by rw [le_iff, toN (by omega), toD (by omega)]; exact eq_true (by omega)
theorem dle_f {a b : Nat} (h : b + 1 < a) (ha : a < 2147483648) : (nD a ≤ nI b) = False := by rw [le_iff, toN (by omega), toD ha]; exact eq_false (by omega)
theorem led_t {a b : Nat} (h : a + 1 ≤ b) (hb : b < 2147483648) : (nI a ≤ nD b) = True := by rw [le_iff, toN (by omega), toD hb]; exact eq_true (by omega)
theorem led_f {a b : Nat} (h : b < a + 1) (ha : a < 2147483648) : (nI a ≤ nD b) = False := by rw [le_iff, toN (by omega), toD (by omega)]; exact eq_false (by omega)
theorem ddle_t {a b : Nat} (h : a ≤ b) (hb : b < 2147483648) : (nD a ≤ nD b) = True := by rw [le_iff, toD (by omega), toD hb]; exact eq_true (by omega)
theorem ddle_f {a b : Nat} (h : b < a) (ha : a < 2147483648) : (nD a ≤ nD b) = False := by rw [le_iff, toD ha, toD (by omega)]; exact eq_false (by omega)
theorem deq_t {a b : Nat} (h : a = b + 1) : (nD a = nI b) = True := by rw [h, nD_succ]; exact eq_self _
theorem deq_f {a b : Nat} (h : a ≠ b + 1) (ha : a < 2147483648) (hb : b < 2147483648) : (nD a = nI b) = False := by rw [eq_iff, toD ha, toN hb]; exact eq_false (by omega)
theorem eqd_t {a b : Nat} (h : b = a + 1) : (nI a = nD b) = True := by rw [h, nD_succ]; exact eq_self _
theorem eqd_f {a b : Nat} (h : b ≠ a + 1) (ha : a < 2147483648) (hb : b < 2147483648) : (nI a = nD b) = False := by rw [eq_iff, toN ha, toD hb]; exact eq_false (by omega)
theorem dde_t {a b : Nat} (h : a = b) : (nD a = nD b) = True := by rw [h]; exact eq_self _
theorem dde_f {a b : Nat} (h : a ≠ b) (ha : a < 2147483648) (hb : b < 2147483648) : (nD a = nD b) = False := by rw [eq_iff, toD ha, toD hb]; exact eq_false (by omega)
theorem m_ne {a : Nat} (h : a < 2147483648) : (nM = nI a) = False := by rw [eq_iff, toN h, toM]; exact eq_false (by omega)
theorem n_neM {a : Nat} (h : a < 2147483648) : (nI a = nM) = False := by rw [eq_iff, toN h, toM]; exact eq_false (by omega)
theorem m_lt {a : Nat} (h : a < 2147483648) : (nM < nI a) = True := by rw [lt_iff, toN h, toM]; exact eq_true (by omega)
theorem n_ltM {a : Nat} (h : a < 2147483648) : (nI a < nM) = False := by rw [lt_iff, toN h, toM]; exact eq_false (by omega)
theorem m_le {a : Nat} (h : a < 2147483648) : (nM ≤ nI a) = True := by rw [le_iff, toN h, toM]; exact eq_true (by omega)
theorem n_leM {a : Nat} (h : a < 2147483648) : (nI a ≤ nM) = False := by rw [le_iff, toN h, toM]; exact eq_false (by omega)
theorem m_eqD {a : Nat} (h : a = 0) : (nM = nD a) = True := by rw [h, nD_zero]; exact eq_self _
theorem m_neD {a : Nat} (h : a ≠ 0) (ha : a < 2147483648) : (nM = nD a) = False := by rw [eq_iff, toD ha, toM]; exact eq_false (by omega)
theorem d_eqM {a : Nat} (h : a = 0) : (nD a = nM) = True := by rw [h, nD_zero]; exact eq_self _
theorem d_neM {a : Nat} (h : a ≠ 0) (ha : a < 2147483648) : (nD a = nM) = False := by rw [eq_iff, toD ha, toM]; exact eq_false (by omega)
theorem up_t {f : Nat → Int32} {k j : Nat} {v : Int32} (h : j = k) : upd f k v j = v := if_pos h
theorem up_f {f : Nat → Int32} {k j : Nat} {v : Int32} (h : j ≠ k) : upd f k v j = f j := if_neg h
theorem asb1 {a b : Nat} (h : 1 ≤ b) : a + b - 1 = a + (b - 1) := by omega
def up {α : Type} (f : Nat → α) (k : Nat) (v : α) : Nat → α := fun j => if j = k then v else f j
theorem upn_t {α : Type} {f : Nat → α} {k j : Nat} {v : α} (h : j = k) : up f k v j = v := if_pos h
theorem upn_f {α : Type} {f : Nat → α} {k j : Nat} {v : α} (h : j ≠ k) : up f k v j = f j := if_neg h
theorem s31 : nI 31 = (31 : Int32) := rfl
theorem shr_n {m i : Nat} (hi : i < 32) (hm : m < 2147483648) : nI m >>> (nI i &&& nI 31) = nI (m / 2 ^ i) := by
  apply e_i
  have hd : m / 2 ^ i < 2147483648 := Nat.lt_of_le_of_lt (Nat.div_le_self _ _) hm
  rw [toN hd, s31]
  show (BitVec.sshiftRight (nI m).toBitVec ((nI i &&& 31).toBitVec.smod 32).toNat).toInt = _
  rw [s_l i hi, BitVec.toInt_sshiftRight, Int.shiftRight_eq_div_pow]
  show (nI m).toInt / _ = _
  rw [toN hm]
  rfl
theorem and1_n {m : Nat} : nI m &&& nI 1 = nI (m % 2) := by
  have h := fa_mask m 1
  exact h
theorem bit_n {m i : Nat} (hi : i < 32) (hm : m < 2147483648) : (nI m >>> (nI i &&& nI 31)) &&& nI 1 = nI (m / 2 ^ i % 2) := by rw [shr_n hi hm, and1_n]
theorem bit_d {m i : Nat} (h0 : 1 ≤ i) (hi : i ≤ 32) (hm : m < 2147483648) : (nI m >>> (nD i &&& nI 31)) &&& nI 1 = nI (m / 2 ^ (i - 1) % 2) := by
  obtain ⟨j, rfl⟩ : ∃ j, i = j + 1 := ⟨i - 1, by omega⟩
  rw [nD_succ, bit_n (by omega) hm, Nat.add_sub_cancel]
theorem sh1_n {i : Nat} (hi : i < 32) : nI 1 <<< (nI i &&& nI 31) = nI (2 ^ i) := by
  have : ∀ i, i < 32 → nI 1 <<< (nI i &&& nI 31) = nI (2 ^ i) := by decide +kernel
  exact this i hi
theorem sh1_d {i : Nat} (h0 : 1 ≤ i) (hi : i ≤ 32) : nI 1 <<< (nD i &&& nI 31) = nI (2 ^ (i - 1)) := by
  obtain ⟨j, rfl⟩ : ∃ j, i = j + 1 := ⟨i - 1, by omega⟩
  rw [nD_succ, sh1_n (by omega), Nat.add_sub_cancel]
theorem or_n (a b : Nat) : nI a ||| nI b = nI (a ||| b) := fa_or a b
/-! within bounds -/
theorem wi_eq (p q r : Int64) : FX8_within p q r = some (decide (q.toInt ≤ p.toInt ∧ p.toInt ≤ r.toInt)) := by
  have h1 : (lg_cmp p q < 0) ↔ (p.toInt < q.toInt) := by
    rw [← Int32.not_le, lg_cmp_ge, Int64.le_iff_toInt_le]; omega
  have h2 : (0 < lg_cmp p r) ↔ (r.toInt < p.toInt) := by
    rw [← Int32.not_le, lg_cmp_le, Int64.le_iff_toInt_le]; omega
  unfold FX8_within
  by_cases c1 : p.toInt < q.toInt
  · rw [if_pos (h1.mpr c1), decide_eq_false (by omega)]
  · by_cases c2 : r.toInt < p.toInt
    · rw [if_neg (fun h => c1 (h1.mp h)), if_pos (h2.mpr c2), decide_eq_false (by omega)]
    · rw [if_neg (fun h => c1 (h1.mp h)), if_neg (fun h => c2 (h2.mp h)), decide_eq_true (by omega)]
theorem in_eq (p q r : Int64) : FX0_in p q r = some (decide (q.toInt ≤ p.toInt ∧ p.toInt ≤ r.toInt)) := wi_eq p q r
theorem w64 (x : Int32) : x.toInt64.toInt = x.toInt := Int32.toInt_toInt64 x
/-- within of a number and literal bounds -/
theorem wiL {p : Int32} {q r : Int64} {a b : Int} (hq : q.toInt = a) (hr : r.toInt = b) : FX8_within p.toInt64 q r = some (decide (a ≤ p.toInt ∧ p.toInt ≤ b)) := by rw [wi_eq, hq, hr, w64]
theorem inL {p : Int32} {q r : Int64} {a b : Int} (hq : q.toInt = a) (hr : r.toInt = b) : FX0_in p.toInt64 q r = some (decide (a ≤ p.toInt ∧ p.toInt ≤ b)) := by rw [in_eq, hq, hr, w64]
theorem rng (p : Int32) {n : Nat} (hn : n < 2147483648) : (∃ k, k < n ∧ p = nI k) ∨ ¬ (0 ≤ p.toInt ∧ p.toInt ≤ (n : Int) - 1) := by
  by_cases h : 0 ≤ p.toInt ∧ p.toInt ≤ (n : Int) - 1
  · refine Or.inl ⟨p.toInt.toNat, by omega, e_i ?_⟩
    rw [toN (by omega)]
    omega
  · exact Or.inr h
/-- of rows and stones: 0 to n less one, or not -/
theorem wiD {p : Int32} {n : Nat} (hn : n < 2147483648) : FX8_within p.toInt64 0 (nD n).toInt64 = some (decide (0 ≤ p.toInt ∧ p.toInt ≤ (n : Int) - 1)) := wiL (by decide) (by rw [w64, toD hn])
theorem inD {p : Int32} {n : Nat} (hn : n < 2147483648) : FX0_in p.toInt64 0 (nD n).toInt64 = some (decide (0 ≤ p.toInt ∧ p.toInt ≤ (n : Int) - 1)) := inL (by decide) (by rw [w64, toD hn])
theorem dT {k n : Nat} (h : k < n) (hn : n < 2147483648) : decide (0 ≤ (nI k).toInt ∧ (nI k).toInt ≤ (n : Int) - 1) = true := by rw [toN (by omega)]; exact decide_eq_true (by omega)
/-! loops that count -/
theorem up_rule {τ ρ α : Type} {B : τ → Option (τ ⊕ ρ)} (mk : Nat → α → τ) (I : Nat → α → Prop) (P : ρ → Prop) (n : Nat)
    (step : ∀ k a, k < n → I k a → (∃ a', B (mk k a) = some (.inl (mk (k + 1) a')) ∧ I (k + 1) a') ∨ ∃ r, B (mk k a) = some (.inr r) ∧ P r)
    (last : ∀ a, I n a → ∃ r, B (mk n a) = some (.inr r) ∧ P r) : ∀ k a, k ≤ n → I k a → ∃ r, loopC B (mk k a) = some r ∧ P r := by
  have key : ∀ d k a, k + d = n → I k a → ∃ r, loopC B (mk k a) = some r ∧ P r := by
    intro d
    induction d with
    | zero =>
      intro k a hk hI
      obtain rfl : k = n := by omega
      obtain ⟨r, h1, h2⟩ := last a hI
      exact ⟨r, loopC_inr h1, h2⟩
    | succ d ih =>
      intro k a hk hI
      rcases step k a (by omega) hI with ⟨a', h1, h2⟩ | ⟨r, h1, h2⟩
      · rw [loopC_inl h1]
        exact ih (k + 1) a' (by omega) h2
      · exact ⟨r, loopC_inr h1, h2⟩
  exact fun k a hk hI => key (n - k) k a (by omega) hI
theorem dn_rule {τ ρ α : Type} {B : τ → Option (τ ⊕ ρ)} (mk : Nat → α → τ) (I : Nat → α → Prop) (P : ρ → Prop)
    (step : ∀ k a, I (k + 1) a → (∃ a', B (mk (k + 1) a) = some (.inl (mk k a')) ∧ I k a') ∨ ∃ r, B (mk (k + 1) a) = some (.inr r) ∧ P r)
    (last : ∀ a, I 0 a → ∃ r, B (mk 0 a) = some (.inr r) ∧ P r) : ∀ k a, I k a → ∃ r, loopC B (mk k a) = some r ∧ P r := by
  intro k
  induction k with
  | zero =>
    intro a hI
    obtain ⟨r, h1, h2⟩ := last a hI
    exact ⟨r, loopC_inr h1, h2⟩
  | succ k ih =>
    intro a hI
    rcases step k a hI with ⟨a', h1, h2⟩ | ⟨r, h1, h2⟩
    · rw [loopC_inl h1]
      exact ih a' h2
    · exact ⟨r, loopC_inr h1, h2⟩
/-- a loop that counts up without a way out; its values by an equation -/
theorem up_eq {τ ρ α : Type} {B : τ → Option (τ ⊕ ρ)} (mk : Nat → α → τ) (f : Nat → α) (n : Nat) {r : ρ}
    (step : ∀ k, k < n → B (mk k (f k)) = some (.inl (mk (k + 1) (f (k + 1))))) (last : B (mk n (f n)) = some (.inr r)) : ∀ k, k ≤ n → loopC B (mk k (f k)) = some r := by
  intro k hk
  obtain ⟨r', h1, h2⟩ := up_rule mk (fun k a => a = f k) (fun x => x = r) n (fun k a hk h => Or.inl ⟨f (k + 1), by rw [h]; exact step k hk, rfl⟩) (fun a h => ⟨r, by rw [h]; exact last, rfl⟩) k (f k) hk rfl
  rw [h1, h2]
/-! the numbers of a town: rp is how the model holds them -/
def rp (T : Nat → Nat) (k : Nat) : Int32 := if (31 ≤ k ∧ k < 56) ∨ (104 ≤ k ∧ k < 112) then nD (T k) else nI (T k)
theorem rp_n {T : Nat → Nat} {k : Nat} (h : ¬ ((31 ≤ k ∧ k < 56) ∨ (104 ≤ k ∧ k < 112))) : rp T k = nI (T k) := if_neg h
theorem rp_d {T : Nat → Nat} {k : Nat} (h : (31 ≤ k ∧ k < 56) ∨ (104 ≤ k ∧ k < 112)) : rp T k = nD (T k) := if_pos h
def WT (T : Nat → Nat) : Prop :=
  (T 0 ≤ 5 ∧ T 6 ≤ 8 ∧ T 56 ≤ 6 ∧ 1 ≤ T 75 ∧ T 75 ≤ 4 ∧ 1 ≤ T 76 ∧ T 76 ≤ 8 ∧ T 77 ≤ 1 ∧ T 78 ≤ 1 ∧ T 79 ≤ 400) ∧
  (∀ r, r < 5 → T (1 + r) ≤ 3 ∧ (r < T 0 ↔ 1 ≤ T (1 + r)) ∧ T (31 + r) ≤ T (1 + r) + 1 ∧ (T 0 ≤ r → T (31 + r) = 0) ∧ T (36 + r) ≤ 2) ∧
  (∀ i, i < 8 → T (7 + i) ≤ 7 ∧ T (15 + i) ≤ 9 ∧ T (23 + i) ≤ 99) ∧
  (∀ r l, r < 5 → l < 3 → T (41 + (3 * r + l)) ≤ 8 ∧ (0 < T (41 + (3 * r + l)) ↔ l + 1 < T (31 + r))) ∧
  (∀ m, m < T 56 → T (57 + m) ≤ 1 ∧ T (63 + m) < T 0 ∧ T (69 + m) ≤ 3)
/-- what lies where: O of a place, a stone and one; M of a row, how many -/
def WO (T O M : Nat → Nat) : Prop :=
  (∀ p, p < 15 → O p ≤ T 6) ∧ (∀ r l, r < 5 → l < 3 → (0 < O (3 * r + l) ↔ l < M r)) ∧ (∀ r, r < 5 → M r ≤ T (1 + r)) ∧ (∀ p q, p < 15 → q < 15 → O p = O q → 0 < O p → p = q)
def AllAt (all : Nat → Int32) (T : Nat → Nat) : Prop := ∀ k, k < 531 → all k = rp T k
def TwAt (t : Nat → Int32) (T : Nat → Nat) : Prop := ∀ k, k < 80 → t k = rp T k
def OnAt (on many : Nat → Int32) (O M : Nat → Nat) : Prop := (∀ p, p < 15 → on p = nI (O p)) ∧ ∀ r, r < 5 → many r = nI (M r)
def AtAt (a many : Nat → Int32) (O M : Nat → Nat) : Prop := (∀ p, p < 15 → a p = nD (O p)) ∧ ∀ r, r < 5 → many r = nI (M r)
theorem kpI_n {t : Nat → Int32} {T : Nat → Nat} (ht : TwAt t T) {k x : Nat} (hk : k < 6) (hx : x < 100) (h1 : T (57 + k) < 100) (h2 : T (69 + k) < 100) : kpI t k (nI x) = if T (57 + k) = 0 then decide (T (69 + k) ≤ x) else decide (x ≤ T (69 + k)) := by
  unfold kpI
  rw [ht _ (by omega), ht _ (by omega), rp_n (by omega), rp_n (by omega)]
  by_cases h : T (57 + k) = 0
  · rw [if_pos (by rw [h]; rfl), if_pos h]
    by_cases h3 : T (69 + k) ≤ x
    · rw [decide_eq_true h3, decide_eq_true (by rw [le_t h3 (by omega)]; trivial)]
    · rw [decide_eq_false h3, decide_eq_false (by rw [le_f (by omega) (by omega)]; exact id)]
  · rw [if_neg (by rw [show (0 : Int32) = nI 0 from rfl, eq_f h (by omega) (by omega)]; exact id), if_neg h]
    by_cases h3 : x ≤ T (69 + k)
    · rw [decide_eq_true h3, decide_eq_true (by rw [le_t h3 (by omega)]; trivial)]
    · rw [decide_eq_false h3, decide_eq_false (by rw [le_f (by omega) (by omega)]; exact id)]
/-! a value that is had, step by step -/
def Rs {α : Type} (F : Option α) (P : α → Prop) : Prop := ∃ z, F = some z ∧ P z
theorem Rs.ret {α : Type} {z : α} {P : α → Prop} (h : P z) : Rs (some z) P := ⟨z, rfl, h⟩
theorem Rs.t {α : Type} {c : Prop} [Decidable c] {A B : Option α} {P : α → Prop} (h : c) (h2 : Rs A P) : Rs (if c then A else B) P := by rw [if_pos h]; exact h2
theorem Rs.f {α : Type} {c : Prop} [Decidable c] {A B : Option α} {P : α → Prop} (h : ¬ c) (h2 : Rs B P) : Rs (if c then A else B) P := by rw [if_neg h]; exact h2
theorem Rs.eq {α : Type} {F : Option α} {v : α} (h : Rs F (fun z => z = v)) : F = some v := by
  obtain ⟨z, h1, h2⟩ := h
  rw [h1, h2]
theorem Rs.b0 {γ : Type} {o : Option Unit} {k : Option γ} {P : γ → Prop} (h : o = some ()) (h2 : Rs k P) : Rs (bd0 o k) P := by rw [h]; exact h2
theorem Rs.b1 {a1 γ : Type} {o : Option a1} {k : a1 → Option γ} {P : γ → Prop} {x1 : a1} (h : o = some x1) (h2 : Rs (k x1) P) : Rs (bd1 o k) P := by rw [h]; exact h2
theorem Rs.b2 {a1 a2 γ : Type} {o : Option (a1 × a2)} {k : a1 → a2 → Option γ} {P : γ → Prop} {x1 : a1} {x2 : a2} (h : o = some (x1, x2)) (h2 : Rs (k x1 x2) P) : Rs (bd2 o k) P := by rw [h]; exact h2
theorem Rs.b3 {a1 a2 a3 γ : Type} {o : Option (a1 × a2 × a3)} {k : a1 → a2 → a3 → Option γ} {P : γ → Prop} {x1 : a1} {x2 : a2} {x3 : a3} (h : o = some (x1, x2, x3)) (h2 : Rs (k x1 x2 x3) P) : Rs (bd3 o k) P := by rw [h]; exact h2
theorem Rs.b4 {a1 a2 a3 a4 γ : Type} {o : Option (a1 × a2 × a3 × a4)} {k : a1 → a2 → a3 → a4 → Option γ} {P : γ → Prop} {x1 : a1} {x2 : a2} {x3 : a3} {x4 : a4} (h : o = some (x1, x2, x3, x4)) (h2 : Rs (k x1 x2 x3 x4) P) : Rs (bd4 o k) P := by rw [h]; exact h2
theorem Rs.b5 {a1 a2 a3 a4 a5 γ : Type} {o : Option (a1 × a2 × a3 × a4 × a5)} {k : a1 → a2 → a3 → a4 → a5 → Option γ} {P : γ → Prop} {x1 : a1} {x2 : a2} {x3 : a3} {x4 : a4} {x5 : a5} (h : o = some (x1, x2, x3, x4, x5)) (h2 : Rs (k x1 x2 x3 x4 x5) P) : Rs (bd5 o k) P := by rw [h]; exact h2
theorem Rs.b6 {a1 a2 a3 a4 a5 a6 γ : Type} {o : Option (a1 × a2 × a3 × a4 × a5 × a6)} {k : a1 → a2 → a3 → a4 → a5 → a6 → Option γ} {P : γ → Prop} {x1 : a1} {x2 : a2} {x3 : a3} {x4 : a4} {x5 : a5} {x6 : a6} (h : o = some (x1, x2, x3, x4, x5, x6)) (h2 : Rs (k x1 x2 x3 x4 x5 x6) P) : Rs (bd6 o k) P := by rw [h]; exact h2
theorem Rs.b7 {a1 a2 a3 a4 a5 a6 a7 γ : Type} {o : Option (a1 × a2 × a3 × a4 × a5 × a6 × a7)} {k : a1 → a2 → a3 → a4 → a5 → a6 → a7 → Option γ} {P : γ → Prop} {x1 : a1} {x2 : a2} {x3 : a3} {x4 : a4} {x5 : a5} {x6 : a6} {x7 : a7} (h : o = some (x1, x2, x3, x4, x5, x6, x7)) (h2 : Rs (k x1 x2 x3 x4 x5 x6 x7) P) : Rs (bd7 o k) P := by rw [h]; exact h2
theorem Rs.b8 {a1 a2 a3 a4 a5 a6 a7 a8 γ : Type} {o : Option (a1 × a2 × a3 × a4 × a5 × a6 × a7 × a8)} {k : a1 → a2 → a3 → a4 → a5 → a6 → a7 → a8 → Option γ} {P : γ → Prop} {x1 : a1} {x2 : a2} {x3 : a3} {x4 : a4} {x5 : a5} {x6 : a6} {x7 : a7} {x8 : a8} (h : o = some (x1, x2, x3, x4, x5, x6, x7, x8)) (h2 : Rs (k x1 x2 x3 x4 x5 x6 x7 x8) P) : Rs (bd8 o k) P := by rw [h]; exact h2
theorem Rs.b9 {a1 a2 a3 a4 a5 a6 a7 a8 a9 γ : Type} {o : Option (a1 × a2 × a3 × a4 × a5 × a6 × a7 × a8 × a9)} {k : a1 → a2 → a3 → a4 → a5 → a6 → a7 → a8 → a9 → Option γ} {P : γ → Prop} {x1 : a1} {x2 : a2} {x3 : a3} {x4 : a4} {x5 : a5} {x6 : a6} {x7 : a7} {x8 : a8} {x9 : a9} (h : o = some (x1, x2, x3, x4, x5, x6, x7, x8, x9)) (h2 : Rs (k x1 x2 x3 x4 x5 x6 x7 x8 x9) P) : Rs (bd9 o k) P := by rw [h]; exact h2
theorem Rs.b10 {a1 a2 a3 a4 a5 a6 a7 a8 a9 a10 γ : Type} {o : Option (a1 × a2 × a3 × a4 × a5 × a6 × a7 × a8 × a9 × a10)} {k : a1 → a2 → a3 → a4 → a5 → a6 → a7 → a8 → a9 → a10 → Option γ} {P : γ → Prop} {x1 : a1} {x2 : a2} {x3 : a3} {x4 : a4} {x5 : a5} {x6 : a6} {x7 : a7} {x8 : a8} {x9 : a9} {x10 : a10} (h : o = some (x1, x2, x3, x4, x5, x6, x7, x8, x9, x10)) (h2 : Rs (k x1 x2 x3 x4 x5 x6 x7 x8 x9 x10) P) : Rs (bd10 o k) P := by rw [h]; exact h2
theorem Rs.b11 {a1 a2 a3 a4 a5 a6 a7 a8 a9 a10 a11 γ : Type} {o : Option (a1 × a2 × a3 × a4 × a5 × a6 × a7 × a8 × a9 × a10 × a11)} {k : a1 → a2 → a3 → a4 → a5 → a6 → a7 → a8 → a9 → a10 → a11 → Option γ} {P : γ → Prop} {x1 : a1} {x2 : a2} {x3 : a3} {x4 : a4} {x5 : a5} {x6 : a6} {x7 : a7} {x8 : a8} {x9 : a9} {x10 : a10} {x11 : a11} (h : o = some (x1, x2, x3, x4, x5, x6, x7, x8, x9, x10, x11)) (h2 : Rs (k x1 x2 x3 x4 x5 x6 x7 x8 x9 x10 x11) P) : Rs (bd11 o k) P := by rw [h]; exact h2
theorem Rs.b12 {a1 a2 a3 a4 a5 a6 a7 a8 a9 a10 a11 a12 γ : Type} {o : Option (a1 × a2 × a3 × a4 × a5 × a6 × a7 × a8 × a9 × a10 × a11 × a12)} {k : a1 → a2 → a3 → a4 → a5 → a6 → a7 → a8 → a9 → a10 → a11 → a12 → Option γ} {P : γ → Prop} {x1 : a1} {x2 : a2} {x3 : a3} {x4 : a4} {x5 : a5} {x6 : a6} {x7 : a7} {x8 : a8} {x9 : a9} {x10 : a10} {x11 : a11} {x12 : a12} (h : o = some (x1, x2, x3, x4, x5, x6, x7, x8, x9, x10, x11, x12)) (h2 : Rs (k x1 x2 x3 x4 x5 x6 x7 x8 x9 x10 x11 x12) P) : Rs (bd12 o k) P := by rw [h]; exact h2
theorem Rs.b13 {a1 a2 a3 a4 a5 a6 a7 a8 a9 a10 a11 a12 a13 γ : Type} {o : Option (a1 × a2 × a3 × a4 × a5 × a6 × a7 × a8 × a9 × a10 × a11 × a12 × a13)} {k : a1 → a2 → a3 → a4 → a5 → a6 → a7 → a8 → a9 → a10 → a11 → a12 → a13 → Option γ} {P : γ → Prop} {x1 : a1} {x2 : a2} {x3 : a3} {x4 : a4} {x5 : a5} {x6 : a6} {x7 : a7} {x8 : a8} {x9 : a9} {x10 : a10} {x11 : a11} {x12 : a12} {x13 : a13} (h : o = some (x1, x2, x3, x4, x5, x6, x7, x8, x9, x10, x11, x12, x13)) (h2 : Rs (k x1 x2 x3 x4 x5 x6 x7 x8 x9 x10 x11 x12 x13) P) : Rs (bd13 o k) P := by rw [h]; exact h2
theorem Rs.b14 {a1 a2 a3 a4 a5 a6 a7 a8 a9 a10 a11 a12 a13 a14 γ : Type} {o : Option (a1 × a2 × a3 × a4 × a5 × a6 × a7 × a8 × a9 × a10 × a11 × a12 × a13 × a14)} {k : a1 → a2 → a3 → a4 → a5 → a6 → a7 → a8 → a9 → a10 → a11 → a12 → a13 → a14 → Option γ} {P : γ → Prop} {x1 : a1} {x2 : a2} {x3 : a3} {x4 : a4} {x5 : a5} {x6 : a6} {x7 : a7} {x8 : a8} {x9 : a9} {x10 : a10} {x11 : a11} {x12 : a12} {x13 : a13} {x14 : a14} (h : o = some (x1, x2, x3, x4, x5, x6, x7, x8, x9, x10, x11, x12, x13, x14)) (h2 : Rs (k x1 x2 x3 x4 x5 x6 x7 x8 x9 x10 x11 x12 x13 x14) P) : Rs (bd14 o k) P := by rw [h]; exact h2
theorem Rs.b15 {a1 a2 a3 a4 a5 a6 a7 a8 a9 a10 a11 a12 a13 a14 a15 γ : Type} {o : Option (a1 × a2 × a3 × a4 × a5 × a6 × a7 × a8 × a9 × a10 × a11 × a12 × a13 × a14 × a15)} {k : a1 → a2 → a3 → a4 → a5 → a6 → a7 → a8 → a9 → a10 → a11 → a12 → a13 → a14 → a15 → Option γ} {P : γ → Prop} {x1 : a1} {x2 : a2} {x3 : a3} {x4 : a4} {x5 : a5} {x6 : a6} {x7 : a7} {x8 : a8} {x9 : a9} {x10 : a10} {x11 : a11} {x12 : a12} {x13 : a13} {x14 : a14} {x15 : a15} (h : o = some (x1, x2, x3, x4, x5, x6, x7, x8, x9, x10, x11, x12, x13, x14, x15)) (h2 : Rs (k x1 x2 x3 x4 x5 x6 x7 x8 x9 x10 x11 x12 x13 x14 x15) P) : Rs (bd15 o k) P := by rw [h]; exact h2
theorem Rs.b16 {a1 a2 a3 a4 a5 a6 a7 a8 a9 a10 a11 a12 a13 a14 a15 a16 γ : Type} {o : Option (a1 × a2 × a3 × a4 × a5 × a6 × a7 × a8 × a9 × a10 × a11 × a12 × a13 × a14 × a15 × a16)} {k : a1 → a2 → a3 → a4 → a5 → a6 → a7 → a8 → a9 → a10 → a11 → a12 → a13 → a14 → a15 → a16 → Option γ} {P : γ → Prop} {x1 : a1} {x2 : a2} {x3 : a3} {x4 : a4} {x5 : a5} {x6 : a6} {x7 : a7} {x8 : a8} {x9 : a9} {x10 : a10} {x11 : a11} {x12 : a12} {x13 : a13} {x14 : a14} {x15 : a15} {x16 : a16} (h : o = some (x1, x2, x3, x4, x5, x6, x7, x8, x9, x10, x11, x12, x13, x14, x15, x16)) (h2 : Rs (k x1 x2 x3 x4 x5 x6 x7 x8 x9 x10 x11 x12 x13 x14 x15 x16) P) : Rs (bd16 o k) P := by rw [h]; exact h2
theorem rdn {α : Type} {n : Nat} {f : Nat → α} {k : Nat} {v : α} (h : k < n) (h2 : n < 2147483648) (e : f k = v) : rd n f (nI k) = some v := by rw [rd_n h h2, e]
theorem nD_pos {k : Nat} (h : 1 ≤ k) : nD k = nI (k - 1) := by
  obtain ⟨j, hj⟩ : ∃ j, k = j + 1 := ⟨k - 1, by omega⟩
  rw [hj, nD_succ, Nat.add_sub_cancel]
