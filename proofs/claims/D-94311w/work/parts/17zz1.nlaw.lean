set_option maxRecDepth 100000
/-! rows of numbers: both sides -/
section NLAW
variable {rsort rmany rowSort rowMany : Nat → Int32} {nums : Nat → Nat → Int64} {numbers : Nat → Int64}
theorem wrLn {n : Nat} {f : Nat → Int64} {k : Nat} {v : Int64} (h : k < n) (h2 : n < 2147483648) : wrL n f (nI k) v = some (vp_updL f k v) := by
  unfold wrL
  rw [cl_n (by omega), if_neg]
  rw [lt_iff, toN (by omega)]
  show ¬ ((k : Int) < 0 ∨ n ≤ k)
  omega
theorem upL_t {f : Nat → Int64} {k j : Nat} {v : Int64} (h : j = k) : vp_updL f k v j = v := if_pos h
theorem upL_f {f : Nat → Int64} {k j : Nat} {v : Int64} (h : j ≠ k) : vp_updL f k v j = f j := if_neg h
theorem nlt_f {k : Nat} (h : k < 2147483648) : (nI k < 0) = False := by rw [i_0, lt_f (by omega) h]
theorem s4 {s : Nat} (h : s < 4) : s = 0 ∨ s = 1 ∨ s = 2 ∨ s = 3 := by omega
theorem wid_cut {s : Nat} (h : s < 4) (v : Int64) : FX8_cut v (nI s) = some (numWid (nI s) (cutN (nI s) v)) := by
  rcases s4 h with rfl | rfl | rfl | rfl
  · show some (Int32.toInt64 (cvB v.toInt32)) = some ((Int32.toInt64 (cvB v.toInt32)).toInt32.toInt64)
    rw [cut_i]
  · show some (Int32.toInt64 (cvS v.toInt32)) = some ((Int32.toInt64 (cvS v.toInt32)).toInt32.toInt64)
    rw [cut_i]
  · show some (Int32.toInt64 v.toInt32) = some ((Int32.toInt64 v.toInt32).toInt32.toInt64)
    rw [cut_i]
  · rfl
theorem zeros8 {k n : Nat} (hk : k < 4) (hn : n ≤ 40) (nb : Nat → Int64) : ∃ nb', loopC (fun s => FX8_numbers_b64 (nI k) (nI n) s.1 s.2) (0, nb) = some nb' ∧ (∀ j, j < n → nb' (40 * k + j) = 0) ∧ ∀ i, ¬ (40 * k ≤ i ∧ i < 40 * k + n) → nb' i = nb i := by
  obtain ⟨r, h1, h2⟩ := up_rule (B := fun (s : Int32 × (Nat → Int64)) => FX8_numbers_b64 (nI k) (nI n) s.1 s.2) (fun j (x : Nat → Int64) => (nI j, x)) (fun j x => (∀ i, i < j → x (40 * k + i) = 0) ∧ ∀ i, ¬ (40 * k ≤ i ∧ i < 40 * k + j) → x i = nb i) (fun x => (∀ j, j < n → x (40 * k + j) = 0) ∧ ∀ i, ¬ (40 * k ≤ i ∧ i < 40 * k + n) → x i = nb i) n (by
    rintro j x hj ⟨g1, g2⟩
    refine Or.inl ⟨vp_updL x (40 * k + j) 0, ?_, fun i hi => ?_, fun i hi => ?_⟩
    · show FX8_numbers_b64 (nI k) (nI n) (nI j) x = _
      unfold FX8_numbers_b64
      rw [if_neg (by rw [le_f (by omega) (by omega)]; exact id), i_40, n_mul, n_add, wrLn (by omega) (by omega), bd1_s, show nI j + 1 = nI (j + 1) from n_add j 1]
    · by_cases e : 40 * k + i = 40 * k + j
      · exact upL_t e
      · rw [upL_f e]; exact g1 i (by omega)
    · rw [upL_f (by omega)]; exact g2 i (by omega)) (by
    rintro x h
    refine ⟨x, ?_, h⟩
    show FX8_numbers_b64 (nI k) (nI n) (nI n) x = _
    unfold FX8_numbers_b64
    rw [if_pos (by rw [le_t (by omega) (by omega)]; trivial)]) 0 nb (by omega) ⟨fun i hi => absurd hi (Nat.not_lt_zero i), fun i _ => rfl⟩
  exact ⟨r, h1, h2⟩
theorem numbers_law (hN : NumC rsort rmany nums rowSort rowMany numbers) (p q r : Int32) : ∃ ans rs' rm' nu' rS' rM' nb', FX0_numbers rsort rmany nums p q r = some (ans, rs', rm', nu') ∧ FX8_numbers rowSort rowMany numbers p q r = some (ans, rS', rM', nb') ∧ NumC rs' rm' nu' rS' rM' nb' := by
  have e2 : ∀ p : Int32, FX8_within p.toInt64 0 3 = some (decide (0 ≤ p.toInt ∧ p.toInt ≤ 3)) := fun p => wiL (by decide) (by decide)
  have e40 : ∀ p : Int32, FX8_within p.toInt64 0 40 = some (decide (0 ≤ p.toInt ∧ p.toInt ≤ 40)) := fun p => wiL (by decide) (by decide)
  have e3 : ∀ p : Int32, FX0_in p.toInt64 0 3 = some (decide (0 ≤ p.toInt ∧ p.toInt ≤ 3)) := fun p => inL (by decide) (by decide)
  have e4 : ∀ w, w < 4 → decide (0 ≤ (nI w).toInt ∧ (nI w).toInt ≤ 3) = true := fun w hw => dT hw (by omega)
  rcases rng p (n := 4) (by omega) with ⟨k, hk, rfl⟩ | hp
  · have al4 : alg 4 (nI k) = some () := by rw [show (4 : Int32) = nI 4 from rfl, al_n hk (by omega)]
    rcases rng q (n := 4) (by omega) with ⟨s, hs, rfl⟩ | hq
    · have hs03 := num_ok hs
      rcases rng r (n := 41) (by omega) with ⟨n, hn, rfl⟩ | hr
      · obtain ⟨nb', f1, f2, f3⟩ := zeros8 hk (show n ≤ 40 by omega) numbers
        refine ⟨0, upd rsort k (nI s), upd rmany k (nI n), up nums k (fun _ => 0), upd rowSort k (nI s), upd rowMany k (nI n), nb', ?_, ?_, ?_⟩
        · unfold FX0_numbers FX0_isNumbers
          rw [e3, bd1_s, bd1_s, e4 k hk, if_neg b2t, e3, bd1_s, e4 s hs, if_neg b2t, if_pos (by rw [i_40, le_t (by omega) (by omega)]; trivial), al4, bd0_s, if_neg (by rw [nlt_f (by omega)]; exact id), if_pos hs03, cl_n (by omega)]
        · unfold FX8_numbers
          rw [e2, bd1_s, e4 k hk, if_neg b2t, e2, bd1_s, e4 s hs, if_neg b2t, e40, bd1_s, show decide (0 ≤ (nI n).toInt ∧ (nI n).toInt ≤ 40) = true from dT hn (by omega), if_neg b2t, wr_n (by omega) (by omega), bd1_s, wr_n (by omega) (by omega), bd1_s, f1, bd1_s]
        · intro j hj
          by_cases e : j = k
          · subst e
            refine ⟨by rw [up_t rfl, up_t rfl], Or.inr ⟨s, n, hs, by omega, up_t rfl, up_t rfl, up_t rfl, fun i hi => ?_⟩⟩
            rw [f2 i hi, upn_t rfl]
            rcases s4 hs with rfl | rfl | rfl | rfl <;> rfl
          · obtain ⟨h1, h2⟩ := hN j hj
            refine ⟨by rw [up_f e, up_f e]; exact h1, ?_⟩
            rw [up_f e, up_f e, up_f e, upn_f e]
            rcases h2 with h2 | ⟨s2, n2, g1, g2, g3, g4, g5, g6⟩
            · exact Or.inl h2
            · exact Or.inr ⟨s2, n2, g1, g2, g3, g4, g5, fun i hi => by rw [f3 _ (by omega)]; exact g6 i hi⟩
      · have e5 : decide (0 ≤ r.toInt ∧ r.toInt ≤ 40) = false := decide_eq_false (fun z => hr (by omega))
        refine ⟨-3, rsort, rmany, nums, rowSort, rowMany, numbers, ?_, ?_, hN⟩
        · unfold FX0_numbers FX0_isNumbers
          rw [e3, bd1_s, bd1_s, e4 k hk, if_neg b2t, e3, bd1_s, e4 s hs, if_neg b2t]
          by_cases c : r ≤ 40
          · have c2 : r < 0 := by
              rw [lt_iff]
              rw [le_iff] at c
              have e40' : (40 : Int32).toInt = 40 := rfl
              have e0' : (0 : Int32).toInt = 0 := rfl
              omega
            rw [if_pos c, al4, bd0_s, if_pos c2, if_pos hs03]
          · rw [if_neg c]
        · unfold FX8_numbers
          rw [e2, bd1_s, e4 k hk, if_neg b2t, e2, bd1_s, e4 s hs, if_neg b2t, e40, bd1_s, e5, if_pos b2f]
    · have e5 : decide (0 ≤ q.toInt ∧ q.toInt ≤ 3) = false := decide_eq_false (fun z => hq (by omega))
      refine ⟨-2, rsort, rmany, nums, rowSort, rowMany, numbers, ?_, ?_, hN⟩
      · unfold FX0_numbers FX0_isNumbers
        rw [e3, bd1_s, bd1_s, e4 k hk, if_neg b2t, e3, bd1_s, e5, if_pos b2f]
      · unfold FX8_numbers
        rw [e2, bd1_s, e4 k hk, if_neg b2t, e2, bd1_s, e5, if_pos b2f]
  · have e5 : decide (0 ≤ p.toInt ∧ p.toInt ≤ 3) = false := decide_eq_false (fun z => hp (by omega))
    refine ⟨-2, rsort, rmany, nums, rowSort, rowMany, numbers, ?_, ?_, hN⟩
    · unfold FX0_numbers FX0_isNumbers
      rw [e3, bd1_s, bd1_s, e5, if_pos b2f]
    · unfold FX8_numbers
      rw [e2, bd1_s, e5, if_pos b2f]
theorem write_law (hN : NumC rsort rmany nums rowSort rowMany numbers) (p q : Int32) (v : Int64) : ∃ ans nu' nb', FX0_write rsort rmany nums p q v = some (ans, nu') ∧ FX8_write rowSort rowMany numbers p q v = some (ans, nb') ∧ NumC rsort rmany nu' rowSort rowMany nb' := by
  have e2 : ∀ p : Int32, FX8_within p.toInt64 0 3 = some (decide (0 ≤ p.toInt ∧ p.toInt ≤ 3)) := fun p => wiL (by decide) (by decide)
  have e3 : ∀ p : Int32, FX0_in p.toInt64 0 3 = some (decide (0 ≤ p.toInt ∧ p.toInt ≤ 3)) := fun p => inL (by decide) (by decide)
  have e4 : ∀ w, w < 4 → decide (0 ≤ (nI w).toInt ∧ (nI w).toInt ≤ 3) = true := fun w hw => dT hw (by omega)
  rcases rng p (n := 4) (by omega) with ⟨k, hk, rfl⟩ | hp
  · have al4 : alg 4 (nI k) = some () := by rw [show (4 : Int32) = nI 4 from rfl, al_n hk (by omega)]
    obtain ⟨hr, hr2⟩ := hN k hk
    rcases hr2 with hr2 | ⟨s, n, hs, hn, g1, g2, g3, g4⟩
    · refine ⟨-6, nums, numbers, ?_, ?_, hN⟩
      · unfold FX0_write FX0_isNumbers
        rw [e3, bd1_s, bd1_s, e4 k hk, if_neg b2t, al4, bd0_s, cl_n (by omega), if_pos (show rsort k = -1 from hr2)]
      · unfold FX8_write
        rw [e2, bd1_s, e4 k hk, if_neg b2t, show (4 : Nat) = 4 from rfl, rd_n (by omega) (by omega), bd1_s, if_pos (show rowSort k = -1 from hr.trans hr2)]
    · have hrs : ¬ rsort k = -1 := by rw [g1]; exact fun z => by rw [show ((-1 : Int32)) = nM from rfl, n_neM (by omega)] at z; exact z
      have hrw : ¬ rowSort k = -1 := by rw [hr]; exact hrs
      have h03 : 0 ≤ rsort k ∧ rsort k ≤ 3 := by rw [g1]; exact num_ok hs
      rcases rng q (n := n) (by omega) with ⟨j, hj, rfl⟩ | hq
      · refine ⟨numWid (nI s) (cutN (nI s) v), putN nums k j (cutN (nI s) v), vp_updL numbers (40 * k + j) (numWid (nI s) (cutN (nI s) v)), ?_, ?_, ?_⟩
        · unfold FX0_write FX0_isNumbers
          have hin : ¬ (nI j < 0 ∨ n ≤ j) := by rw [nlt_f (by omega), false_or]; omega
          have e6 : putN nums k j (cutN (nI s) v) k j = cutN (nI s) v := by
            unfold putN
            rw [upn_t rfl, if_pos rfl]
          rw [e3, bd1_s, bd1_s, e4 k hk, if_neg b2t, al4, bd0_s, cl_n (by omega), if_neg hrs, if_pos h03, g2, cl_n (by omega), cl_n (by omega), if_pos hin, g1, numAt_n hs hn g1 g2 hj, bd1_s, e6]
        · unfold FX8_write
          rw [e2, bd1_s, e4 k hk, if_neg b2t, rd_n (by omega) (by omega), bd1_s, if_neg hrw, rd_n (by omega) (by omega), bd1_s, g3, show nI n - 1 = nD n from rfl, wiD (by omega), bd1_s, show decide (0 ≤ (nI j).toInt ∧ (nI j).toInt ≤ (n : Int) - 1) = true from dT hj (by omega), if_neg b2t, bd1_s, hr, g1, wid_cut hs, bd1_s, i_40, n_mul, n_add, wrLn (by omega) (by omega), bd1_s, rd_n (by omega) (by omega), bd1_s, upL_t rfl]
        · intro k2 hk2
          obtain ⟨h1, h2⟩ := hN k2 hk2
          refine ⟨h1, ?_⟩
          by_cases e : k2 = k
          · subst e
            refine Or.inr ⟨s, n, hs, hn, g1, g2, g3, fun i hi => ?_⟩
            unfold putN
            rw [upn_t rfl]
            by_cases e1 : i = j
            · rw [if_pos e1, upL_t (by omega)]
            · rw [if_neg e1, upL_f (by omega)]
              exact g4 i hi
          · rcases h2 with h2 | ⟨s2, n2, i1, i2, i3, i4, i5, i6⟩
            · exact Or.inl h2
            · refine Or.inr ⟨s2, n2, i1, i2, i3, i4, i5, fun i hi => ?_⟩
              unfold putN
              rw [upn_f e, upL_f (by omega)]
              exact i6 i hi
      · have e5 : decide (0 ≤ q.toInt ∧ q.toInt ≤ (n : Int) - 1) = false := decide_eq_false (fun z => hq (by omega))
        refine ⟨-7, nums, numbers, ?_, ?_, hN⟩
        · unfold FX0_write FX0_isNumbers
          have hin : ¬ ¬ (q < 0 ∨ n ≤ q.toNatClampNeg) := by
            intro z
            rw [lt_iff] at z
            have e0' : (0 : Int32).toInt = 0 := rfl
            have eq : q.toNatClampNeg = q.toInt.toNat := rfl
            omega
          rw [e3, bd1_s, bd1_s, e4 k hk, if_neg b2t, al4, bd0_s, cl_n (by omega), if_neg hrs, if_pos h03, g2, cl_n (by omega), if_neg hin]
        · unfold FX8_write
          rw [e2, bd1_s, e4 k hk, if_neg b2t, rd_n (by omega) (by omega), bd1_s, if_neg hrw, rd_n (by omega) (by omega), bd1_s, g3, show nI n - 1 = nD n from rfl, wiD (by omega), bd1_s, e5, if_pos b2f]
  · have e5 : decide (0 ≤ p.toInt ∧ p.toInt ≤ 3) = false := decide_eq_false (fun z => hp (by omega))
    refine ⟨-2, nums, numbers, ?_, ?_, hN⟩
    · unfold FX0_write FX0_isNumbers
      rw [e3, bd1_s, bd1_s, e5, if_pos b2f]
    · unfold FX8_write
      rw [e2, bd1_s, e5, if_pos b2f]
end NLAW
