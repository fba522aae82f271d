set_option maxRecDepth 100000
/-! a threshold -/
theorem signum_n : ∀ a, a < 5 → ∀ b, b < 5 → FJ11_signum (nI b - nI a) = some (if a < b then 1 else if b < a then -1 else 0) := by decide +kernel
theorem abJ_n : ∀ a, a < 5 → ∀ b, b < 5 → abI (nI b - nI a) = nI (if a < b then b - a else a - b) := by decide +kernel
theorem dec_n {a : Nat} (h : 1 ≤ a) : nI a + (-1) = nI (a - 1) := by
  obtain ⟨j, rfl⟩ : ∃ j, a = j + 1 := ⟨a - 1, by omega⟩
  rw [show (-1 : Int32) = nM from rfl, n_addM, nD_succ, Nat.add_sub_cancel]
section P41
variable {all t : Nat → Int32} {T O M : Nat → Nat} {V : Nat → BvT} {mv : Nat} {lies : Int64} {ca la : Nat → Int32} {year : Int32}
theorem thrU (ht : TwAt t T) (hA : AllAt all T) (hW : WT T) {O' : Nat → Nat} (hS : WO T O' M) {many hMany : Nat → Int32} (h0 : ∀ r, r < 5 → hMany r = nI (M r)) (h8 : ∀ r, r < 5 → many r = nI (M r)) {b : Nat} (hb5 : b < T 0) : ∀ n a c, a + n = b → c + n < 100 → ∃ x y, loopC (fun s => FX0_threshold_b67 t (nI b) hMany 1 s) (nI a) = some x ∧ loopC (fun (s : Int32 × Int32) => FX8_threshold_b63 all (nI b) many 1 s.1 s.2) (nI c, nI a) = some y ∧ ((x = .inl () ∧ y = .inl ()) ∨ (x = .inr () ∧ y = .inr (nI (c + n)))) := by
  have hb := hW.b
  have e0 := ht.n (k := 0) (by omega) (by omega)
  intro n
  induction n with
  | zero =>
    intro a c h _
    obtain rfl : a = b := by omega
    exact ⟨_, _, loopC_inr (show (fun s => FX0_threshold_b67 t (nI a) hMany 1 s) (nI a) = _ by show FX0_threshold_b67 t (nI a) hMany 1 (nI a) = _; unfold FX0_threshold_b67; exact if_pos rfl), loopC_inr (show (fun (s : Int32 × Int32) => FX8_threshold_b63 all (nI a) many 1 s.1 s.2) (nI c, nI a) = _ by show FX8_threshold_b63 all (nI a) many 1 (nI c) (nI a) = _; unfold FX8_threshold_b63; exact if_pos rfl), Or.inr ⟨rfl, rfl⟩⟩
  | succ n ih =>
    intro a c h hc
    have hne : ¬ nI a = nI b := by rw [eq_f (by omega) (by omega) (by omega)]; exact id
    have w := (hW.2.1 (a + 1) (by omega)).1
    have hle := hS.2.2.1 (a + 1) (by omega)
    have m0 := h0 (a + 1) (by omega)
    have m8 := h8 (a + 1) (by omega)
    have t1 := ht.n (k := 1 + (a + 1)) (by omega) (by omega)
    have t8 := hA.n (k := 1 + (a + 1)) (by omega) (by omega)
    have s1 : nI a + 1 = nI (a + 1) := n_add a 1
    have s2 : (1 : Int32) + nI a + 1 = nI (1 + (a + 1)) := by rw [show (1 : Int32) = nI 1 from rfl, n_add, n_add, Nat.add_assoc]
    have al : alg (t 0) (nI (a + 1)) = some () := by rw [e0, al_n (by omega) (by omega)]
    have r1 : rd 5 hMany (nI (a + 1)) = some (nI (M (a + 1))) := rdn (by omega) (by omega) m0
    have r2 : rd 5 many (nI (a + 1)) = some (nI (M (a + 1))) := rdn (by omega) (by omega) m8
    have r3 : rd 1593 all (nI (1 + (a + 1))) = some (nI (T (1 + (a + 1)))) := rdn (by omega) (by omega) t8
    have q1 : FX2_high t (nI (a + 1)) = some (nI (T (1 + (a + 1)))) := by
      unfold FX2_high
      rw [al, bd0_s, cl_n (by omega), t1]
    by_cases c1 : M (a + 1) = T (1 + (a + 1))
    · refine ⟨.inl (), .inl (), loopC_inr ?_, loopC_inr ?_, Or.inl ⟨rfl, rfl⟩⟩
      · show FX0_threshold_b67 t (nI b) hMany 1 (nI a) = _
        unfold FX0_threshold_b67
        rw [if_neg hne, s1, r1, bd1_s, q1, bd1_s, if_pos (by rw [c1])]
      · show FX8_threshold_b63 all (nI b) many 1 (nI c) (nI a) = _
        unfold FX8_threshold_b63
        rw [if_neg hne, s1, r2, bd1_s, s2, r3, bd1_s, if_neg (by rw [lt_f (by omega) (by omega)]; exact id)]
    · obtain ⟨x, y, h1, h2, h3⟩ := ih (a + 1) (c + 1) (by omega) (by omega)
      rw [show c + 1 + n = c + (n + 1) by omega] at h3
      refine ⟨x, y, (loopC_inl ?_).trans h1, (loopC_inl ?_).trans h2, h3⟩
      · show FX0_threshold_b67 t (nI b) hMany 1 (nI a) = _
        unfold FX0_threshold_b67
        rw [if_neg hne, s1, r1, bd1_s, q1, bd1_s, if_neg (by rw [eq_f c1 (by omega) (by omega)]; exact id)]
      · show FX8_threshold_b63 all (nI b) many 1 (nI c) (nI a) = _
        unfold FX8_threshold_b63
        rw [if_neg hne, s1, r2, bd1_s, s2, r3, bd1_s, if_pos (by rw [lt_t (by omega) (by omega)]; trivial), show nI c + 1 = nI (c + 1) from n_add c 1]
theorem thrD (ht : TwAt t T) (hA : AllAt all T) (hW : WT T) {O' : Nat → Nat} (hS : WO T O' M) {many hMany : Nat → Int32} (h0 : ∀ r, r < 5 → hMany r = nI (M r)) (h8 : ∀ r, r < 5 → many r = nI (M r)) {b : Nat} : ∀ n a c, b + n = a → a < T 0 → c + n < 100 → ∃ x y, loopC (fun s => FX0_threshold_b67 t (nI b) hMany (-1) s) (nI a) = some x ∧ loopC (fun (s : Int32 × Int32) => FX8_threshold_b63 all (nI b) many (-1) s.1 s.2) (nI c, nI a) = some y ∧ ((x = .inl () ∧ y = .inl ()) ∨ (x = .inr () ∧ y = .inr (nI (c + n)))) := by
  have hb := hW.b
  have e0 := ht.n (k := 0) (by omega) (by omega)
  intro n
  induction n with
  | zero =>
    intro a c h _ _
    obtain rfl : a = b := by omega
    exact ⟨_, _, loopC_inr (show (fun s => FX0_threshold_b67 t (nI a) hMany (-1) s) (nI a) = _ by show FX0_threshold_b67 t (nI a) hMany (-1) (nI a) = _; unfold FX0_threshold_b67; exact if_pos rfl), loopC_inr (show (fun (s : Int32 × Int32) => FX8_threshold_b63 all (nI a) many (-1) s.1 s.2) (nI c, nI a) = _ by show FX8_threshold_b63 all (nI a) many (-1) (nI c) (nI a) = _; unfold FX8_threshold_b63; exact if_pos rfl), Or.inr ⟨rfl, rfl⟩⟩
  | succ n ih =>
    intro a c h ha hc
    have hne : ¬ nI a = nI b := by rw [eq_f (by omega) (by omega) (by omega)]; exact id
    have w := (hW.2.1 (a - 1) (by omega)).1
    have hle := hS.2.2.1 (a - 1) (by omega)
    have m0 := h0 (a - 1) (by omega)
    have m8 := h8 (a - 1) (by omega)
    have t1 := ht.n (k := 1 + (a - 1)) (by omega) (by omega)
    have t8 := hA.n (k := 1 + (a - 1)) (by omega) (by omega)
    have s1 : nI a + (-1) = nI (a - 1) := dec_n (by omega)
    have s2 : (1 : Int32) + nI a + (-1) = nI (1 + (a - 1)) := by
      rw [show (1 : Int32) + nI a = nI (1 + a) from n_add 1 a, dec_n (by omega)]
      congr 1
      omega
    have al : alg (t 0) (nI (a - 1)) = some () := by rw [e0, al_n (by omega) (by omega)]
    have r1 : rd 5 hMany (nI (a - 1)) = some (nI (M (a - 1))) := rdn (by omega) (by omega) m0
    have r2 : rd 5 many (nI (a - 1)) = some (nI (M (a - 1))) := rdn (by omega) (by omega) m8
    have r3 : rd 1593 all (nI (1 + (a - 1))) = some (nI (T (1 + (a - 1)))) := rdn (by omega) (by omega) t8
    have q1 : FX2_high t (nI (a - 1)) = some (nI (T (1 + (a - 1)))) := by
      unfold FX2_high
      rw [al, bd0_s, cl_n (by omega), t1]
    by_cases c1 : M (a - 1) = T (1 + (a - 1))
    · refine ⟨.inl (), .inl (), loopC_inr ?_, loopC_inr ?_, Or.inl ⟨rfl, rfl⟩⟩
      · show FX0_threshold_b67 t (nI b) hMany (-1) (nI a) = _
        unfold FX0_threshold_b67
        rw [if_neg hne, s1, r1, bd1_s, q1, bd1_s, if_pos (by rw [c1])]
      · show FX8_threshold_b63 all (nI b) many (-1) (nI c) (nI a) = _
        unfold FX8_threshold_b63
        rw [if_neg hne, s1, r2, bd1_s, s2, r3, bd1_s, if_neg (by rw [lt_f (by omega) (by omega)]; exact id)]
    · obtain ⟨x, y, h1, h2, h3⟩ := ih (a - 1) (c + 1) (by omega) (by omega) (by omega)
      rw [show c + 1 + n = c + (n + 1) by omega] at h3
      refine ⟨x, y, (loopC_inl ?_).trans h1, (loopC_inl ?_).trans h2, h3⟩
      · show FX0_threshold_b67 t (nI b) hMany (-1) (nI a) = _
        unfold FX0_threshold_b67
        rw [if_neg hne, s1, r1, bd1_s, q1, bd1_s, if_neg (by rw [eq_f c1 (by omega) (by omega)]; exact id)]
      · show FX8_threshold_b63 all (nI b) many (-1) (nI c) (nI a) = _
        unfold FX8_threshold_b63
        rw [if_neg hne, s1, r2, bd1_s, s2, r3, bd1_s, if_pos (by rw [lt_t (by omega) (by omega)]; trivial), show nI c + 1 = nI (c + 1) from n_add c 1]
theorem threshold_law (h : Cur T M V all t lies ca la year) (on many hAt hMany : Nat → Int32) (hMoved moved : Int32) (p q : Int32) : ∃ ans a1 m1 v1 o2 m2 v2, FX0_threshold hAt hMany hMoved lies t p q = some (ans, a1, m1, v1) ∧ FX8_threshold all on many moved p q = some (ans, o2, m2, v2) := by
  obtain ⟨⟨hW, hS, hm, hy, hB⟩, hA, ht, rfl, hc, hl, rfl⟩ := h
  have hb := hW.b
  have f2 := isStone8 hA hW p
  rcases rng p (n := T 6) (by omega) with ⟨i, hi, rfl⟩ | hp
  · have f1 := isThere4 (O := fun p => T (80 + p)) ht hW hm hi
    have f3 := placeOf8 hA hW hS (show i < 8 by omega)
    have hle := pl_le (fun p => T (80 + p)) i
    rw [dT hi (by omega)] at f2
    by_cases c : pl (fun p => T (80 + p)) i = 15
    · rw [decide_eq_false (show ¬ pl (fun p => T (80 + p)) i ≠ 15 from fun z => z c)] at f1
      rw [plD, if_pos c, nD_zero] at f3
      exact ⟨-2, _, _, _, _, _, _, by unfold FX0_threshold; rw [f1, bd1_s, if_pos (by decide)], by unfold FX8_threshold; rw [f2, bd1_s, if_neg (by decide), f3, bd1_s, if_pos (show nM = -1 from rfl)]⟩
    · rw [decide_eq_true c] at f1
      rw [plD, if_neg c, nD_succ] at f3
      have c8 : ¬ nI (pl (fun p => T (80 + p)) i) = -1 := by rw [show (-1 : Int32) = nM from rfl, n_neM (by omega)]; exact id
      have g0 := ht.n (k := 0) (by omega) (by omega)
      have f4 : FX0_in q.toInt64 0 (Int32.toInt64 (t 0 - 1)) = some (decide (0 ≤ q.toInt ∧ q.toInt ≤ (T 0 : Int) - 1)) := by rw [g0]; exact inD (by omega)
      rcases rng q (n := T 0) (by omega) with ⟨b, hb5, rfl⟩ | hq
      · have f5 := isRow8 hA hW hb5
        rw [dT hb5 (by omega)] at f4
        have f6 := placeIn_n (O := fun p => T (80 + p)) (mv := T 95) (i := i) (by omega) hm
        obtain ⟨a1, m1, e5, hat⟩ := lays4 ht hW hS hm hAt hMany
        obtain ⟨o2, m2, e6, hon⟩ := looksNow8 hA hW hS on many
        have hin := pl_in (O := fun p => T (80 + p)) (i := i) (by omega)
        have ha : pl (fun p => T (80 + p)) i / 3 < T 0 := by
          have z3 := (hS.2.1 (pl (fun p => T (80 + p)) i / 3) (pl (fun p => T (80 + p)) i % 3) (by omega) (by omega)).mp (by
            rw [show 3 * (pl (fun p => T (80 + p)) i / 3) + pl (fun p => T (80 + p)) i % 3 = pl (fun p => T (80 + p)) i by omega]; exact Nat.lt_of_lt_of_eq (Nat.succ_pos i) hin.symm)
          have z4 := hS.2.2.1 (pl (fun p => T (80 + p)) i / 3) (by omega)
          exact ((hW.2.1 (pl (fun p => T (80 + p)) i / 3) (by omega)).2.1).mpr (by omega)
        have ed : nI (pl (fun p => T (80 + p)) i) / 3 = nI (pl (fun p => T (80 + p)) i / 3) := by rw [show (3 : Int32) = nI 3 from rfl, n_div (by omega) (by omega)]
        generalize pl (fun p => T (80 + p)) i / 3 = a at *
        have e7 := signum_n a (by omega) b (by omega)
        have e8 := abJ_n a (by omega) b (by omega)
        have go0 : ∀ sg r, FJ11_signum (nI b - nI a) = some sg → bdS2 (loopC (fun s => FX0_threshold_b67 t (nI b) m1 sg s) (nI a)) (un0 fun _ => some ((-1), a1, m1, nI (T 95))) (un0 fun _ => some ((abI (nI b - nI a)), a1, m1, nI (T 95))) = r → FX0_threshold hAt hMany hMoved (lN (enc (fun p => T (80 + p)) (T 95))) t (nI i) (nI b) = r := by
          intro sg r h1 h2
          unfold FX0_threshold FX0_here
          rw [f1, bd1_s, if_neg (by decide), f4, bd1_s, if_neg (by decide), f6, bd1_s, e5, bd3_s, bd3_s, ed, h1, bd1_s]
          exact h2
        by_cases hab : a < b
        · rw [if_pos hab] at e7 e8
          obtain ⟨x, y, k1, k2, k3⟩ := thrU ht hA hW hS hat.2 hon.2 hb5 (b - a) a 0 (by omega) (by omega)
          have go8 : FX8_threshold all on many moved (nI i) (nI b) = bdS2 (some y) (un0 fun _ => some ((-1), o2, m2, nI (T 95))) (un1 fun x_69 => some (x_69, o2, m2, nI (T 95))) := by
            unfold FX8_threshold
            rw [f2, bd1_s, if_neg (by decide), f3, bd1_s, if_neg c8, f5, bd1_s, if_neg (by decide), e6, bd3_s, bd1_s, ed, if_neg (by rw [le_f (by omega) (by omega)]; exact id)]
            unfold FX8_threshold_j55
            rw [ed, show ((0 : Int32), nI a) = (nI 0, nI a) from rfl, k2]
          rcases k3 with ⟨rfl, rfl⟩ | ⟨rfl, rfl⟩
          · exact ⟨-1, _, _, _, _, _, _, go0 _ _ e7 (by rw [k1]; rfl), go8⟩
          · exact ⟨nI (0 + (b - a)), _, _, _, _, _, _, go0 _ _ e7 (by rw [k1, e8, Nat.zero_add]; rfl), go8⟩
        · rw [if_neg hab] at e7 e8
          obtain ⟨x, y, k1, k2, k3⟩ := thrD (b := b) ht hA hW hS hat.2 hon.2 (a - b) a 0 (by omega) ha (by omega)
          have go8 : FX8_threshold all on many moved (nI i) (nI b) = bdS2 (some y) (un0 fun _ => some ((-1), o2, m2, nI (T 95))) (un1 fun x_69 => some (x_69, o2, m2, nI (T 95))) := by
            unfold FX8_threshold
            rw [f2, bd1_s, if_neg (by decide), f3, bd1_s, if_neg c8, f5, bd1_s, if_neg (by decide), e6, bd3_s, bd1_s, ed, if_pos (by rw [le_t (by omega) (by omega)]; trivial)]
            unfold FX8_threshold_j55
            rw [ed, show ((0 : Int32), nI a) = (nI 0, nI a) from rfl, k2]
          by_cases hba : b < a
          · rw [if_pos hba] at e7
            rcases k3 with ⟨rfl, rfl⟩ | ⟨rfl, rfl⟩
            · exact ⟨-1, _, _, _, _, _, _, go0 _ _ e7 (by rw [k1]; rfl), go8⟩
            · exact ⟨nI (0 + (a - b)), _, _, _, _, _, _, go0 _ _ e7 (by rw [k1, e8, Nat.zero_add]; rfl), go8⟩
          · obtain rfl : a = b := by omega
            rw [if_neg (by omega)] at e7
            have k1' : loopC (fun s => FX0_threshold_b67 t (nI a) m1 0 s) (nI a) = some (.inr ()) := loopC_inr (by show FX0_threshold_b67 t (nI a) m1 0 (nI a) = _; unfold FX0_threshold_b67; exact if_pos rfl)
            have k2' : y = .inr (nI (0 + (a - a))) := by
              have z : loopC (fun (s : Int32 × Int32) => FX8_threshold_b63 all (nI a) m2 (-1) s.1 s.2) (nI 0, nI a) = some (.inr (nI 0)) := loopC_inr (by show FX8_threshold_b63 all (nI a) m2 (-1) (nI 0) (nI a) = _; unfold FX8_threshold_b63; exact if_pos rfl)
              rw [z] at k2
              rw [← Option.some.inj k2, Nat.sub_self]
            subst k2'
            exact ⟨nI (0 + (a - a)), _, _, _, _, _, _, go0 _ _ e7 (by rw [k1', e8, Nat.zero_add]; rfl), go8⟩
      · have f5 := isRow8f hA hW hq
        rw [decide_eq_false hq] at f4
        exact ⟨-2, _, _, _, _, _, _, by unfold FX0_threshold; rw [f1, bd1_s, if_neg (by decide), f4, bd1_s, if_pos (by decide)], by unfold FX8_threshold; rw [f2, bd1_s, if_neg (by decide), f3, bd1_s, if_neg c8, f5, bd1_s, if_pos (by decide)]⟩
  · rw [decide_eq_false hp] at f2
    have f1 := isThere4f ht hW (lN (enc (fun p => T (80 + p)) (T 95))) hp
    exact ⟨-2, _, _, _, _, _, _, by unfold FX0_threshold; rw [f1, bd1_s, if_pos (by decide)], by unfold FX8_threshold; rw [f2, bd1_s, if_pos (by decide)]⟩
end P41
/-! the tape -/
def TapeR (a0 a8 : Nat → Int32) : Prop := ∀ k, k < 400 → a8 k = a0 k &&& 255
def bz (p : Int32) (q : Nat) : Int32 := p >>> (nI (24 - 8 * q) &&& 31)
theorem bz_nar (x : Int32) : vp_nar .byte (cvB x) &&& 255 = x &&& 255 := by
  show (x.toInt8.toInt32.toInt8).toInt32 &&& 255 = _
  rw [bp_b, bp_b]
theorem bytes4 (a : Nat → Int32) (p : Int32) {n : Nat} (hn : n + 4 ≤ 400) : ∃ a', FX0_bytes a (nI n) p = some (a', nI (n + 4)) ∧ ∀ j, a' j = if n ≤ j ∧ j < n + 4 then vp_nar .byte (cvB (bz p (j - n))) else a j := by
  have step : ∀ (x : Int32) (m : Nat) (b : Nat → Int32), ¬ x < 0 → m < 400 → (fun (s : Int32 × (Nat → Int32) × Int32) => FX0_bytes_b3 p s.1 s.2.1 s.2.2) (x, b, nI m) = some (.inl (x + (-8), upd b m (vp_nar .byte (cvB (p >>> (x &&& 31)))), nI (m + 1))) := by
    intro x m b hx hm
    show FX0_bytes_b3 p x b (nI m) = _
    unfold FX0_bytes_b3
    rw [if_neg hx, wr_n (by omega) (by omega), bd1_s, show nI m + 1 = nI (m + 1) from n_add m 1]
  have h := (loopC_inl (step 24 n a (by decide) (by omega))).trans ((loopC_inl (step (24 + -8) (n + 1) _ (by decide) (by omega))).trans ((loopC_inl (step (24 + -8 + -8) (n + 1 + 1) _ (by decide) (by omega))).trans ((loopC_inl (step (24 + -8 + -8 + -8) (n + 1 + 1 + 1) _ (by decide) (by omega))).trans (loopC_inr (B := fun (s : Int32 × (Nat → Int32) × Int32) => FX0_bytes_b3 p s.1 s.2.1 s.2.2) (r := (upd (upd (upd (upd a n (vp_nar .byte (cvB (p >>> ((24 : Int32) &&& 31))))) (n + 1) (vp_nar .byte (cvB (p >>> ((24 + -8 : Int32) &&& 31))))) (n + 1 + 1) (vp_nar .byte (cvB (p >>> ((24 + -8 + -8 : Int32) &&& 31))))) (n + 1 + 1 + 1) (vp_nar .byte (cvB (p >>> ((24 + -8 + -8 + -8 : Int32) &&& 31)))), nI (n + 1 + 1 + 1 + 1))) (by
    show FX0_bytes_b3 p (24 + -8 + -8 + -8 + -8) _ _ = _
    unfold FX0_bytes_b3
    exact if_pos (by decide))))))
  refine ⟨_, by unfold FX0_bytes; rw [h, bd2_s], fun j => ?_⟩
  by_cases c3 : j = n + 1 + 1 + 1
  · rw [up_t c3, if_pos (by omega), show j - n = 3 by omega, show ((24 + -8 + -8 + -8 : Int32) &&& 31) = nI (24 - 8 * 3) &&& 31 by decide]; rfl
  · rw [up_f c3]
    by_cases c2 : j = n + 1 + 1
    · rw [up_t c2, if_pos (by omega), show j - n = 2 by omega, show ((24 + -8 + -8 : Int32) &&& 31) = nI (24 - 8 * 2) &&& 31 by decide]; rfl
    · rw [up_f c2]
      by_cases c1 : j = n + 1
      · rw [up_t c1, if_pos (by omega), show j - n = 1 by omega, show ((24 + -8 : Int32) &&& 31) = nI (24 - 8 * 1) &&& 31 by decide]; rfl
      · rw [up_f c1]
        by_cases c0 : j = n
        · rw [up_t c0, if_pos (by omega), show j - n = 0 by omega, show ((24 : Int32) &&& 31) = nI (24 - 8 * 0) &&& 31 by decide]; rfl
        · rw [up_f c0, if_neg (by omega)]
def pk5 (p1 p2 p3 p4 p5 : Int32) (k : Nat) : Int32 := if k < 4 then p1 else if k < 8 then p2 else if k < 12 then p3 else if k < 16 then p4 else p5
theorem feed8 (p1 p2 p3 p4 p5 : Int32) {n : Nat} (hn : n + 20 ≤ 400) (a : Nat → Int32) : ∃ a', loopC (fun (s : Int32 × (Nat → Int32) × Int32) => FX8_feed_b24 p1 p2 p3 p4 p5 s.1 s.2.1 s.2.2) ((0 : Int32), a, nI n) = some (a', nI (n + 20)) ∧ ∀ j, a' j = if n ≤ j ∧ j < n + 20 then bz (pk5 p1 p2 p3 p4 p5 (j - n)) ((j - n) % 4) &&& 255 else a j := by
  obtain ⟨r, h1, h2⟩ := up_rule (B := fun (s : Int32 × (Nat → Int32) × Int32) => FX8_feed_b24 p1 p2 p3 p4 p5 s.1 s.2.1 s.2.2) (fun k (b : Nat → Int32) => (nI k, b, nI (n + k))) (fun k b => ∀ j, b j = if n ≤ j ∧ j < n + k then bz (pk5 p1 p2 p3 p4 p5 (j - n)) ((j - n) % 4) &&& 255 else a j) (fun r => r.2 = nI (n + 20) ∧ ∀ j, r.1 j = if n ≤ j ∧ j < n + 20 then bz (pk5 p1 p2 p3 p4 p5 (j - n)) ((j - n) % 4) &&& 255 else a j) 20 (by
    intro k b hk hb
    refine Or.inl ⟨upd b (n + k) (bz (pk5 p1 p2 p3 p4 p5 k) (k % 4) &&& 255), ?_, fun j => ?_⟩
    · show FX8_feed_b24 p1 p2 p3 p4 p5 (nI k) b (nI (n + k)) = _
      have ej : ∀ x, FX8_feed_j77 (nI k) b (nI (n + k)) x = some (.inl (nI (k + 1), upd b (n + k) (bz x (k % 4) &&& 255), nI (n + (k + 1)))) := by
        intro x
        unfold FX8_feed_j77
        have e1 : (24 : Int32) - 8 * (nI k - nI k / 4 * 4) = nI (24 - 8 * (k % 4)) := by
          have := (by decide +kernel : ∀ k, k < 20 → (24 : Int32) - 8 * (nI k - nI k / 4 * 4) = nI (24 - 8 * (k % 4)))
          exact this k hk
        rw [e1, wr_n (by omega) (by omega), bd1_s, show nI k + 1 = nI (k + 1) from n_add k 1, show nI (n + k) + 1 = nI (n + (k + 1)) from n_add (n + k) 1]
        rfl
      unfold FX8_feed_b24
      unfold pk5
      rw [if_neg (show ¬ (20 : Int32) ≤ nI k by rw [show (20 : Int32) = nI 20 from rfl, le_f (by omega) (by omega)]; exact id)]
      have le : ∀ m, m < 100 → ((nI m ≤ nI k) ↔ ¬ k < m) := fun m hm => by
        by_cases c : k < m
        · rw [le_f c (by omega)]; exact ⟨fun z => z.elim, fun z => absurd c z⟩
        · rw [le_t (by omega) (by omega)]; exact ⟨fun _ => c, fun _ => trivial⟩
      have l4 : (4 : Int32) ≤ nI k ↔ ¬ k < 4 := le 4 (by omega)
      have l8 : (8 : Int32) ≤ nI k ↔ ¬ k < 8 := le 8 (by omega)
      have l12 : (12 : Int32) ≤ nI k ↔ ¬ k < 12 := le 12 (by omega)
      have l16 : (16 : Int32) ≤ nI k ↔ ¬ k < 16 := le 16 (by omega)
      by_cases c4 : k < 4
      · rw [if_neg (fun z => l4.mp z c4), if_pos c4, ej]
      · rw [if_pos (l4.mpr c4), if_neg c4]
        by_cases c8 : k < 8
        · rw [if_neg (fun z => l8.mp z c8), if_pos c8, ej]
        · rw [if_pos (l8.mpr c8), if_neg c8]
          by_cases c12 : k < 12
          · rw [if_neg (fun z => l12.mp z c12), if_pos c12, ej]
          · rw [if_pos (l12.mpr c12), if_neg c12]
            by_cases c16 : k < 16
            · rw [if_neg (fun z => l16.mp z c16), if_pos c16, ej]
            · rw [if_pos (l16.mpr c16), if_neg c16, ej]
    · by_cases c : j = n + k
      · rw [up_t c, if_pos (by omega), show j - n = k by omega]
      · rw [up_f c, hb j]
        by_cases c2 : n ≤ j ∧ j < n + k
        · rw [if_pos c2, if_pos (by omega)]
        · rw [if_neg c2, if_neg (by omega)]) (by
    intro b hb
    refine ⟨(b, nI (n + 20)), ?_, rfl, hb⟩
    show FX8_feed_b24 p1 p2 p3 p4 p5 (nI 20) b (nI (n + 20)) = _
    unfold FX8_feed_b24
    exact if_pos (show (20 : Int32) ≤ nI 20 from Int32.le_refl _)) 0 a (by omega) (fun j => by rw [if_neg (by omega)])
  obtain ⟨ra, rn⟩ := r
  obtain ⟨h3, h4⟩ := h2
  dsimp only at h3 h4
  subst h3
  exact ⟨ra, h1, h4⟩
theorem feed_law {tape0 tape8 : Nat → Int32} {n : Nat} (hT : TapeR tape0 tape8) (hn : n ≤ 400) (p1 p2 p3 p4 p5 : Int32) : ∃ ans tape0' tape8' n', FX0_feed tape0 (nI n) p1 p2 p3 p4 p5 = some (ans, tape0', nI n') ∧ FX8_feed tape8 (nI n) p1 p2 p3 p4 p5 = some (ans, tape8', nI n') ∧ TapeR tape0' tape8' ∧ n' ≤ 400 := by
  have e : nI n + 20 = nI (n + 20) := n_add n 20
  by_cases c : n + 20 ≤ 400
  · obtain ⟨a1, f1, g1⟩ := bytes4 tape0 p1 (n := n) (by omega)
    obtain ⟨a2, f2, g2⟩ := bytes4 a1 p2 (n := n + 4) (by omega)
    obtain ⟨a3, f3, g3⟩ := bytes4 a2 p3 (n := n + 4 + 4) (by omega)
    obtain ⟨a4, f4, g4⟩ := bytes4 a3 p4 (n := n + 4 + 4 + 4) (by omega)
    obtain ⟨a5, f5, g5⟩ := bytes4 a4 p5 (n := n + 4 + 4 + 4 + 4) (by omega)
    obtain ⟨b, f6, g6⟩ := feed8 p1 p2 p3 p4 p5 c tape8
    have c' : nI n + 20 ≤ 400 := by rw [e, show (400 : Int32) = nI 400 from rfl, le_t c (by omega)]; trivial
    refine ⟨nI (n + 20), a5, b, n + 20, ?_, ?_, fun k hk => ?_, c⟩
    · unfold FX0_feed
      rw [if_pos c', f1, bd2_s, f2, bd2_s, f3, bd2_s, f4, bd2_s, f5, bd2_s]
    · unfold FX8_feed
      rw [if_pos c', f6, bd2_s]
    · rw [g6 k]
      by_cases ck : n ≤ k ∧ k < n + 20
      · rw [if_pos ck, g5 k]
        by_cases c5 : n + 4 + 4 + 4 + 4 ≤ k
        · rw [if_pos (show n + 4 + 4 + 4 + 4 ≤ k ∧ k < n + 4 + 4 + 4 + 4 + 4 by omega)]; unfold pk5; rw [if_neg (by omega), if_neg (by omega), if_neg (by omega), if_neg (by omega), bz_nar, show (k - n) % 4 = k - (n + 4 + 4 + 4 + 4) by omega]
        · rw [if_neg (show ¬ (n + 4 + 4 + 4 + 4 ≤ k ∧ k < n + 4 + 4 + 4 + 4 + 4) by omega), g4 k]
          by_cases c4 : n + 4 + 4 + 4 ≤ k
          · rw [if_pos (show n + 4 + 4 + 4 ≤ k ∧ k < n + 4 + 4 + 4 + 4 by omega)]; unfold pk5; rw [if_neg (by omega), if_neg (by omega), if_neg (by omega), if_pos (by omega), bz_nar, show (k - n) % 4 = k - (n + 4 + 4 + 4) by omega]
          · rw [if_neg (show ¬ (n + 4 + 4 + 4 ≤ k ∧ k < n + 4 + 4 + 4 + 4) by omega), g3 k]
            by_cases c3 : n + 4 + 4 ≤ k
            · rw [if_pos (show n + 4 + 4 ≤ k ∧ k < n + 4 + 4 + 4 by omega)]; unfold pk5; rw [if_neg (by omega), if_neg (by omega), if_pos (by omega), bz_nar, show (k - n) % 4 = k - (n + 4 + 4) by omega]
            · rw [if_neg (show ¬ (n + 4 + 4 ≤ k ∧ k < n + 4 + 4 + 4) by omega), g2 k]
              by_cases c2 : n + 4 ≤ k
              · rw [if_pos (show n + 4 ≤ k ∧ k < n + 4 + 4 by omega)]; unfold pk5; rw [if_neg (by omega), if_pos (by omega), bz_nar, show (k - n) % 4 = k - (n + 4) by omega]
              · rw [if_neg (show ¬ (n + 4 ≤ k ∧ k < n + 4 + 4) by omega), g1 k, if_pos (show n ≤ k ∧ k < n + 4 by omega)]; unfold pk5; rw [if_pos (by omega), bz_nar, show (k - n) % 4 = k - n by omega]
      · rw [if_neg ck, g5 k, if_neg (by omega), g4 k, if_neg (by omega), g3 k, if_neg (by omega), g2 k, if_neg (by omega), g1 k, if_neg (by omega)]
        exact hT k hk
  · have c' : ¬ nI n + 20 ≤ 400 := by rw [e, show (400 : Int32) = nI 400 from rfl, le_f (by omega) (by omega)]; exact id
    exact ⟨-5, tape0, tape8, n, by unfold FX0_feed; exact if_neg c', by unfold FX8_feed; exact if_neg c', hT, hn⟩
