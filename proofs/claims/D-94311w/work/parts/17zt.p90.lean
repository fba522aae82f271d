set_option maxRecDepth 100000
/-! images: both sides -/
section P90
variable {T M : Nat → Nat} {V : Nat → BvT} {all t ca la : Nat → Int32} {lies : Int64} {year : Int32}
theorem Cur.setA (h : Cur T M V all t lies ca la year) {all' : Nat → Int32} (hA : AllAt all' T) : Cur T M V all' t lies ca la year := ⟨h.1, hA, h.2.2⟩
theorem Cur.setC (h : Cur T M V all t lies ca la year) {c l : Nat → Int32} (hc : ∀ i, i < 8 → c i = ca i) (hl : ∀ i, i < 8 → l i = la i) : Cur T M V all t lies c l year := ⟨h.1, h.2.1, h.2.2.1, h.2.2.2.1, fun i hi => by rw [hc i hi]; exact h.2.2.2.2.1 i hi, fun i hi => by rw [hl i hi]; exact h.2.2.2.2.2.1 i hi, h.2.2.2.2.2.2⟩
/-- an image on both sides -/
def ImC (all hI : Nat → Int32) (i : Nat) (o : Option ImT) : Prop := match o with
  | none => hI i = 0
  | some x => hI i = 1 ∧ ∃ U M, ImM all i U ∧ Cur U M x.2.2.1 (rp U) x.1 x.2.2.2.1 x.2.2.2.2.2.1 x.2.2.2.2.2.2 x.2.2.2.2.1 ∧ x.2.1 = nI (U 114) ∧ x.1 378 = x.1 78 ∧ x.1 379 = x.1 79
theorem copy8 (c l : Nat → Int32) : ∃ c1 l1, FX1_copy c l = some (c1, l1) ∧ (∀ i, i < 8 → c1 i = c i) ∧ ∀ i, i < 8 → l1 i = l i := by
  obtain ⟨r, h1, h2⟩ := up_rule (B := fun (s : Int32 × (Nat → Int32) × (Nat → Int32)) => FX1_copy_b42 c l s.1 s.2.1 s.2.2) (fun k (x : (Nat → Int32) × (Nat → Int32)) => (nI k, x)) (fun k x => (∀ i, i < k → x.1 i = c i) ∧ ∀ i, i < k → x.2 i = l i) (fun x => (∀ i, i < 8 → x.1 i = c i) ∧ ∀ i, i < 8 → x.2 i = l i) 8 (by
    rintro k ⟨x, y⟩ hk ⟨g1, g2⟩
    refine Or.inl ⟨(upd x k (c k), upd y k (l k)), ?_, fun i hi => ?_, fun i hi => ?_⟩
    · show FX1_copy_b42 c l (nI k) x y = _
      unfold FX1_copy_b42
      rw [if_neg (by rw [show (8 : Int32) = nI 8 from rfl, le_f (by omega) (by omega)]; exact id), rd_n (by omega) (by omega), bd1_s, wr_n (by omega) (by omega), bd1_s, rd_n (by omega) (by omega), bd1_s, wr_n (by omega) (by omega), bd1_s, show nI k + 1 = nI (k + 1) from n_add k 1]
    · show upd x k (c k) i = c i
      by_cases e : i = k
      · rw [up_t e, e]
      · rw [up_f e]; exact g1 i (by omega)
    · show upd y k (l k) i = l i
      by_cases e : i = k
      · rw [up_t e, e]
      · rw [up_f e]; exact g2 i (by omega)) (by
    rintro ⟨x, y⟩ h
    refine ⟨(x, y), ?_, h⟩
    show FX1_copy_b42 c l (nI 8) x y = _
    unfold FX1_copy_b42
    rw [if_pos (by decide)]) 0 (fun _ => 0, fun _ => 0) (by omega) ⟨fun i hi => absurd hi (Nat.not_lt_zero i), fun i hi => absurd hi (Nat.not_lt_zero i)⟩
  refine ⟨r.1, r.2, ?_, h2.1, h2.2⟩
  have h3 : loopC (fun (s : Int32 × (Nat → Int32) × (Nat → Int32)) => FX1_copy_b42 c l s.1 s.2.1 s.2.2) (0, (fun _ => 0), (fun _ => 0)) = some r := h1
  unfold FX1_copy
  rw [h3, bd2_t]
theorem image_law {hI : Nat → Int32} {im : Nat → Option ImT} (h : Cur T M V all t lies ca la year) (hTF : t 378 = t 78 ∧ t 379 = t 79) (hC : ∀ i, i < 2 → ImC all hI i (im i)) (p1 : Int32) : ∃ ans im' all' hI', FX0_image im t (nI (T 114)) V lies year ca la p1 = some (ans, im') ∧ FX8_image all hI p1 = some (ans, all', hI') ∧ Cur T M V all' t lies ca la year ∧ ∀ i, i < 2 → ImC all' hI' i (im' i) := by
  rcases rng p1 (n := 2) (by omega) with ⟨q, hq, rfl⟩ | hp
  · obtain ⟨all', hI', e8, h1, h2, h3, h4⟩ := image8 h.2.1 hq hI
    obtain ⟨c1, l1, ec, g1, g2⟩ := copy8 ca la
    refine ⟨0, (fun j => if j = q then some (t, nI (T 114), V, lies, year, c1, l1) else im j), all', hI', ?_, e8, h.setA h1, fun i hi => ?_⟩
    · unfold FX0_image
      rw [show FX0_in (nI q).toInt64 0 1 = some (decide (0 ≤ (nI q).toInt ∧ (nI q).toInt ≤ 1)) from inL (by decide) (by decide), decide_eq_true (show 0 ≤ (nI q).toInt ∧ (nI q).toInt ≤ 1 by rw [toN (by omega)]; omega), bd1_s, if_neg (by decide), rd_n (by omega) (by omega), bd1_s, ec, bd2_s, cl_n (by omega)]
    · rw [h4]
      show ImC all' _ i (if i = q then _ else im i)
      by_cases c : i = q
      · rw [if_pos c, c]
        exact ⟨up_t rfl, T, M, h2, (h.setA (fun k _ => rfl)).setC g1 g2, rfl, hTF⟩
      · rw [if_neg c]
        have hc := hC i hi
        revert hc
        cases im i with
        | none => exact fun hc => (up_f c).trans hc
        | some x => exact fun ⟨k1, U, M', k2, k3⟩ => ⟨(up_f c).trans k1, U, M', h3 i U hi c k2, k3⟩
  · rw [show ((2 : Nat) : Int) - 1 = 1 by omega] at hp
    refine ⟨-2, im, all, hI, ?_, ?_, h, hC⟩
    · unfold FX0_image
      rw [show FX0_in p1.toInt64 0 1 = some (decide (0 ≤ p1.toInt ∧ p1.toInt ≤ 1)) from inL (by decide) (by decide), decide_eq_false hp, bd1_s, if_pos (by decide)]
    · unfold FX8_image
      rw [show FX8_within p1.toInt64 0 1 = some (decide (0 ≤ p1.toInt ∧ p1.toInt ≤ 1)) from wiL (by decide) (by decide), decide_eq_false hp, bd1_s, if_pos (by decide)]
theorem restore_law {hI : Nat → Int32} {im : Nat → Option ImT} (h : Cur T M V all t lies ca la year) (hTF : t 378 = t 78 ∧ t 379 = t 79) (hC : ∀ i, i < 2 → ImC all hI i (im i)) (p1 : Int32) : ∃ ans q_t q_V q_l q_y q_c q_la all' T' M', FX0_restore im t (nI (T 114)) V lies year ca la p1 = some (ans, q_t, nI (T' 114), q_V, q_l, q_y, q_c, q_la) ∧ FX8_restore all hI p1 = some (ans, all') ∧ Cur T' M' q_V all' q_t q_l q_c q_la q_y ∧ (q_t 378 = q_t 78 ∧ q_t 379 = q_t 79) ∧ ∀ i, i < 2 → ImC all' hI i (im i) := by
  rcases rng p1 (n := 2) (by omega) with ⟨q, hq, rfl⟩ | hp
  · have hc := hC q hq
    have e9 : FX0_restore im t (nI (T 114)) V lies year ca la (nI q) = match im q with
        | none => some (-5, t, nI (T 114), V, lies, year, ca, la)
        | some x => FX0_restore_c x := by
      unfold FX0_restore
      rw [show FX0_in (nI q).toInt64 0 1 = some (decide (0 ≤ (nI q).toInt ∧ (nI q).toInt ≤ 1)) from inL (by decide) (by decide), decide_eq_true (show 0 ≤ (nI q).toInt ∧ (nI q).toInt ≤ 1 by rw [toN (by omega)]; omega), bd1_s, if_neg (by decide), rd_n (by omega) (by omega), bd1_s, cl_n (by omega)]
      cases im q <;> rfl
    cases ho : im q with
    | none =>
      rw [ho] at hc e9
      refine ⟨-5, t, V, lies, year, ca, la, all, T, M, e9, ?_, h, hTF, hC⟩
      have hc : hI q = 0 := hc
      unfold FX8_restore
      rw [show FX8_within (nI q).toInt64 0 1 = some (decide (0 ≤ (nI q).toInt ∧ (nI q).toInt ≤ 1)) from wiL (by decide) (by decide), decide_eq_true (show 0 ≤ (nI q).toInt ∧ (nI q).toInt ≤ 1 by rw [toN (by omega)]; omega), bd1_s, if_neg (by decide), rdn (by omega) (by omega) hc, bd1_s, if_pos rfl]
    | some x =>
      rw [ho] at hc e9
      obtain ⟨k1, U, M', k2, k3, k4, k5⟩ := hc
      obtain ⟨all', e8, h1, h2⟩ := restore8 k2 hq k1
      obtain ⟨c1, l1, ec, g1, g2⟩ := copy8 x.2.2.2.2.2.1 x.2.2.2.2.2.2
      refine ⟨0, x.1, x.2.2.1, x.2.2.2.1, x.2.2.2.2.1, c1, l1, all', U, M', ?_, e8, (k3.setA h1).setC g1 g2, k5, fun i hi => ?_⟩
      · rw [e9]
        show FX0_restore_c x = _
        unfold FX0_restore_c
        rw [ec, bd2_s, k4]
      · have hc := hC i hi
        revert hc
        cases im i with
        | none => exact id
        | some y => exact fun ⟨r1, W, N, r2, r3⟩ => ⟨r1, W, N, h2 i W hi r2, r3⟩
  · rw [show ((2 : Nat) : Int) - 1 = 1 by omega] at hp
    refine ⟨-2, t, V, lies, year, ca, la, all, T, M, ?_, ?_, h, hTF, hC⟩
    · unfold FX0_restore
      rw [show FX0_in p1.toInt64 0 1 = some (decide (0 ≤ p1.toInt ∧ p1.toInt ≤ 1)) from inL (by decide) (by decide), decide_eq_false hp, bd1_s, if_pos (by decide)]
    · unfold FX8_restore
      rw [show FX8_within p1.toInt64 0 1 = some (decide (0 ≤ p1.toInt ∧ p1.toInt ≤ 1)) from wiL (by decide) (by decide), decide_eq_false hp, bd1_s, if_pos (by decide)]
/-- what the images hold stays, as long as their parts of the numbers do -/
theorem ImC.cong {all' hI : Nat → Int32} {i : Nat} {o : Option ImT} (h : ImC all hI i o) (hA : ∀ k, 531 ≤ k → all' k = all k) : ImC all' hI i o := by
  revert h
  cases o with
  | none => exact id
  | some x => exact fun ⟨k1, U, M', k2, k3⟩ => ⟨k1, U, M', fun k hk => (hA _ (by omega)).trans (k2 k hk), k3⟩
end P90
