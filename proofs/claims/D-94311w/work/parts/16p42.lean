set_option maxRecDepth 100000
/-! a hole too few -/
theorem pig : ∀ n (f : Nat → Nat), (∀ i, i ≤ n → f i < n) → ∃ i j, i < j ∧ j ≤ n ∧ f i = f j := by
  intro n
  induction n with
  | zero => intro f h; exact absurd (h 0 (Nat.le_refl 0)) (Nat.not_lt_zero _)
  | succ n ih =>
    intro f h
    by_cases c : ∃ i, i ≤ n ∧ f i = f (n + 1)
    · obtain ⟨i, hi, e⟩ := c
      exact ⟨i, n + 1, by omega, Nat.le_refl _, e⟩
    · have hn : ∀ i, i ≤ n → f i ≠ f (n + 1) := fun i hi e => c ⟨i, hi, e⟩
      have ha := h (n + 1) (Nat.le_refl _)
      obtain ⟨i, j, h1, h2, h3⟩ := ih (fun i => if f i = n then f (n + 1) else f i) (fun i hi => by
        have h5 := h i (by omega)
        have h6 := hn i hi
        show (if f i = n then f (n + 1) else f i) < n
        by_cases c1 : f i = n
        · rw [if_pos c1]; omega
        · rw [if_neg c1]; omega)
      refine ⟨i, j, h1, by omega, ?_⟩
      by_cases c1 : f i = n
      · by_cases c2 : f j = n
        · rw [c1, c2]
        · rw [if_pos c1, if_neg c2] at h3
          exact absurd h3.symm (hn j h2)
      · by_cases c2 : f j = n
        · rw [if_neg c1, if_pos c2] at h3
          exact absurd h3 (hn i (by omega))
        · rw [if_neg c1, if_neg c2] at h3
          exact h3
def itN (W : Nat → Nat) : Nat → Nat → Nat
  | 0, x => x
  | n + 1, x => itN W n (W x)
theorem itN_s (W : Nat → Nat) : ∀ n x, itN W (n + 1) x = W (itN W n x) := by
  intro n
  induction n with
  | zero => intro x; rfl
  | succ n ih => intro x; exact ih (W x)
theorem itN_add (W : Nat → Nat) (b : Nat) : ∀ a x, itN W (a + b) x = itN W a (itN W b x) := by
  induction b with
  | zero => intro a x; rfl
  | succ b ih => intro a x; exact ih a (W x)
theorem itN_lt {W : Nat → Nat} {n : Nat} (hW : ∀ i, i < n → W i < n) : ∀ k x, x < n → itN W k x < n := by
  intro k
  induction k with
  | zero => intro x hx; exact hx
  | succ k ih => intro x hx; exact ih (W x) (hW x hx)
theorem itN_inj {W : Nat → Nat} {n : Nat} (hW : ∀ i, i < n → W i < n) (hJ : ∀ i j, i < n → j < n → W i = W j → i = j) : ∀ k x y, x < n → y < n → itN W k x = itN W k y → x = y := by
  intro k
  induction k with
  | zero => intro x y _ _ h; exact h
  | succ k ih => intro x y hx hy h; exact hJ x y hx hy (ih (W x) (W y) (hW x hx) (hW y hy) h)
/-- the least that is so -/
theorem leastN (P : Nat → Prop) [DecidablePred P] : ∀ n, P n → ∃ m, m ≤ n ∧ P m ∧ ∀ j, j < m → ¬ P j := by
  have key : ∀ n k, (∀ j, j < k → ¬ P j) → P (k + n) → ∃ m, m ≤ k + n ∧ P m ∧ ∀ j, j < m → ¬ P j := by
    intro n
    induction n with
    | zero => intro k h hp; exact ⟨k, Nat.le_refl _, hp, h⟩
    | succ n ih =>
      intro k h hp
      by_cases c : P k
      · exact ⟨k, by omega, c, h⟩
      · obtain ⟨m, h1, h2, h3⟩ := ih (k + 1) (fun j hj => by
          by_cases e : j = k
          · rw [e]; exact c
          · exact h j (by omega)) (by rw [show k + 1 + n = k + (n + 1) by omega]; exact hp)
        exact ⟨m, by omega, h2, h3⟩
  intro n h
  obtain ⟨m, h1, h2, h3⟩ := key n 0 (fun j hj => absurd hj (Nat.not_lt_zero j)) (by rw [Nat.zero_add]; exact h)
  exact ⟨m, by omega, h2, h3⟩
/-- a ring: after c steps, and not before, it is there again -/
theorem ring {W : Nat → Nat} {n : Nat} (hW : ∀ i, i < n → W i < n) (hJ : ∀ i j, i < n → j < n → W i = W j → i = j) {x : Nat} (hx : x < n) : ∃ c, 1 ≤ c ∧ c ≤ n ∧ itN W c x = x ∧ ∀ j, 0 < j → j < c → itN W j x ≠ x := by
  obtain ⟨i, j, h1, h2, h3⟩ := pig n (fun k => itN W k x) (fun k _ => itN_lt hW k x hx)
  have h4 : itN W (j - i - 1 + 1) x = x := by
    rw [show j - i - 1 + 1 = j - i by omega]
    refine (itN_inj hW hJ i _ _ (itN_lt hW _ x hx) hx ?_)
    rw [← itN_add, show i + (j - i) = j by omega]
    exact h3.symm
  obtain ⟨m, m1, m2, m3⟩ := leastN (fun k => itN W (k + 1) x = x) (j - i - 1) h4
  refine ⟨m + 1, by omega, by omega, m2, fun k k1 k2 => ?_⟩
  have := m3 (k - 1) (by omega)
  rwa [show k - 1 + 1 = k by omega] at this
theorem fm_n : ∀ t, t < 2 → ∀ c, c < 41 → ∀ d, d < c → fmI (nI t - nI d) (nI c) = nI ((t + c - d) % c) := by decide +kernel
theorem mod_n : ∀ c, c < 41 → ∀ d, d < c → ((1 : Int32) - nI d + nI c) - ((1 : Int32) - nI d + nI c) / nI c * nI c = nI ((1 + c - d) % c) := by decide +kernel
theorem mask1 (m : Nat) : lN m &&& 1 = lN (m % 2) := fb_maskL m 1
theorem bitL {m w : Nat} (hm : m < 1099511627776) (hw : w < 40) : (lg_cmp ((shrL (lN m) (nI w)) &&& 1) 1 = 0) ↔ m.testBit w = true := by
  rw [shrL_n (by omega) (by omega), mask1, bit_iff, lg_eq]
  cases m.testBit w with
  | true => rw [if_pos rfl]; exact ⟨fun _ => rfl, fun _ => rfl⟩
  | false => rw [if_neg Bool.false_ne_true]; exact ⟨fun z => absurd z (by decide), fun z => absurd z Bool.false_ne_true⟩
theorem orL {m w : Nat} (hw : w < 40) : lN m ||| shlL 1 (nI w) = lN (m ||| 2 ^ w) := by
  rw [show (1 : Int64) = lN 1 from rfl, shlL_n 1 (by omega), fb_orL, Nat.one_mul]
theorem fromL {v : Int64} {n : Nat} (h : 0 ≤ v.toInt ∧ v.toInt ≤ (n : Int) - 1) (hn : n < 100) : ∃ w, w < n ∧ v = lN w := by
  refine ⟨v.toInt.toNat, by omega, e_l ?_⟩
  rw [lNt (by omega)]
  omega
theorem wiV {v : Int64} {n : Nat} (hn : n < 2147483648) : FX8_within v 0 (nD n).toInt64 = some (decide (0 ≤ v.toInt ∧ v.toInt ≤ (n : Int) - 1)) := by rw [wi_eq, w64, toD hn]; rfl
theorem inV {v : Int64} {n : Nat} (hn : n < 2147483648) : FX0_in v 0 (nD n).toInt64 = some (decide (0 ≤ v.toInt ∧ v.toInt ≤ (n : Int) - 1)) := by rw [in_eq, w64, toD hn]; rfl
/-- what is wanted, so far -/
def WantI (n : Nat) (w0 w8 wb : Nat → Int32) (m k : Nat) (W : Nat → Nat) : Prop :=
  (∀ j, j < k → W j < n ∧ w0 j = nI (W j) ∧ w8 j = nI (W j)) ∧ (∀ i j, i < j → j < k → W i ≠ W j) ∧ m < 1099511627776 ∧ ∀ v, v < n → ((m.testBit v = true ↔ ∃ i, i < k ∧ W i = v) ∧ (m.testBit v = false → wb v = nM) ∧ (m.testBit v = true → wb v ≠ nM))
theorem WantI.add {n m k x : Nat} {w0 w8 wb : Nat → Int32} {W : Nat → Nat} (h : WantI n w0 w8 wb m k W) (hx : x < n) (hn : n ≤ 40) (hk : k < 40) (hb : m.testBit x = false) : WantI n (upd w0 k (nI x)) (upd w8 k (nI x)) (upd wb x (nI k)) (m ||| 2 ^ x) (k + 1) (up W k x) := by
  obtain ⟨h1, h2, h3, h4⟩ := h
  refine ⟨fun j hj => ?_, fun i j hij hj => ?_, ?_, fun v hv => ⟨?_, ?_, ?_⟩⟩
  · by_cases c : j = k
    · rw [upn_t c, up_t c, up_t c]; exact ⟨hx, rfl, rfl⟩
    · rw [upn_f c, up_f c, up_f c]; exact h1 j (by omega)
  · rw [upn_f (show i ≠ k by omega)]
    by_cases c : j = k
    · rw [upn_t c]
      intro e
      have := (h4 x hx).1.mpr ⟨i, by omega, e⟩
      rw [hb] at this
      exact Bool.false_ne_true this
    · rw [upn_f c]; exact h2 i j hij (by omega)
  · exact Nat.or_lt_two_pow (n := 40) h3 (Nat.pow_lt_pow_right (by decide) (by omega))
  · rw [Nat.testBit_or, Nat.testBit_two_pow, Bool.or_eq_true, decide_eq_true_eq]
    constructor
    · rintro (h | rfl)
      · obtain ⟨i, hi, e⟩ := (h4 v hv).1.mp h
        exact ⟨i, by omega, by rw [upn_f (by omega)]; exact e⟩
      · exact ⟨k, by omega, upn_t rfl⟩
    · rintro ⟨i, hi, e⟩
      by_cases c : i = k
      · rw [upn_t c] at e; exact Or.inr e
      · rw [upn_f c] at e; exact Or.inl ((h4 v hv).1.mpr ⟨i, by omega, e⟩)
  · rw [Nat.testBit_or, Nat.testBit_two_pow, Bool.or_eq_false_iff, decide_eq_false_iff_not]
    rintro ⟨a, b⟩
    rw [up_f (fun z => b z.symm)]
    exact (h4 v hv).2.1 a
  · intro hh
    by_cases c : v = x
    · rw [up_t c]
      intro z
      have := n_neM (a := k) (by omega)
      rw [z] at this
      exact this.mp rfl
    · rw [up_f c]
      rw [Nat.testBit_or, Nat.testBit_two_pow, decide_eq_false (fun z => c z.symm), Bool.or_false] at hh
      exact (h4 v hv).2.2 hh
section P42
variable {rsort rmany rowSort rowMany : Nat → Int32} {nums : Nat → Nat → Int64} {numbers : Nat → Int64}
theorem fault_wall (hN : NumC rsort rmany nums rowSort rowMany numbers) {r : Nat} (hr : r < 4) (q : Int32) (w0 wb w8 : Nat → Int32) : ∃ ans w0' wb' w8', FX0_wallFault w0 wb rsort rmany nums (nI r) q = some (ans, w0', wb') ∧ FX8_laysWall w8 rowSort rowMany numbers (nI r) q = some (ans, w8') ∧ (ans = 0 → ∃ n m W, n ≤ 40 ∧ q = nI n ∧ WantI n w0' w8' wb' m n W) := by
  have e0 : FX0_isNumbers (nI r) = some true := by
    unfold FX0_isNumbers
    rw [inL (a := 0) (b := 3) (by decide) (by decide), bd1_s, decide_eq_true (by rw [toN (by omega)]; omega)]
  have al4 : alg 4 (nI r) = some () := by rw [show (4 : Int32) = nI 4 from rfl, al_n hr (by omega)]
  have e1 : FX0_in q.toInt64 1 40 = some (decide (1 ≤ q.toInt ∧ q.toInt ≤ 40)) := inL (by decide) (by decide)
  have e2 : FX8_within q.toInt64 1 40 = some (decide (1 ≤ q.toInt ∧ q.toInt ≤ 40)) := wiL (by decide) (by decide)
  by_cases hq : 1 ≤ q.toInt ∧ q.toInt ≤ 40
  · rw [decide_eq_true hq] at e1 e2
    obtain ⟨n, hn, rfl⟩ : ∃ n, (1 ≤ n ∧ n ≤ 40) ∧ q = nI n := ⟨q.toInt.toNat, by omega, e_i (by rw [toN (by omega)]; omega)⟩
    obtain ⟨hr1, hr2⟩ := hN r hr
    have g8 : rd 4 rowSort (nI r) = some (rsort r) := rdn hr (by omega) hr1
    have cr : (nI r).toNatClampNeg = r := cl_n (by omega)
    rcases hr2 with hr2 | ⟨s, cnt, hs, hcnt, g1, g2, g3, g4⟩
    · refine ⟨-6, w0, wb, w8, ?_, ?_, fun z => absurd z (by decide)⟩
      · unfold FX0_wallFault
        rw [e0, bd1_s, if_neg (by decide), e1, bd1_s, if_neg (by decide), al4, bd0_s, cr, if_pos (show rsort r = -1 from hr2)]
      · unfold FX8_laysWall
        rw [e2, bd1_s, if_neg (by decide), g8, bd1_s, if_pos (show rsort r = -1 from hr2)]
    · have hs1 : ¬ rsort r = -1 := by rw [g1, show (-1 : Int32) = nM from rfl, n_neM (by omega)]; exact id
      have f1 := numMany_n hs hcnt g1 g2
      have f2 : rd 4 rowMany (nI r) = some (nI cnt) := rdn hr (by omega) g3
      by_cases hc : n ≤ cnt
      · have hc' : nI n ≤ nI cnt := by rw [le_t hc (by omega)]; trivial
        -- none is wanted
        obtain ⟨wb1, k1, k2⟩ := up_rule (B := fun (s : Int32 × (Nat → Int32)) => FX0_wallFault_b58 (nI n) s.1 s.2) (fun i (a : Nat → Int32) => (nI i, a)) (fun i a => ∀ v, v < i → a v = nM) (fun r => ∀ v, v < n → r v = nM) n (by
          intro i a hi ha
          refine Or.inl ⟨upd a i nM, ?_, fun v hv => ?_⟩
          · show FX0_wallFault_b58 (nI n) (nI i) a = _
            unfold FX0_wallFault_b58
            rw [if_neg (by rw [le_f (by omega) (by omega)]; exact id), wr_n (by omega) (by omega), bd1_s, show nI i + 1 = nI (i + 1) from n_add i 1]
            rfl
          · by_cases c : v = i
            · rw [up_t c]
            · rw [up_f c]; exact ha v (by omega)) (by
          intro a ha
          refine ⟨a, ?_, ha⟩
          show FX0_wallFault_b58 (nI n) (nI n) a = _
          unfold FX0_wallFault_b58
          exact if_pos (Int32.le_refl _)) 0 wb (by omega) (fun v hv => absurd hv (Nat.not_lt_zero v))
        have key := loop2 (B1 := fun (s : Int32 × (Nat → Int32) × (Nat → Int32)) => FX0_wallFault_b78 rsort rmany nums (nI r) (nI n) s.1 s.2.1 s.2.2) (B2 := fun (s : Int64 × Int32 × (Nat → Int32)) => FX8_laysWall_b46 numbers (nI r) (nI n) s.1 s.2.1 s.2.2)
          (fun f s1 s2 => ∃ k m a0 ab a8 W, k + f = n ∧ s1 = (nI k, a0, ab) ∧ s2 = (lN m, nI k, a8) ∧ WantI n a0 a8 ab m k W)
          (fun r1 r2 => (∃ a0 ab a8, r1 = .inl (a0, ab) ∧ r2 = .inl a8) ∨ ∃ a0 ab a8 m W, r1 = .inr (a0, ab) ∧ r2 = .inr a8 ∧ WantI n a0 a8 ab m n W) (by
          rintro f _ _ ⟨k, m, a0, ab, a8, W, hk, rfl, rfl, hI⟩
          have f3 := numAt_n (nu := nums) hs hcnt g1 g2 (show k < cnt by omega)
          have g5 := g4 k (by omega)
          have f4 : rd 160 numbers (40 * nI r + nI k) = some (numbers (40 * r + k)) := by
            rw [show (40 : Int32) = nI 40 from rfl, n_mul, n_add]
            exact rdn (by omega) (by omega) rfl
          rw [← g5] at f3
          generalize numbers (40 * r + k) = v at *
          have nn : ¬ nI n ≤ nI k := by rw [le_f (by omega) (by omega)]; exact id
          have i0 : FX0_in v 0 (Int32.toInt64 (nI n - 1)) = _ := inV (v := v) (n := n) (by omega)
          have i8 : FX8_within v 0 (Int32.toInt64 (nI n - 1)) = _ := wiV (v := v) (n := n) (by omega)
          by_cases hv : 0 ≤ v.toInt ∧ v.toInt ≤ (n : Int) - 1
          · rw [decide_eq_true hv] at i0 i8
            obtain ⟨x, hx, rfl⟩ := fromL hv (by omega)
            have j1 : rd 40 ab (nI x) = some (ab x) := rdn (by omega) (by omega) rfl
            cases hb : m.testBit x with
            | true =>
              have z := (hI.2.2.2 x hx).2.2 hb
              refine Or.inr ⟨.inl (a0, ab), .inl a8, ?_, ?_, Or.inl ⟨a0, ab, a8, rfl, rfl⟩⟩
              · show FX0_wallFault_b78 rsort rmany nums (nI r) (nI n) (nI k) a0 ab = _
                unfold FX0_wallFault_b78
                rw [if_neg nn, al4, bd0_s, cr, f3, bd1_s, i0, bd1_s, if_neg (by decide), l2i, j1, bd1_s, if_neg (show ¬ ab x = -1 from z)]
              · show FX8_laysWall_b46 numbers (nI r) (nI n) (lN m) (nI k) a8 = _
                unfold FX8_laysWall_b46
                rw [if_neg nn, f4, bd1_s, i8, bd1_s, if_neg (by decide), l2i, if_pos ((bitL hI.2.2.1 (by omega)).mpr hb)]
            | false =>
              have z := (hI.2.2.2 x hx).2.1 hb
              refine Or.inl ⟨(nI (k + 1), upd a0 k (nI x), upd ab x (nI k)), (lN (m ||| 2 ^ x), nI (k + 1), upd a8 k (nI x)), ?_, ?_, k + 1, m ||| 2 ^ x, _, _, _, _, by omega, rfl, rfl, hI.add hx (by omega) (by omega) hb⟩
              · show FX0_wallFault_b78 rsort rmany nums (nI r) (nI n) (nI k) a0 ab = _
                unfold FX0_wallFault_b78
                rw [if_neg nn, al4, bd0_s, cr, f3, bd1_s, i0, bd1_s, if_neg (by decide), l2i, j1, bd1_s, if_pos (show ab x = -1 from z), wr_n (by omega) (by omega), bd1_s, wr_n (by omega) (by omega), bd1_s, show nI k + 1 = nI (k + 1) from n_add k 1]
              · show FX8_laysWall_b46 numbers (nI r) (nI n) (lN m) (nI k) a8 = _
                unfold FX8_laysWall_b46
                rw [if_neg nn, f4, bd1_s, i8, bd1_s, if_neg (by decide), l2i, if_neg (fun h => by rw [(bitL hI.2.2.1 (by omega)).mp h] at hb; exact absurd hb.symm Bool.false_ne_true), wr_n (by omega) (by omega), bd1_s, orL (by omega), show nI k + 1 = nI (k + 1) from n_add k 1]
          · rw [decide_eq_false hv] at i0 i8
            refine Or.inr ⟨.inl (a0, ab), .inl a8, ?_, ?_, Or.inl ⟨a0, ab, a8, rfl, rfl⟩⟩
            · show FX0_wallFault_b78 rsort rmany nums (nI r) (nI n) (nI k) a0 ab = _
              unfold FX0_wallFault_b78
              rw [if_neg nn, al4, bd0_s, cr, f3, bd1_s, i0, bd1_s, if_pos (by decide)]
            · show FX8_laysWall_b46 numbers (nI r) (nI n) (lN m) (nI k) a8 = _
              unfold FX8_laysWall_b46
              rw [if_neg nn, f4, bd1_s, i8, bd1_s, if_pos (by decide)]) (by
          rintro _ _ ⟨k, m, a0, ab, a8, W, hk, rfl, rfl, hI⟩
          obtain rfl : k = n := by omega
          refine ⟨.inr (a0, ab), .inr a8, ?_, ?_, Or.inr ⟨a0, ab, a8, m, W, rfl, rfl, hI⟩⟩
          · show FX0_wallFault_b78 rsort rmany nums (nI r) (nI k) (nI k) a0 ab = _
            unfold FX0_wallFault_b78
            exact if_pos (Int32.le_refl _)
          · show FX8_laysWall_b46 numbers (nI r) (nI k) (lN m) (nI k) a8 = _
            unfold FX8_laysWall_b46
            exact if_pos (Int32.le_refl _))
        obtain ⟨r1, r2, l1, l2, l3⟩ := key n (nI 0, w0, wb1) (lN 0, nI 0, w8) ⟨0, 0, w0, wb1, w8, fun _ => 0, by omega, rfl, rfl, fun j hj => absurd hj (Nat.not_lt_zero j), fun i j _ hj => absurd hj (Nat.not_lt_zero j), by decide, fun v hv => ⟨⟨fun z => absurd z (by rw [Nat.zero_testBit]; exact Bool.false_ne_true), fun ⟨i, hi, _⟩ => absurd hi (Nat.not_lt_zero i)⟩, fun _ => k2 v hv, fun z => absurd z (by rw [Nat.zero_testBit]; exact Bool.false_ne_true)⟩⟩
        have go0 : ∀ z, bdS2 (some r1) (un2 fun a_wants_93 a_wantedBy_94 => some ((-3 : Int32), a_wants_93, a_wantedBy_94)) (un2 fun a_wants_95 a_wantedBy_96 => some (0, a_wants_95, a_wantedBy_96)) = z → FX0_wallFault w0 wb rsort rmany nums (nI r) (nI n) = z := by
          intro z hz
          unfold FX0_wallFault
          rw [e0, bd1_s, if_neg (by decide), e1, bd1_s, if_neg (by decide), al4, bd0_s, cr, if_neg hs1, bd0_s, f1, bd1_s, if_pos hc', show ((0 : Int32), wb) = (nI 0, wb) from rfl, k1, bd1_s, show ((0 : Int32), w0, wb1) = (nI 0, w0, wb1) from rfl, l1]
          exact hz
        have go8 : ∀ z, bdS2 (some r2) (un1 fun a_wants_68 => some ((-3 : Int32), a_wants_68)) (un1 fun a_wants_69 => some (0, a_wants_69)) = z → FX8_laysWall w8 rowSort rowMany numbers (nI r) (nI n) = z := by
          intro z hz
          unfold FX8_laysWall
          rw [e2, bd1_s, if_neg (by decide), g8, bd1_s, if_neg hs1, f2, bd1_s, if_pos hc', show ((0 : Int64), (0 : Int32), w8) = (lN 0, nI 0, w8) from rfl, l2]
          exact hz
        rcases l3 with ⟨a0, ab, a8, rfl, rfl⟩ | ⟨a0, ab, a8, m, W, rfl, rfl, hI⟩
        · exact ⟨-3, a0, ab, a8, go0 _ rfl, go8 _ rfl, fun z => absurd z (by decide)⟩
        · exact ⟨0, a0, ab, a8, go0 _ rfl, go8 _ rfl, fun _ => ⟨n, m, W, hn.2, rfl, hI⟩⟩
      · have hc' : ¬ nI n ≤ nI cnt := by rw [le_f (by omega) (by omega)]; exact id
        refine ⟨-7, w0, wb, w8, ?_, ?_, fun z => absurd z (by decide)⟩
        · unfold FX0_wallFault
          rw [e0, bd1_s, if_neg (by decide), e1, bd1_s, if_neg (by decide), al4, bd0_s, cr, if_neg hs1, bd0_s, f1, bd1_s, if_neg hc']
        · unfold FX8_laysWall
          rw [e2, bd1_s, if_neg (by decide), g8, bd1_s, if_neg hs1, f2, bd1_s, if_neg hc']
  · rw [decide_eq_false hq] at e1 e2
    refine ⟨-3, w0, wb, w8, ?_, ?_, fun z => absurd z (by decide)⟩
    · unfold FX0_wallFault
      rw [e0, bd1_s, if_neg (by decide), e1, bd1_s, if_pos (by decide)]
    · unfold FX8_laysWall
      rw [e2, bd1_s, if_pos (by decide)]
/-- the years of a wall -/
theorem wallYears_law {n m : Nat} {w0 w8 wb : Nat → Int32} {W : Nat → Nat} (hn : n ≤ 40) (hI : WantI n w0 w8 wb m n W) : ∃ y, FX0_wallYears w0 (nI n) = some y ∧ FX8_wallYears w8 (nI n) = some y := by
  have key := loop2 (B1 := fun (s : Int32 × Int32) => FX0_wallYears_b4 w0 (nI n) s.1 s.2) (B2 := fun (s : Int32 × Int32) => FX8_wallYears_b4 w8 (nI n) s.1 s.2)
    (fun f s1 s2 => ∃ k y, k + f = n ∧ s1 = (y, nI k) ∧ s2 = (y, nI k)) (fun r1 r2 => r1 = r2) (by
    rintro f _ _ ⟨k, y, hk, rfl, rfl⟩
    have nn : ¬ nI n ≤ nI k := by rw [le_f (by omega) (by omega)]; exact id
    obtain ⟨x1, x2, x3⟩ := hI.1 k (by omega)
    obtain ⟨z1, z2, z3⟩ := hI.1 (W k) x1
    have a0 : rd 40 w0 (nI k) = some (nI (W k)) := rdn (by omega) (by omega) x2
    have a8 : rd 40 w8 (nI k) = some (nI (W k)) := rdn (by omega) (by omega) x3
    have b0 : rd 40 w0 (nI (W k)) = some (nI (W (W k))) := rdn (by omega) (by omega) z2
    have b8 : rd 40 w8 (nI (W k)) = some (nI (W (W k))) := rdn (by omega) (by omega) z3
    have ek : nI k + 1 = nI (k + 1) := n_add k 1
    have mx : ∀ v : Int32, FX8_wallYears_j42 y (nI k) v = some (.inl (mxI y v, nI (k + 1))) := by
      intro v
      unfold FX8_wallYears_j42 FX8_wallYears_j56 FX8_wallYears_j57 mxI
      rw [ek]
      by_cases c : v ≤ y
      · rw [if_pos c, if_neg (Int32.not_lt.mpr c)]
      · rw [if_neg c, if_pos (Int32.not_le.mp c)]
    by_cases c1 : nI (W k) = nI k
    · refine Or.inl ⟨(y, nI (k + 1)), (y, nI (k + 1)), ?_, ?_, k + 1, y, by omega, rfl, rfl⟩
      · show FX0_wallYears_b4 w0 (nI n) y (nI k) = _
        unfold FX0_wallYears_b4 FX0_wallYears_j44
        rw [if_neg nn, a0, bd1_s, if_pos c1, ek]
      · show FX8_wallYears_b4 w8 (nI n) y (nI k) = _
        unfold FX8_wallYears_b4 FX8_wallYears_j57
        rw [if_neg nn, a8, bd1_s, if_pos c1, ek]
    · by_cases c2 : nI (W (W k)) = nI k
      · refine Or.inl ⟨(mxI y 1, nI (k + 1)), (mxI y 1, nI (k + 1)), ?_, ?_, k + 1, _, by omega, rfl, rfl⟩
        · show FX0_wallYears_b4 w0 (nI n) y (nI k) = _
          unfold FX0_wallYears_b4 FX0_wallYears_j40 FX0_wallYears_j44
          rw [if_neg nn, a0, bd1_s, if_neg c1, bd1_s, b0, bd1_s, if_pos c2, ek]
        · show FX8_wallYears_b4 w8 (nI n) y (nI k) = _
          unfold FX8_wallYears_b4
          rw [if_neg nn, a8, bd1_s, if_neg c1, bd1_s, b8, bd1_s, if_pos c2, mx]
      · refine Or.inl ⟨(mxI y 2, nI (k + 1)), (mxI y 2, nI (k + 1)), ?_, ?_, k + 1, _, by omega, rfl, rfl⟩
        · show FX0_wallYears_b4 w0 (nI n) y (nI k) = _
          unfold FX0_wallYears_b4 FX0_wallYears_j40 FX0_wallYears_j44
          rw [if_neg nn, a0, bd1_s, if_neg c1, bd1_s, b0, bd1_s, if_neg c2, ek]
        · show FX8_wallYears_b4 w8 (nI n) y (nI k) = _
          unfold FX8_wallYears_b4
          rw [if_neg nn, a8, bd1_s, if_neg c1, bd1_s, b8, bd1_s, if_neg c2, mx]) (by
    rintro _ _ ⟨k, y, hk, rfl, rfl⟩
    obtain rfl : k = n := by omega
    refine ⟨y, y, ?_, ?_, rfl⟩
    · show FX0_wallYears_b4 w0 (nI k) y (nI k) = _
      unfold FX0_wallYears_b4
      exact if_pos (Int32.le_refl _)
    · show FX8_wallYears_b4 w8 (nI k) y (nI k) = _
      unfold FX8_wallYears_b4
      exact if_pos (Int32.le_refl _))
  obtain ⟨y, _, l1, l2, rfl⟩ := key n (0, nI 0) (0, nI 0) ⟨0, 0, by omega, rfl, rfl⟩
  refine ⟨y, ?_, ?_⟩
  · unfold FX0_wallYears
    rw [show ((0 : Int32), (0 : Int32)) = (0, nI 0) from rfl, l1, bd1_s]
  · unfold FX8_wallYears
    rw [show ((0 : Int32), (0 : Int32)) = (0, nI 0) from rfl, l2, bd1_s]
theorem wall_law (hN : NumC rsort rmany nums rowSort rowMany numbers) (p q : Int32) (w0 wb w8 : Nat → Int32) : ∃ ans w0' wb' w8', FX0_wall w0 wb rsort rmany nums p q = some (ans, w0', wb') ∧ FX8_wall w8 rowSort rowMany numbers p q = some (ans, w8') := by
  have e8 : FX8_within p.toInt64 0 3 = some (decide (0 ≤ p.toInt ∧ p.toInt ≤ 3)) := wiL (by decide) (by decide)
  rcases rng p (n := 4) (by omega) with ⟨r, hr, rfl⟩ | hp
  · rw [decide_eq_true (by rw [toN (by omega)]; omega)] at e8
    obtain ⟨ans, a0, ab, a8, h1, h2, h3⟩ := fault_wall hN hr q w0 wb w8
    by_cases c : ans = 0
    · obtain ⟨n, m, W, hn, rfl, hI⟩ := h3 c
      obtain ⟨y, y1, y2⟩ := wallYears_law hn hI
      refine ⟨y, a0, ab, a8, ?_, ?_⟩
      · unfold FX0_wall
        rw [h1, bd3_s, if_pos c, y1, bd1_s]
      · unfold FX8_wall
        rw [e8, bd1_s, if_neg (by decide), h2, bd2_s, if_pos c, y2, bd1_s]
    · refine ⟨ans, a0, ab, a8, ?_, ?_⟩
      · unfold FX0_wall
        rw [h1, bd3_s, if_neg c]
      · unfold FX8_wall
        rw [e8, bd1_s, if_neg (by decide), h2, bd2_s, if_neg c]
  · have hp' : ¬ (0 ≤ p.toInt ∧ p.toInt ≤ 3) := fun z => hp (by omega)
    rw [decide_eq_false hp'] at e8
    refine ⟨-2, w0, wb, w8, ?_, ?_⟩
    · unfold FX0_wall FX0_wallFault FX0_isNumbers
      rw [inL (a := 0) (b := 3) (by decide) (by decide), bd1_s, decide_eq_false hp', bd1_s, if_pos (by decide), bd3_s, if_neg (by decide)]
    · unfold FX8_wall
      rw [e8, bd1_s, if_pos (by decide)]
end P42
