set_option maxRecDepth 100000
/-! open addressing: cells hold 0 or an entry's number and one -/
def NQ : Nat := 16384
def OA {K : Type} (H : K → Nat) (cell : Nat → Nat) (n : Nat) (key : Nat → K) : Prop :=
  (∀ q, q < NQ → cell q ≤ n) ∧ (∀ j, j < n → ∃ k, k < NQ ∧ cell ((H (key j) + k) % NQ) = j + 1 ∧ ∀ i, i < k → cell ((H (key j) + i) % NQ) ≠ 0) ∧ (∀ q q', q < NQ → q' < NQ → cell q = cell q' → cell q ≠ 0 → q = q') ∧ ∀ i j, i < n → j < n → key i = key j → i = j
theorem OA.lt {K : Type} {H : K → Nat} {key : Nat → K} {cell : Nat → Nat} {n : Nat} (h : OA H cell n key) : ∀ q, q < NQ → cell q ≤ n := h.1
theorem OA.at' {K : Type} {H : K → Nat} {key : Nat → K} {cell : Nat → Nat} {n : Nat} (h : OA H cell n key) : ∀ j, j < n → ∃ k, k < NQ ∧ cell ((H (key j) + k) % NQ) = j + 1 ∧ ∀ i, i < k → cell ((H (key j) + i) % NQ) ≠ 0 := h.2.1
theorem OA.inj {K : Type} {H : K → Nat} {key : Nat → K} {cell : Nat → Nat} {n : Nat} (h : OA H cell n key) : ∀ q q', q < NQ → q' < NQ → cell q = cell q' → cell q ≠ 0 → q = q' := h.2.2.1
theorem OA.dis {K : Type} {H : K → Nat} {key : Nat → K} {cell : Nat → Nat} {n : Nat} (h : OA H cell n key) : ∀ i j, i < n → j < n → key i = key j → i = j := h.2.2.2
theorem nq_lt (a : Nat) : a % NQ < NQ := Nat.mod_lt _ (by decide)
theorem OA.none {K : Type} {H : K → Nat} {key : Nat → K} {cell : Nat → Nat} (h : ∀ q, q < NQ → cell q = 0) : OA H cell 0 key :=
  ⟨fun q hq => by rw [h q hq]; exact Nat.le_refl 0, fun j hj => absurd hj (Nat.not_lt_zero j), fun q q' hq _ _ h0 => absurd (h q hq) h0, fun i _ hi => absurd hi (Nat.not_lt_zero i)⟩
theorem mod_inj {h k k' : Nat} (hk : k < NQ) (hk' : k' < NQ) (e : (h + k) % NQ = (h + k') % NQ) : k = k' := by
  unfold NQ at *
  omega
theorem OA.free {K : Type} {H : K → Nat} {key : Nat → K} {cell : Nat → Nat} {n : Nat} (h : OA H cell n key) (hn : n < NQ) (b : Nat) : ∃ k, k < NQ ∧ cell ((b + k) % NQ) = 0 := by
  by_cases c : ∃ k, k < NQ ∧ cell ((b + k) % NQ) = 0
  · exact c
  · exfalso
    have h0 : ∀ k, k < NQ → cell ((b + k) % NQ) ≠ 0 := fun k hk z => c ⟨k, hk, z⟩
    obtain ⟨i, j, h1, h2, h3⟩ := pig n (fun k => cell ((b + k) % NQ) - 1) (fun i hi => by
      have a1 := h0 i (by omega)
      have a2 := h.lt _ (nq_lt (b + i))
      show cell ((b + i) % NQ) - 1 < n
      omega)
    have a1 := h0 i (by omega)
    have a2 := h0 j (by omega)
    have a3 : cell ((b + i) % NQ) = cell ((b + j) % NQ) := by
      have : cell ((b + i) % NQ) - 1 = cell ((b + j) % NQ) - 1 := h3
      omega
    have := mod_inj (by omega) (by omega) (h.inj _ _ (nq_lt _) (nq_lt _) a3 a1)
    omega
/-- the first cell on the way that is free or holds p -/
theorem OA.find {K : Type} [DecidableEq K] {H : K → Nat} {key : Nat → K} {cell : Nat → Nat} {n : Nat} (h : OA H cell n key) (hn : n < NQ) (p : K) : ∃ k, k < NQ ∧ (cell ((H p + k) % NQ) = 0 ∨ key (cell ((H p + k) % NQ) - 1) = p) ∧ (∀ i, i < k → cell ((H p + i) % NQ) ≠ 0 ∧ key (cell ((H p + i) % NQ) - 1) ≠ p) ∧ ((∃ j, j < n ∧ key j = p ∧ cell ((H p + k) % NQ) = j + 1) ∨ ((∀ j, j < n → key j ≠ p) ∧ cell ((H p + k) % NQ) = 0)) := by
  obtain ⟨k0, hk0, hz⟩ := h.free hn (H p)
  obtain ⟨k, k1, k2, k3⟩ := leastN (fun k => cell ((H p + k) % NQ) = 0 ∨ key (cell ((H p + k) % NQ) - 1) = p) k0 (Or.inl hz)
  have k4 : ∀ i, i < k → cell ((H p + i) % NQ) ≠ 0 ∧ key (cell ((H p + i) % NQ) - 1) ≠ p := fun i hi => ⟨fun z => k3 i hi (Or.inl z), fun z => k3 i hi (Or.inr z)⟩
  refine ⟨k, by omega, k2, k4, ?_⟩
  by_cases c : cell ((H p + k) % NQ) = 0
  · refine Or.inr ⟨fun j hj e => ?_, c⟩
    obtain ⟨m, m1, m2, m3⟩ := h.at' j hj
    rw [e] at m2 m3
    rcases Nat.lt_trichotomy m k with d | d | d
    · have := (k4 m d).2
      rw [m2, Nat.add_sub_cancel] at this
      exact this e
    · rw [d, c] at m2; omega
    · exact m3 k d c
  · rcases k2 with z | z
    · exact absurd z c
    · have := h.lt _ (nq_lt (H p + k))
      exact Or.inl ⟨cell ((H p + k) % NQ) - 1, by omega, z, by omega⟩
/-- one more -/
theorem OA.add {K : Type} {H : K → Nat} {key : Nat → K} {cell : Nat → Nat} {n k : Nat} {p : K} (h : OA H cell n key) (hk : k < NQ) (h0 : cell ((H p + k) % NQ) = 0) (h1 : ∀ i, i < k → cell ((H p + i) % NQ) ≠ 0) (h2 : ∀ j, j < n → key j ≠ p) : OA H (up cell ((H p + k) % NQ) (n + 1)) (n + 1) (up key n p) := by
  refine ⟨fun q hq => ?_, fun j hj => ?_, fun q q' hq hq' e hz => ?_, fun i j hi hj e => ?_⟩
  · by_cases c : q = (H p + k) % NQ
    · rw [upn_t c]; exact Nat.le_refl _
    · rw [upn_f c]; have := h.lt q hq; omega
  · by_cases c : j = n
    · rw [upn_t c]
      refine ⟨k, hk, by rw [upn_t rfl, c], fun i hi => ?_⟩
      by_cases d : (H p + i) % NQ = (H p + k) % NQ
      · rw [upn_t d]; omega
      · rw [upn_f d]; exact h1 i hi
    · rw [upn_f c]
      obtain ⟨m, m1, m2, m3⟩ := h.at' j (by omega)
      refine ⟨m, m1, ?_, fun i hi => ?_⟩
      · by_cases d : (H (key j) + m) % NQ = (H p + k) % NQ
        · rw [d, h0] at m2; omega
        · rw [upn_f d]; exact m2
      · by_cases d : (H (key j) + i) % NQ = (H p + k) % NQ
        · rw [upn_t d]; omega
        · rw [upn_f d]; exact m3 i hi
  · have l1 := h.lt q hq
    have l2 := h.lt q' hq'
    by_cases c : q = (H p + k) % NQ
    · by_cases c' : q' = (H p + k) % NQ
      · rw [c, c']
      · rw [upn_t c, upn_f c'] at e; omega
    · by_cases c' : q' = (H p + k) % NQ
      · rw [upn_f c, upn_t c'] at e; omega
      · rw [upn_f c, upn_f c'] at e
        rw [upn_f c] at hz
        exact h.inj q q' hq hq' e hz
  · by_cases c : i = n
    · by_cases c' : j = n
      · omega
      · rw [upn_t c, upn_f c'] at e; exact absurd e.symm (h2 j (by omega))
    · by_cases c' : j = n
      · rw [upn_f c, upn_t c'] at e; exact absurd e (h2 i (by omega))
      · rw [upn_f c, upn_f c'] at e; exact h.dis i j (by omega) (by omega) e
/-- a loop that goes from cell to cell -/
theorem probe {ρ : Type} {B : Int32 → Option (Int32 ⊕ ρ)} {b k : Nat} {r : ρ} (hgo : ∀ i, i < k → B (nI ((b + i) % NQ)) = some (.inl (nI ((b + (i + 1)) % NQ)))) (hst : B (nI ((b + k) % NQ)) = some (.inr r)) (hb : b < NQ) : loopC (fun s => B s) (nI b) = some r := by
  have key : ∀ f i, i + f = k → loopC (fun s => B s) (nI ((b + i) % NQ)) = some r := by
    intro f
    induction f with
    | zero => intro i hi; obtain rfl : i = k := by omega
              exact loopC_inr (show (fun s => B s) _ = _ from hst)
    | succ f ih =>
      intro i hi
      rw [loopC_inl (show (fun s => B s) (nI ((b + i) % NQ)) = some (.inl (nI ((b + (i + 1)) % NQ))) from hgo i (by omega))]
      exact ih (i + 1) (by omega)
  have := key k 0 (by omega)
  rwa [Nat.add_zero, Nat.mod_eq_of_lt hb] at this
theorem nextq (b i : Nat) : (nI ((b + i) % NQ) + 1) &&& 16383 = nI ((b + (i + 1)) % NQ) := by
  rw [show nI ((b + i) % NQ) + 1 = nI ((b + i) % NQ + 1) from n_add _ 1, show (nI ((b + i) % NQ + 1) &&& 16383) = nI (((b + i) % NQ + 1) % 2 ^ 14) from by rw [show (16383 : Int32) = nI (2 ^ 14 - 1) from rfl, fa_and, Nat.and_two_pow_sub_one_eq_mod]]
  congr 1
  unfold NQ
  omega
/-- the way begins at the upper bits -/
def hs (x : Int64) : Nat := (x.toUInt64 >>> 50).toNat
theorem hs_lt (x : Int64) : hs x < NQ := by
  unfold hs NQ
  rw [UInt64.toNat_shiftRight]
  have := x.toUInt64.toNat_lt
  rw [show (50 : UInt64).toNat % 64 = 50 from rfl, Nat.shiftRight_eq_div_pow]
  omega
theorem u2l (u : UInt64) : u.toInt64 = lN u.toNat := by
  apply Int64.toBitVec_inj.mp
  apply BitVec.eq_of_toNat_eq
  show u.toNat = (BitVec.ofNat 64 u.toNat).toNat
  rw [BitVec.toNat_ofNat, Nat.mod_eq_of_lt u.toNat_lt]
theorem hs_n (x : Int64) : (ushL x 50).toInt32 = nI (hs x) := by
  show ((x.toUInt64 >>> 50).toInt64).toInt32 = _
  rw [u2l, l2i]
  rfl
