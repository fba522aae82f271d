set_option maxRecDepth 100000
/-! texts: what both readers see, byte by byte -/
theorem n_subG {a b : Nat} (h : b ≤ a) : nI a - nI b = nI (a - b) := (Int32.ofNat_sub a b h).symm
theorem loop_st {σ ρ : Type} {B : σ → Option (σ ⊕ ρ)} {s t : σ} {r : ρ} (h1 : B s = some (.inl t)) (h2 : loopC B t = some r) : loopC B s = some r := (loopC_inl h1).trans h2
theorem and255 (x : Int32) : ∃ k, k < 256 ∧ x &&& 255 = nI k := by
  have h : x = nI x.toBitVec.toNat := by
    apply Int32.toBitVec_inj.mp
    show x.toBitVec = BitVec.ofNat 32 x.toBitVec.toNat
    apply BitVec.eq_of_toNat_eq
    rw [BitVec.toNat_ofNat]
    exact (Nat.mod_eq_of_lt x.toBitVec.isLt).symm
  refine ⟨x.toBitVec.toNat % 256, Nat.mod_lt _ (by decide), ?_⟩
  exact (congrArg (fun y => y &&& 255) h).trans (fa_mask _ 8)
def cb (a8 : Nat → Int32) (k : Nat) : Nat := (a8 k).toNatClampNeg
def sm (n : Nat) (a8 : Nat → Int32) (k : Nat) : Bool := decide (k < n ∧ 97 ≤ cb a8 k ∧ cb a8 k ≤ 122)
def dg (n : Nat) (a8 : Nat → Int32) (k : Nat) : Bool := decide (k < n ∧ 48 ≤ cb a8 k ∧ cb a8 k ≤ 57)
theorem chr8 : ∀ c, c < 256 → FX8_isSmall (nI c) = some (decide (97 ≤ c ∧ c ≤ 122)) ∧ FX8_isDigit (nI c) = some (decide (48 ≤ c ∧ c ≤ 57)) := by decide +kernel
theorem none8 : FX8_isSmall nM = some false ∧ FX8_isDigit nM = some false := by decide +kernel
section P75
variable {n : Nat} {a0 a8 : Nat → Int32}
theorem cb_e (hT : TapeR a0 a8) {k : Nat} (hk : k < 400) : a8 k = nI (cb a8 k) ∧ cb a8 k < 256 ∧ a0 k &&& 255 = nI (cb a8 k) := by
  obtain ⟨c, h1, h2⟩ := and255 (a0 k)
  have h3 : a8 k = nI c := (hT k hk).trans h2
  have h4 : cb a8 k = c := by unfold cb; rw [h3, cl_n (by omega)]
  rw [h4]
  exact ⟨h3, h1, h2⟩
theorem see8_i (hT : TapeR a0 a8) (hn : n ≤ 400) {k : Nat} (hk : k < n) : FX8_see a8 (nI n) (nI k) = some (nI (cb a8 k)) := by
  unfold FX8_see
  rw [if_neg (by rw [le_f hk (by omega)]; exact id), rd_n (by omega) (by omega), bd1_s, (cb_e hT (by omega)).1]
theorem see8_o (hn : n ≤ 400) {k : Nat} (hk : n ≤ k) (hk2 : k ≤ 400) : FX8_see a8 (nI n) (nI k) = some nM := by
  unfold FX8_see
  rw [if_pos (by rw [le_t hk (by omega)]; trivial)]
  rfl
theorem see9_i (hT : TapeR a0 a8) (hn : n ≤ 400) {k : Nat} (hk : k < n) : FX9_see (nI n) a0 (nI k) = some (nI (cb a8 k)) := by
  unfold FX9_see
  rw [if_neg (by rw [le_f hk (by omega)]; exact id), rd_n (by omega) (by omega), bd1_s, (cb_e hT (by omega)).2.2]
theorem see9_o (hn : n ≤ 400) {k : Nat} (hk : n ≤ k) (hk2 : k ≤ 400) : FX9_see (nI n) a0 (nI k) = some (nI 0) := by
  unfold FX9_see
  rw [if_pos (by rw [le_t hk (by omega)]; trivial)]
  rfl
theorem sees (hT : TapeR a0 a8) (hn : n ≤ 400) {k : Nat} (hk : k ≤ 400) : ∃ x, FX8_see a8 (nI n) (nI k) = some x ∧ FX8_isSmall x = some (sm n a8 k) ∧ FX8_isDigit x = some (dg n a8 k) := by
  by_cases c : k < n
  · obtain ⟨h1, h2, h3⟩ := cb_e hT (show k < 400 by omega)
    refine ⟨_, see8_i hT hn c, ?_, ?_⟩
    · rw [(chr8 _ h2).1]
      exact congrArg some (decide_eq_decide.mpr ⟨fun h => ⟨c, h⟩, fun h => h.2⟩)
    · rw [(chr8 _ h2).2]
      exact congrArg some (decide_eq_decide.mpr ⟨fun h => ⟨c, h⟩, fun h => h.2⟩)
  · refine ⟨_, see8_o hn (by omega) hk, ?_, ?_⟩
    · rw [none8.1]
      exact congrArg some (decide_eq_false (fun h => c h.1)).symm
    · rw [none8.2]
      exact congrArg some (decide_eq_false (fun h => c h.1)).symm
theorem small9 (hT : TapeR a0 a8) (hn : n ≤ 400) {k : Nat} (hk : k ≤ 400) : FX9_isSmall (nI n) a0 (nI k) = some (sm n a8 k) := by
  unfold FX9_isSmall
  by_cases c : k < n
  · have h2 := (cb_e hT (show k < 400 by omega)).2.1
    rw [see9_i hT hn c, bd1_s, inL (a := 97) (b := 122) (by decide) (by decide), bd1_s, toN (by omega)]
    exact congrArg some (decide_eq_decide.mpr ⟨fun h => ⟨c, by omega, by omega⟩, fun h => ⟨by omega, by omega⟩⟩)
  · rw [see9_o hn (by omega) hk, bd1_s, inL (a := 97) (b := 122) (by decide) (by decide), bd1_s, toN (by omega)]
    exact congrArg some (decide_eq_decide.mpr ⟨fun h => absurd h (by omega), fun h => absurd h.1 c⟩)
theorem digit9 (hT : TapeR a0 a8) (hn : n ≤ 400) {k : Nat} (hk : k ≤ 400) : FX9_isDigit (nI n) a0 (nI k) = some (dg n a8 k) := by
  unfold FX9_isDigit
  by_cases c : k < n
  · have h2 := (cb_e hT (show k < 400 by omega)).2.1
    rw [see9_i hT hn c, bd1_s, inL (a := 48) (b := 57) (by decide) (by decide), bd1_s, toN (by omega)]
    exact congrArg some (decide_eq_decide.mpr ⟨fun h => ⟨c, by omega, by omega⟩, fun h => ⟨by omega, by omega⟩⟩)
  · rw [see9_o hn (by omega) hk, bd1_s, inL (a := 48) (b := 57) (by decide) (by decide), bd1_s, toN (by omega)]
    exact congrArg some (decide_eq_decide.mpr ⟨fun h => absurd h (by omega), fun h => absurd h.1 c⟩)
/-! blanks -/
theorem sp9 (hT : TapeR a0 a8) (hn : n ≤ 400) {k : Nat} (hk : k < n) : FX9_next_b0 (nI n) a0 (nI k) = if cb a8 k = 32 ∨ cb a8 k = 10 then some (.inl (nI (k + 1))) else some (.inr (nI k)) := by
  have h2 := (cb_e hT (show k < 400 by omega)).2.1
  unfold FX9_next_b0 FX9_next_j37
  rw [if_neg (by rw [le_f hk (by omega)]; exact id), see9_i hT hn hk, bd1_s, bd1_s, show (32 : Int32) = nI 32 from rfl, show (10 : Int32) = nI 10 from rfl, show nI k + 1 = nI (k + 1) from n_add k 1]
  by_cases c1 : cb a8 k = 32
  · rw [if_pos (congrArg nI c1), if_pos (Or.inl c1)]
  · rw [if_neg (by rw [eq_f c1 (by omega) (by omega)]; exact id)]
    by_cases c2 : cb a8 k = 10
    · rw [if_pos (congrArg nI c2), if_pos (Or.inr c2)]
    · rw [if_neg (by rw [eq_f c2 (by omega) (by omega)]; exact id), if_neg (fun h => h.elim c1 c2)]
theorem sp8 (hT : TapeR a0 a8) (hn : n ≤ 400) {k : Nat} (hk : k < n) : FX8_next_b8 a8 (nI n) (nI k) = if cb a8 k = 32 ∨ cb a8 k = 10 then some (.inl (nI (k + 1))) else some (.inr (nI k)) := by
  have h2 := (cb_e hT (show k < 400 by omega)).2.1
  unfold FX8_next_b8 FX8_next_j34
  rw [see8_i hT hn hk, bd1_s, bd1_s, show (32 : Int32) = nI 32 from rfl, show (10 : Int32) = nI 10 from rfl, show nI k + 1 = nI (k + 1) from n_add k 1]
  by_cases c1 : cb a8 k = 10
  · rw [if_pos (congrArg nI c1), if_pos (Or.inr c1)]
  · rw [if_neg (by rw [eq_f c1 (by omega) (by omega)]; exact id)]
    by_cases c2 : cb a8 k = 32
    · rw [if_pos (congrArg nI c2), if_pos (Or.inl c2)]
    · rw [if_neg (by rw [eq_f c2 (by omega) (by omega)]; exact id), if_neg (fun h => h.elim c2 c1)]
theorem sp_loop (hT : TapeR a0 a8) (hn : n ≤ 400) : ∀ d k, k + d = n → ∃ a, k ≤ a ∧ a ≤ n ∧ loopC (fun s => FX9_next_b0 (nI n) a0 s) (nI k) = some (nI a) ∧ loopC (fun s => FX8_next_b8 a8 (nI n) s) (nI k) = some (nI a) := by
  intro d
  induction d with
  | zero =>
    intro k hk
    obtain rfl : k = n := by omega
    refine ⟨k, Nat.le_refl _, Nat.le_refl _, loopC_inr ?_, loopC_inr ?_⟩
    · show FX9_next_b0 (nI k) a0 (nI k) = _
      unfold FX9_next_b0
      rw [if_pos (by rw [le_t (Nat.le_refl k) (by omega)]; trivial)]
    · show FX8_next_b8 a8 (nI k) (nI k) = _
      unfold FX8_next_b8
      rw [see8_o hn (Nat.le_refl _) hn, bd1_s, bd1_s, if_neg (show ¬ nM = 10 by decide), if_neg (show ¬ nM = 32 by decide)]
  | succ d ih =>
    intro k hk
    have e9 := sp9 hT hn (show k < n by omega)
    have e8 := sp8 hT hn (show k < n by omega)
    by_cases c : cb a8 k = 32 ∨ cb a8 k = 10
    · rw [if_pos c] at e9 e8
      obtain ⟨a, h1, h2, h3, h4⟩ := ih (k + 1) (by omega)
      exact ⟨a, by omega, h2, loop_st e9 h3, loop_st e8 h4⟩
    · rw [if_neg c] at e9 e8
      exact ⟨k, Nat.le_refl _, by omega, loopC_inr e9, loopC_inr e8⟩
/-! a word -/
theorem wd9 (hT : TapeR a0 a8) (hn : n ≤ 400) {k : Nat} (hk : k ≤ n) : FX9_next_b88 (nI n) a0 (nI k) = if sm n a8 k = true then some (.inl (nI (k + 1))) else some (.inr (nI k)) := by
  unfold FX9_next_b88
  rw [small9 hT hn (by omega), bd1_s, show nI k + 1 = nI (k + 1) from n_add k 1]
  cases sm n a8 k <;> rfl
theorem wd8 (hT : TapeR a0 a8) (hn : n ≤ 400) {k : Nat} (hk : k ≤ n) : FX8_next_b89 a8 (nI n) (nI k) = if sm n a8 k = true then some (.inl (nI (k + 1))) else some (.inr (nI k)) := by
  obtain ⟨x, h1, h2, h3⟩ := sees hT hn (show k ≤ 400 by omega)
  unfold FX8_next_b89
  rw [h1, bd1_s, h2, bd1_s, show nI k + 1 = nI (k + 1) from n_add k 1]
  cases sm n a8 k <;> rfl
theorem sm_lt {k : Nat} (h : sm n a8 k = true) : k < n := (of_decide_eq_true h).1
theorem dg_lt {k : Nat} (h : dg n a8 k = true) : k < n := (of_decide_eq_true h).1
theorem wd_loop (hT : TapeR a0 a8) (hn : n ≤ 400) : ∀ d k, k + d = n → ∃ b, k ≤ b ∧ b ≤ n ∧ loopC (fun s => FX9_next_b88 (nI n) a0 s) (nI k) = some (nI b) ∧ loopC (fun s => FX8_next_b89 a8 (nI n) s) (nI k) = some (nI b) ∧ (sm n a8 k = true → k < b) := by
  intro d
  induction d with
  | zero =>
    intro k hk
    obtain rfl : k = n := by omega
    have e9 := wd9 hT hn (Nat.le_refl k)
    have e8 := wd8 hT hn (Nat.le_refl k)
    have c : ¬ sm k a8 k = true := fun h => Nat.lt_irrefl k (sm_lt h)
    rw [if_neg c] at e9 e8
    exact ⟨k, Nat.le_refl _, Nat.le_refl _, loopC_inr e9, loopC_inr e8, fun h => absurd h c⟩
  | succ d ih =>
    intro k hk
    have e9 := wd9 hT hn (show k ≤ n by omega)
    have e8 := wd8 hT hn (show k ≤ n by omega)
    by_cases c : sm n a8 k = true
    · rw [if_pos c] at e9 e8
      obtain ⟨b, h1, h2, h3, h4, -⟩ := ih (k + 1) (by omega)
      exact ⟨b, by omega, h2, loop_st e9 h3, loop_st e8 h4, fun _ => by omega⟩
    · rw [if_neg c] at e9 e8
      exact ⟨k, Nat.le_refl _, by omega, loopC_inr e9, loopC_inr e8, fun h => absurd h c⟩
/-! digits -/
def dgV (a k m c : Nat) : Nat := if 3 ≤ k - a then m else 10 * m + c - 48
theorem dg9 (hT : TapeR a0 a8) (hn : n ≤ 400) {a k m : Nat} (ha : a ≤ k) (hk : k ≤ n) : FX9_next_b136 (nI n) a0 (nI a) (nI k) (nI m) = if dg n a8 k = true then some (.inl (nI (k + 1), nI (dgV a k m (cb a8 k)))) else some (.inr (nI k, nI m)) := by
  unfold FX9_next_b136 FX9_next_j183
  rw [digit9 hT hn (by omega), bd1_s, show nI k + 1 = nI (k + 1) from n_add k 1]
  cases hd : dg n a8 k with
  | false => rfl
  | true =>
    have hlt := dg_lt hd
    have h48 := (of_decide_eq_true hd).2.1
    rw [if_neg (by decide), if_pos rfl, n_subG ha, show (3 : Int32) = nI 3 from rfl]
    unfold dgV
    by_cases c : 3 ≤ k - a
    · rw [if_pos c, if_pos (by rw [le_t c (by omega)]; trivial)]
    · rw [if_neg c, if_neg (by rw [le_f (by omega) (by omega)]; exact id), see9_i hT hn hlt, bd1_s, show (10 : Int32) = nI 10 from rfl, n_mul, n_add, show (48 : Int32) = nI 48 from rfl, n_subG (by omega)]
theorem dg8 (hT : TapeR a0 a8) (hn : n ≤ 400) {a k m : Nat} (ha : a ≤ k) (hk : k ≤ n) : FX8_next_b146 a8 (nI n) (nI a) (nI k) (nI m) = if dg n a8 k = true then some (.inl (nI (k + 1), nI (dgV a k m (cb a8 k)))) else some (.inr (nI k, nI m)) := by
  obtain ⟨x, h1, h2, h3⟩ := sees hT hn (show k ≤ 400 by omega)
  unfold FX8_next_b146 FX8_next_j196
  rw [h1, bd1_s, h3, bd1_s, show nI k + 1 = nI (k + 1) from n_add k 1]
  cases hd : dg n a8 k with
  | false => rfl
  | true =>
    have hlt := dg_lt hd
    have h48 := (of_decide_eq_true hd).2.1
    have hx : x = nI (cb a8 k) := Option.some.inj (h1.symm.trans (see8_i hT hn hlt))
    rw [if_neg (by decide), if_pos rfl, n_subG ha, show (3 : Int32) = nI 3 from rfl]
    unfold dgV
    by_cases c : 3 ≤ k - a
    · rw [if_pos c, if_pos (by rw [le_t c (by omega)]; trivial)]
    · rw [if_neg c, if_neg (by rw [le_f (by omega) (by omega)]; exact id), bd1_s, hx, show (10 : Int32) = nI 10 from rfl, n_mul, n_add, show (48 : Int32) = nI 48 from rfl, n_subG (by omega)]
theorem dg_loop (hT : TapeR a0 a8) (hn : n ≤ 400) (a : Nat) : ∀ d k m, k + d = n → a ≤ k → (m < 1000 ∧ (k = a → m = 0) ∧ (k = a + 1 → m < 10) ∧ (k = a + 2 → m < 100)) → ∃ b v, k ≤ b ∧ b ≤ n ∧ v < 1000 ∧ loopC (fun (s : Int32 × Int32) => FX9_next_b136 (nI n) a0 (nI a) s.1 s.2) (nI k, nI m) = some (nI b, nI v) ∧ loopC (fun (s : Int32 × Int32) => FX8_next_b146 a8 (nI n) (nI a) s.1 s.2) (nI k, nI m) = some (nI b, nI v) ∧ (dg n a8 k = true → k < b) := by
  intro d
  induction d with
  | zero =>
    intro k m hk ha hm
    obtain rfl : k = n := by omega
    have e9 := dg9 (m := m) hT hn ha (Nat.le_refl k)
    have e8 := dg8 (m := m) hT hn ha (Nat.le_refl k)
    have c : ¬ dg k a8 k = true := fun h => Nat.lt_irrefl k (dg_lt h)
    rw [if_neg c] at e9 e8
    exact ⟨k, m, Nat.le_refl _, Nat.le_refl _, hm.1, loopC_inr e9, loopC_inr e8, fun h => absurd h c⟩
  | succ d ih =>
    intro k m hk ha hm
    have e9 := dg9 (m := m) hT hn ha (show k ≤ n by omega)
    have e8 := dg8 (m := m) hT hn ha (show k ≤ n by omega)
    by_cases c : dg n a8 k = true
    · rw [if_pos c] at e9 e8
      have hc := of_decide_eq_true c
      obtain ⟨b, v, h1, h2, h3, h4, h5, -⟩ := ih (k + 1) (dgV a k m (cb a8 k)) (by omega) (by omega) (by
        unfold dgV
        obtain ⟨m1, m2, m3, m4⟩ := hm
        by_cases c3 : 3 ≤ k - a
        · rw [if_pos c3]; exact ⟨m1, by omega, by omega, by omega⟩
        · rw [if_neg c3]
          have : k = a ∨ k = a + 1 ∨ k = a + 2 := by omega
          rcases this with h | h | h
          · have := m2 h; exact ⟨by omega, by omega, by omega, by omega⟩
          · have := m3 h; exact ⟨by omega, by omega, by omega, by omega⟩
          · have := m4 h; exact ⟨by omega, by omega, by omega, by omega⟩)
      exact ⟨b, v, by omega, h2, h3, loop_st e9 h4, loop_st e8 h5, fun _ => by omega⟩
    · rw [if_neg c] at e9 e8
      exact ⟨k, m, Nat.le_refl _, by omega, hm.1, loopC_inr e9, loopC_inr e8, fun h => absurd h c⟩
end P75
