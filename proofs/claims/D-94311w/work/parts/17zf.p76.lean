set_option maxRecDepth 100000
/-! texts: the words, and the next of them -/
def wdL : Nat → List Nat := fun k => ([[114, 111, 119], [115, 116, 111, 110, 101], [115, 105, 122, 101], [97, 116], [98, 101, 97, 114, 115], [119, 105, 115, 104], [98, 121], [102, 111, 114], [114, 111, 111, 102], [108, 97, 110, 101], [111, 118, 101, 114], [109, 111, 115, 116], [114, 105, 110, 103], [102, 108, 111, 111, 100], [98, 97, 114], [105, 102], [111, 114], [97, 110, 100], [110, 111, 116], [115, 111, 114, 116], [102, 114, 111, 109], [116, 111], [104, 105, 103, 104], [102, 117, 108, 108]] : List (List Nat)).getD k []
def kl (k : Nat) : Nat := (wdL k).length
def wc (k i : Nat) : Nat := (wdL k).getD i 0
def kbT (k : Nat) : Nat → Int32 := kwb ((wdL k).map nI)
def wS : Nat → Nat := fun k => ([1, 5, 11, 16, 19, 25, 30, 33, 37, 42, 47, 52, 57, 62, 68, 72, 75, 78, 82, 86, 91, 96, 99, 104, 109] : List Nat).getD k 0
theorem wk1 : ∀ k, k < 24 → (kl k ≤ 5 ∧ 2 ≤ kl k ∧ wS (k + 1) = wS k + kl k + 1 ∧ wS k + kl k < 109 ∧ keyB (wS k + kl k) = nI 32) ∧ ∀ i, i < kl k → keyB (wS k + i) = nI (wc k i) ∧ 97 ≤ wc k i ∧ wc k i ≤ 122 ∧ kbT k i = nI (wc k i) := by decide +kernel
theorem wk2 : ∀ i, i < 24 → ∀ j, j < 24 → wdL i = wdL j → i = j := by decide +kernel
def tkT (j : Nat) : Int32 := if j = 25 then 2 else if j = 26 then 59 else if j = 27 then 40 else if j = 28 then 41 else if j = 29 then 0 else if j = 30 then 3 else 1
theorem tk_eq : ∀ j, j < 31 → (tkT j = 1 ↔ j ≤ 24) ∧ (tkT j = 2 ↔ j = 25) ∧ (tkT j = 59 ↔ j = 26) ∧ (tkT j = 40 ↔ j = 27) ∧ (tkT j = 41 ↔ j = 28) ∧ (tkT j = 0 ↔ j = 29) ∧ (tkT j = 3 ↔ j = 30) := by decide +kernel
theorem chCv : ∀ c, c < 256 → cvC (nI c &&& 255) = nI c := by decide +kernel
theorem len_n : ∀ m, m < 120 → FJ5_length m = some (nI m) := by decide +kernel
theorem ch_n {m : Nat} {bs : Nat → Int32} {k c : Nat} (hk : k < m) (hm : m < 1000) (hb : bs k = nI c) (hc : c < 256) : FJ5_charAt m bs (nI k) = some (nI c) := by
  unfold FJ5_charAt FJ5_isLatin1
  rw [if_neg (by decide), if_pos rfl, bd1_s, if_neg (by decide)]
  unfold FJ6_charAt FJ5_checkIndex FJ4_checkIndex_r
  rw [show (0 : Int32) = nI 0 from rfl, if_neg (by rw [lt_f (Nat.zero_le k) (by omega)]; exact id), show Int32.ofNat m = nI m from rfl, if_pos (by rw [lt_t hk (by omega)]; trivial), bd1_s, bd0_s, rdn hk (by omega) hb, bd1_s, chCv c hc, bd1_s]
section P76
variable {n : Nat} {a0 a8 : Nat → Int32}
/-- the bytes from a to b are word k -/
def tx (a8 : Nat → Int32) (a b k : Nat) : Prop := b = a + kl k ∧ ∀ i, i < kl k → cb a8 (a + i) = wc k i
theorem tx_one {a b i j : Nat} (hi : i < 24) (hj : j < 24) (h1 : tx a8 a b i) (h2 : tx a8 a b j) : i = j := by
  refine wk2 i hi j hj ?_
  have hl : (wdL i).length = (wdL j).length := by
    have h3 := h1.1
    have h4 := h2.1
    show kl i = kl j
    omega
  refine List.ext_getElem hl (fun t h3 h4 => ?_)
  have e1 : wc i t = (wdL i)[t] := by
    show (wdL i).getD t 0 = _
    rw [List.getD_eq_getElem?_getD, List.getElem?_eq_getElem h3]
    rfl
  have e2 : wc j t = (wdL j)[t] := by
    show (wdL j).getD t 0 = _
    rw [List.getD_eq_getElem?_getD, List.getElem?_eq_getElem h4]
    rfl
  rw [← e1, ← e2, ← h1.2 t h3, ← h2.2 t h4]
theorem ka_in (hT : TapeR a0 a8) (hn : n ≤ 400) {k a b : Nat} (hk : k < 24) (hb : b ≤ n) : ∀ d i, i + d = kl k → (∀ j, j < i → cb a8 (a + j) = wc k j) → a + i ≤ b → ∃ r, r ≤ kl k ∧ a + r ≤ b ∧ (∀ j, j < r → cb a8 (a + j) = wc k j) ∧ (r < kl k → a + r = b ∨ cb a8 (a + r) ≠ wc k r) ∧ loopC (fun s => FX8_keyAt_b15 a8 (nI a) (nI b) (nI (wS k)) s) (nI i) = some (nI r) := by
  obtain ⟨⟨w1, w2, w3, w4, w5⟩, w6⟩ := wk1 k hk
  intro d
  induction d with
  | zero =>
    intro i hi hm hle
    obtain rfl : i = kl k := by omega
    refine ⟨kl k, Nat.le_refl _, hle, hm, fun h => absurd h (Nat.lt_irrefl _), loopC_inr ?_⟩
    show FX8_keyAt_b15 a8 (nI a) (nI b) (nI (wS k)) (nI (kl k)) = _
    unfold FX8_keyAt_b15
    rw [n_add, ch_n (by omega) (by omega) w5 (by omega), bd1_s, if_pos (show nI 32 = 32 from rfl)]
  | succ d ih =>
    intro i hi hm hle
    obtain ⟨u1, u2, u3, u4⟩ := w6 i (by omega)
    have e1 : FJ5_charAt 109 keyB (nI (wS k + i)) = some (nI (wc k i)) := ch_n (by omega) (by omega) u1 (by omega)
    by_cases c1 : a + i = b
    · refine ⟨i, by omega, hle, hm, fun _ => Or.inl c1, loopC_inr ?_⟩
      show FX8_keyAt_b15 a8 (nI a) (nI b) (nI (wS k)) (nI i) = _
      unfold FX8_keyAt_b15
      rw [n_add, e1, bd1_s, if_neg (by rw [show (32 : Int32) = nI 32 from rfl, eq_f (by omega) (by omega) (by omega)]; exact id), n_add, if_pos (by rw [le_t (by omega) (by omega)]; trivial)]
    · obtain ⟨v1, v2, v3⟩ := cb_e hT (show a + i < 400 by omega)
      by_cases c2 : cb a8 (a + i) = wc k i
      · obtain ⟨r, r1, r2, r3, r4, r5⟩ := ih (i + 1) (by omega) (fun j hj => by
          by_cases c : j = i
          · rw [c]; exact c2
          · exact hm j (by omega)) (by omega)
        refine ⟨r, r1, r2, r3, r4, loop_st ?_ r5⟩
        show FX8_keyAt_b15 a8 (nI a) (nI b) (nI (wS k)) (nI i) = _
        unfold FX8_keyAt_b15
        rw [n_add, e1, bd1_s, if_neg (by rw [show (32 : Int32) = nI 32 from rfl, eq_f (by omega) (by omega) (by omega)]; exact id), n_add, if_neg (by rw [le_f (by omega) (by omega)]; exact id), rdn (by omega) (by omega) v1, bd1_s, bd1_s, if_pos (congrArg nI c2), show nI i + 1 = nI (i + 1) from n_add i 1]
      · refine ⟨i, by omega, hle, hm, fun _ => Or.inr c2, loopC_inr ?_⟩
        show FX8_keyAt_b15 a8 (nI a) (nI b) (nI (wS k)) (nI i) = _
        unfold FX8_keyAt_b15
        rw [n_add, e1, bd1_s, if_neg (by rw [show (32 : Int32) = nI 32 from rfl, eq_f (by omega) (by omega) (by omega)]; exact id), n_add, if_neg (by rw [le_f (by omega) (by omega)]; exact id), rdn (by omega) (by omega) v1, bd1_s, bd1_s, if_neg (by rw [eq_f c2 (by omega) (by omega)]; exact id)]
theorem ka_skip {k : Nat} (hk : k < 24) : ∀ d i, i + d = kl k → loopC (fun s => FX8_keyAt_b97 s) (nI (wS k + i)) = some (nI (wS k + kl k)) := by
  obtain ⟨⟨w1, w2, w3, w4, w5⟩, w6⟩ := wk1 k hk
  intro d
  induction d with
  | zero =>
    intro i hi
    obtain rfl : i = kl k := by omega
    refine loopC_inr ?_
    show FX8_keyAt_b97 (nI (wS k + kl k)) = _
    unfold FX8_keyAt_b97
    rw [ch_n (by omega) (by omega) w5 (by omega), bd1_s, if_pos (show nI 32 = 32 from rfl)]
  | succ d ih =>
    intro i hi
    obtain ⟨u1, u2, u3, u4⟩ := w6 i (by omega)
    refine loop_st ?_ (ih (i + 1) (by omega))
    show FX8_keyAt_b97 (nI (wS k + i)) = _
    unfold FX8_keyAt_b97
    rw [ch_n (by omega) (by omega) u1 (by omega), bd1_s, if_neg (by rw [show (32 : Int32) = nI 32 from rfl, eq_f (by omega) (by omega) (by omega)]; exact id), show nI (wS k + i) + 1 = nI (wS k + (i + 1)) from n_add (wS k + i) 1]
theorem ka_out (hT : TapeR a0 a8) (hn : n ≤ 400) {a b : Nat} (hab : a ≤ b) (hb : b ≤ n) : ∀ d k, k + d = 24 → ∃ r, k ≤ r ∧ r ≤ 24 ∧ (∀ j, k ≤ j → j < r → ¬ tx a8 a b j) ∧ (r < 24 → tx a8 a b r) ∧ loopC (fun (s : Int32 × Int32) => FX8_keyAt_b4 a8 (nI a) (nI b) s.1 s.2) (nI k, nI (wS k)) = some (if r < 24 then .inl (nI r) else .inr ()) := by
  intro d
  induction d with
  | zero =>
    intro k hk
    obtain rfl : k = 24 := by omega
    refine ⟨24, Nat.le_refl _, Nat.le_refl _, fun j h1 h2 => absurd h1 (by omega), fun h => absurd h (by omega), loopC_inr (B := fun (s : Int32 × Int32) => FX8_keyAt_b4 a8 (nI a) (nI b) s.1 s.2) ?_⟩
    show FX8_keyAt_b4 a8 (nI a) (nI b) (nI 24) (nI (wS 24)) = _
    unfold FX8_keyAt_b4
    rw [len_n 109 (by omega), bd1_s, if_pos (show nI 109 ≤ nI (wS 24) by decide), if_neg (by omega)]
  | succ d ih =>
    intro k hk
    have hk24 : k < 24 := by omega
    obtain ⟨⟨w1, w2, w3, w4, w5⟩, w6⟩ := wk1 k hk24
    obtain ⟨r, r1, r2, r3, r4, r5⟩ := ka_in hT hn hk24 hb (kl k) 0 (by omega) (fun j hj => absurd hj (Nat.not_lt_zero j)) (by omega)
    have eS : FX8_keyAt_j97 (nI k) (nI (wS k)) = some (.inl (nI (k + 1), nI (wS (k + 1)))) := by
      unfold FX8_keyAt_j97
      rw [show nI (wS k) = nI (wS k + 0) from rfl, ka_skip hk24 (kl k) 0 (by omega), bd1_s, show nI k + 1 = nI (k + 1) from n_add k 1, show nI (wS k + kl k) + 1 = nI (wS k + kl k + 1) from n_add _ 1, w3]
    by_cases ct : tx a8 a b k
    · have hr : r = kl k := by
        have hb2 := ct.1
        rcases Nat.lt_or_ge r (kl k) with c | c
        · rcases r4 c with h | h
          · omega
          · exact absurd (ct.2 r c) h
        · omega
      subst hr
      refine ⟨k, Nat.le_refl _, by omega, fun j h1 h2 => absurd h1 (by omega), fun _ => ct, loopC_inr (B := fun (s : Int32 × Int32) => FX8_keyAt_b4 a8 (nI a) (nI b) s.1 s.2) ?_⟩
      show FX8_keyAt_b4 a8 (nI a) (nI b) (nI k) (nI (wS k)) = _
      unfold FX8_keyAt_b4
      rw [len_n 109 (by omega), bd1_s, if_neg (by rw [le_f (by omega) (by omega)]; exact id), show (0 : Int32) = nI 0 from rfl, r5, bd1_s, n_add, ch_n (by omega) (by omega) w5 (by omega), bd1_s, if_pos (show nI 32 = 32 from rfl), n_add, if_pos (congrArg nI ct.1.symm), if_pos hk24]
    · obtain ⟨q, q1, q2, q3, q4, q5⟩ := ih (k + 1) (by omega)
      refine ⟨q, by omega, q2, fun j h1 h2 => ?_, q4, (loopC_inl (B := fun (s : Int32 × Int32) => FX8_keyAt_b4 a8 (nI a) (nI b) s.1 s.2) ?_).trans q5⟩
      · by_cases c : j = k
        · rw [c]; exact ct
        · exact q3 j (by omega) h2
      · show FX8_keyAt_b4 a8 (nI a) (nI b) (nI k) (nI (wS k)) = _
        unfold FX8_keyAt_b4
        rw [len_n 109 (by omega), bd1_s, if_neg (by rw [le_f (by omega) (by omega)]; exact id), show (0 : Int32) = nI 0 from rfl, r5, bd1_s, n_add]
        by_cases c : r = kl k
        · rw [c, ch_n (by omega) (by omega) w5 (by omega), bd1_s, if_pos (show nI 32 = 32 from rfl), n_add, if_neg (by
            rw [eq_f (fun h => ct ⟨h.symm, fun i hi => r3 i (by omega)⟩) (by omega) (by omega)]
            exact id), eS]
        · obtain ⟨u1, u2, u3, u4⟩ := w6 r (by omega)
          rw [ch_n (by omega) (by omega) u1 (by omega), bd1_s, if_neg (by rw [show (32 : Int32) = nI 32 from rfl, eq_f (by omega) (by omega) (by omega)]; exact id), eS]
theorem keyAt8 (hT : TapeR a0 a8) (hn : n ≤ 400) {a b : Nat} (hab : a ≤ b) (hb : b ≤ n) : ∃ r, r ≤ 24 ∧ FX8_keyAt a8 (nI a) (nI b) = some (nI r) ∧ (∀ j, j < r → ¬ tx a8 a b j) ∧ (r < 24 → tx a8 a b r) := by
  obtain ⟨r, r1, r2, r3, r4, r5⟩ := ka_out hT hn hab hb 24 0 (by omega)
  refine ⟨r, r2, ?_, fun j hj => r3 j (Nat.zero_le _) hj, r4⟩
  unfold FX8_keyAt
  rw [show ((0 : Int32), (1 : Int32)) = (nI 0, nI (wS 0)) from rfl, r5]
  by_cases c : r < 24
  · rw [if_pos c]
    rfl
  · rw [if_neg c]
    obtain rfl : r = 24 := by omega
    rfl
theorem is_loop (hT : TapeR a0 a8) (hn : n ≤ 400) {k a b : Nat} (hk : k < 24) (hb : b ≤ n) (hab : b = a + kl k) : ∀ d i, i + d = kl k → (∀ j, j < i → cb a8 (a + j) = wc k j) → (tx a8 a b k ∧ loopC (fun s => FX9_is_b35 (nI a) (nI n) a0 (kl k) (kbT k) s) (nI i) = some (.inr ())) ∨ (¬ tx a8 a b k ∧ loopC (fun s => FX9_is_b35 (nI a) (nI n) a0 (kl k) (kbT k) s) (nI i) = some (.inl ())) := by
  obtain ⟨⟨w1, w2, w3, w4, w5⟩, w6⟩ := wk1 k hk
  intro d
  induction d with
  | zero =>
    intro i hi hm
    obtain rfl : i = kl k := by omega
    refine Or.inl ⟨⟨hab, hm⟩, loopC_inr ?_⟩
    show FX9_is_b35 (nI a) (nI n) a0 (kl k) (kbT k) (nI (kl k)) = _
    unfold FX9_is_b35
    rw [len_n _ (by omega), bd1_s, if_pos (by rw [le_t (Nat.le_refl _) (by omega)]; trivial)]
  | succ d ih =>
    intro i hi hm
    obtain ⟨u1, u2, u3, u4⟩ := w6 i (by omega)
    have e0 : FX9_is_b35 (nI a) (nI n) a0 (kl k) (kbT k) (nI i) = if nI (cb a8 (a + i)) = nI (wc k i) then some (.inl (nI (i + 1))) else some (.inr (.inl ())) := by
      unfold FX9_is_b35
      rw [len_n _ (by omega), bd1_s, if_neg (by rw [le_f (by omega) (by omega)]; exact id), n_add, see9_i hT hn (by omega), bd1_s, ch_n (by omega) (by omega) u4 (by omega), bd1_s, show nI i + 1 = nI (i + 1) from n_add i 1]
    have v2 := (cb_e hT (show a + i < 400 by omega)).2.1
    by_cases c2 : cb a8 (a + i) = wc k i
    · rw [if_pos (congrArg nI c2)] at e0
      rcases ih (i + 1) (by omega) (fun j hj => by
          by_cases c : j = i
          · rw [c]; exact c2
          · exact hm j (by omega)) with ⟨h1, h2⟩ | ⟨h1, h2⟩
      · exact Or.inl ⟨h1, loop_st e0 h2⟩
      · exact Or.inr ⟨h1, loop_st e0 h2⟩
    · rw [if_neg (by rw [eq_f c2 (by omega) (by omega)]; exact id)] at e0
      exact Or.inr ⟨fun h => c2 (h.2 i (by omega)), loopC_inr e0⟩
theorem is9 (hT : TapeR a0 a8) (hn : n ≤ 400) {k a b : Nat} (hk : k < 24) (hab : a ≤ b) (hb : b ≤ n) : (tx a8 a b k ∧ FX9_is (nI n) a0 (kl k) (kbT k) (nI b) (nI a) 1 0 = some true) ∨ (¬ tx a8 a b k ∧ FX9_is (nI n) a0 (kl k) (kbT k) (nI b) (nI a) 1 0 = some false) := by
  obtain ⟨⟨w1, w2, w3, w4, w5⟩, w6⟩ := wk1 k hk
  unfold FX9_is
  rw [if_pos rfl, if_pos rfl, len_n _ (by omega), bd1_s, n_subG hab]
  by_cases c : b - a = kl k
  · rw [if_pos (congrArg nI c), show (0 : Int32) = nI 0 from rfl]
    rcases is_loop (a := a) hT hn hk hb (by omega) (kl k) 0 (by omega) (fun j hj => absurd hj (Nat.not_lt_zero j)) with ⟨h1, h2⟩ | ⟨h1, h2⟩
    · rw [h2]
      exact Or.inl ⟨h1, rfl⟩
    · rw [h2]
      exact Or.inr ⟨h1, rfl⟩
  · rw [if_neg (by rw [eq_f c (by omega) (by omega)]; exact id)]
    exact Or.inr ⟨fun h => c (by have := h.1; omega), rfl⟩
theorem is_other {k : Nat} {s z : Int32} {j : Nat} (hj : j < 31) (h24 : 24 < j) {f : Int32} : FX9_is (nI n) a0 (kl k) (kbT k) s z (tkT j) f = some false := by
  unfold FX9_is
  by_cases c : f = 0
  · rw [if_pos c, if_neg (fun h => by have := ((tk_eq j hj).1).mp h; omega)]
  · rw [if_neg c]
def TKp (n : Nat) (a0 : Nat → Int32) (a b j : Nat) (x y : Int32) : Prop := (a ≤ b ∧ b ≤ n ∧ n ≤ 400 ∧ j < 31 ∧ (j ≠ 29 → a < b) ∧ (j < 24 → a + 2 ≤ b)) ∧ (j = 25 → ∃ v, v < 1000 ∧ x = nI v ∧ y = nI v) ∧ ∀ k, k < 24 → FX9_is (nI n) a0 (kl k) (kbT k) (nI b) (nI a) (tkT j) 0 = some (decide (j = k))
theorem TKp.other {a b j : Nat} {x y : Int32} (h1 : a < b) (h2 : b ≤ n) (h3 : n ≤ 400) (h4 : j < 31) (h5 : 24 < j) (h6 : j = 25 → ∃ v, v < 1000 ∧ x = nI v ∧ y = nI v) : TKp n a0 a b j x y :=
  ⟨⟨by omega, h2, h3, h4, fun _ => h1, fun h => absurd h (by omega)⟩, h6, fun k hk => by rw [is_other h4 h5, decide_eq_false (by omega)]⟩
theorem next_law (hT : TapeR a0 a8) (hn : n ≤ 400) {k : Nat} (hk : k ≤ n) (x y : Int32) : ∃ a b j x' y', k ≤ a ∧ FX9_next (nI n) a0 (nI k) x = some (nI b, nI a, tkT j, x') ∧ FX8_next a8 (nI k) (nI n) y = some (nI a, nI b, nI j, y') ∧ TKp n a0 a b j x' y' := by
  obtain ⟨a, ha1, ha2, e9, e8⟩ := sp_loop hT hn (n - k) k (by omega)
  by_cases c : a < n
  · obtain ⟨v1, v2, v3⟩ := cb_e hT (show a < 400 by omega)
    have hs := see8_i hT hn c
    have hs9 := see9_i hT hn c
    obtain ⟨z, z1, z2, z3⟩ := sees hT hn (show a ≤ 400 by omega)
    obtain rfl : z = nI (cb a8 a) := Option.some.inj (z1.symm.trans hs)
    have m9 := small9 hT hn (show a ≤ 400 by omega)
    have d9 := digit9 hT hn (show a ≤ 400 by omega)
    have f9 : ∀ (A : Option (Int32 × Int32 × Int32 × Int32)) B, (if nI a < nI n then A else B) = A := fun A B => if_pos (by rw [lt_t c (by omega)]; trivial)
    cases hsm : sm n a8 a with
    | true =>
      rw [hsm] at z2 m9
      obtain ⟨b, b1, b2, b3, b4, b5⟩ := wd_loop hT hn (n - a) a (by omega)
      have b6 := b5 hsm
      obtain ⟨r, r1, r2, r3, r4⟩ := keyAt8 hT hn b1 b2
      have tr : tkT r = 1 := ((tk_eq r (by omega)).1).mpr r1
      refine ⟨a, b, r, x, y, ha1, ?_, ?_, ⟨by omega, b2, hn, by omega, fun _ => b6, fun h => ?_⟩, fun h => absurd h (by omega), fun k hk => ?_⟩
      · unfold FX9_next
        rw [e9, bd1_s, f9, m9, bd1_s, if_neg (by decide), b3, bd1_s, tr]
      · unfold FX8_next
        rw [e8, bd1_s, f9, hs, bd1_s, z2, bd1_s, if_neg (by decide), b4, bd1_s, r2, bd1_s]
      · have h1 := (r4 h).1
        have h2 := (wk1 r h).1.2.1
        omega
      · rw [tr]
        rcases is9 hT hn hk b1 b2 with ⟨h1, h2⟩ | ⟨h1, h2⟩
        · rw [h2, decide_eq_true]
          rcases Nat.lt_trichotomy k r with h | h | h
          · exact absurd h1 (r3 k h)
          · exact h.symm
          · exact tx_one (by omega) hk (r4 (by omega)) h1
        · rw [h2, decide_eq_false]
          rintro rfl
          exact h1 (r4 hk)
    | false =>
      rw [hsm] at z2 m9
      cases hdg : dg n a8 a with
      | true =>
        rw [hdg] at z3 d9
        obtain ⟨b, v, b1, b2, b3, b4, b5, b6⟩ := dg_loop hT hn a (n - a) a 0 (by omega) (Nat.le_refl _) ⟨by omega, fun _ => rfl, fun _ => by omega, fun _ => by omega⟩
        have b7 := b6 hdg
        by_cases c3 : b - a ≤ 3
        · refine ⟨a, b, 25, nI v, nI v, ha1, ?_, ?_, TKp.other b7 b2 hn (by omega) (by omega) (fun _ => ⟨v, b3, rfl, rfl⟩)⟩
          · unfold FX9_next FX9_next_j215
            rw [e9, bd1_s, f9, m9, bd1_s, if_pos (by decide), d9, bd1_s, if_neg (by decide), show (0 : Int32) = nI 0 from rfl, b4, bd2_s, n_subG b1, show (3 : Int32) = nI 3 from rfl, if_pos (by rw [le_t c3 (by omega)]; trivial)]
            rfl
          · unfold FX8_next FX8_next_j230
            rw [e8, bd1_s, f9, hs, bd1_s, z2, bd1_s, if_pos (by decide), bd1_s, z3, bd1_s, if_neg (by decide), show (0 : Int32) = nI 0 from rfl, b5, bd2_s, n_subG b1, show (3 : Int32) = nI 3 from rfl, if_pos (by rw [le_t c3 (by omega)]; trivial)]
            rfl
        · refine ⟨a, b, 30, nI v, nI v, ha1, ?_, ?_, TKp.other b7 b2 hn (by omega) (by omega) (fun h => absurd h (by omega))⟩
          · unfold FX9_next FX9_next_j215
            rw [e9, bd1_s, f9, m9, bd1_s, if_pos (by decide), d9, bd1_s, if_neg (by decide), show (0 : Int32) = nI 0 from rfl, b4, bd2_s, n_subG b1, show (3 : Int32) = nI 3 from rfl, if_neg (by rw [le_f (by omega) (by omega)]; exact id)]
            rfl
          · unfold FX8_next FX8_next_j230
            rw [e8, bd1_s, f9, hs, bd1_s, z2, bd1_s, if_pos (by decide), bd1_s, z3, bd1_s, if_neg (by decide), show (0 : Int32) = nI 0 from rfl, b5, bd2_s, n_subG b1, show (3 : Int32) = nI 3 from rfl, if_neg (by rw [le_f (by omega) (by omega)]; exact id)]
            rfl
      | false =>
        rw [hdg] at z3 d9
        have g9 : FX9_next (nI n) a0 (nI k) x = some (nI (a + 1), nI a, (if cb a8 a = 59 ∨ cb a8 a = 40 ∨ cb a8 a = 41 then nI (cb a8 a) else 3), x) := by
          unfold FX9_next FX9_next_j259 FX9_next_j264
          rw [e9, bd1_s, f9, m9, bd1_s, if_pos (by decide), d9, bd1_s, if_pos (by decide), hs9, bd1_s, show nI a + 1 = nI (a + 1) from n_add a 1, show (59 : Int32) = nI 59 from rfl, show (40 : Int32) = nI 40 from rfl, show (41 : Int32) = nI 41 from rfl]
          by_cases c1 : cb a8 a = 59
          · rw [if_pos (congrArg nI c1), if_pos (Or.inl c1)]
          · rw [if_neg (by rw [eq_f c1 (by omega) (by omega)]; exact id)]
            by_cases c2 : cb a8 a = 40
            · rw [if_pos (congrArg nI c2), if_pos (Or.inr (Or.inl c2))]
            · rw [if_neg (by rw [eq_f c2 (by omega) (by omega)]; exact id)]
              by_cases c3 : cb a8 a = 41
              · rw [if_pos (congrArg nI c3), if_pos (Or.inr (Or.inr c3))]
              · rw [if_neg (by rw [eq_f c3 (by omega) (by omega)]; exact id), if_neg (fun h => h.elim c1 (fun h => h.elim c2 c3))]
        have g8 : FX8_next a8 (nI k) (nI n) y = some (nI a, nI (a + 1), nI (if cb a8 a = 59 then 26 else if cb a8 a = 40 then 27 else if cb a8 a = 41 then 28 else 30), y) := by
          unfold FX8_next FX8_next_j303
          rw [e8, bd1_s, f9, hs, bd1_s, z2, bd1_s, if_pos (by decide), bd1_s, z3, bd1_s, if_pos (by decide), bd1_s, bd1_s, bd1_s, show nI a + 1 = nI (a + 1) from n_add a 1, show (59 : Int32) = nI 59 from rfl, show (40 : Int32) = nI 40 from rfl, show (41 : Int32) = nI 41 from rfl]
          by_cases c1 : cb a8 a = 59
          · rw [if_pos (congrArg nI c1), if_pos c1]
            rfl
          · rw [if_neg (by rw [eq_f c1 (by omega) (by omega)]; exact id), if_neg c1]
            by_cases c2 : cb a8 a = 40
            · rw [if_pos (congrArg nI c2), if_pos c2]
              rfl
            · rw [if_neg (by rw [eq_f c2 (by omega) (by omega)]; exact id), if_neg c2]
              by_cases c3 : cb a8 a = 41
              · rw [if_pos (congrArg nI c3), if_pos c3]
                rfl
              · rw [if_neg (by rw [eq_f c3 (by omega) (by omega)]; exact id), if_neg c3]
                rfl
        refine ⟨a, a + 1, _, x, y, ha1, ?_, g8, TKp.other (by omega) (by omega) hn (by split; omega; split; omega; split <;> omega) (by split; omega; split; omega; split <;> omega) (fun h => absurd h (by split; omega; split; omega; split <;> omega))⟩
        rw [g9]
        by_cases c1 : cb a8 a = 59
        · rw [if_pos (Or.inl c1), if_pos c1, c1]
          rfl
        · by_cases c2 : cb a8 a = 40
          · rw [if_pos (Or.inr (Or.inl c2)), if_neg c1, if_pos c2, c2]
            rfl
          · by_cases c3 : cb a8 a = 41
            · rw [if_pos (Or.inr (Or.inr c3)), if_neg c1, if_neg c2, if_pos c3, c3]
              rfl
            · rw [if_neg (fun h => h.elim c1 (fun h => h.elim c2 c3)), if_neg c1, if_neg c2, if_neg c3]
              rfl
  · obtain rfl : a = n := by omega
    have f9 : ∀ (A : Option (Int32 × Int32 × Int32 × Int32)) B, (if nI a < nI a then A else B) = B := fun A B => if_neg (by rw [lt_f (Nat.le_refl _) (by omega)]; exact id)
    refine ⟨a, a, 29, x, y, ha1, ?_, ?_, ⟨Nat.le_refl _, Nat.le_refl _, hn, by omega, fun h => absurd rfl h, fun h => absurd h (by omega)⟩, fun h => absurd h (by omega), fun k hk => by rw [is_other (by omega) (by omega), decide_eq_false (by omega)]⟩
    · unfold FX9_next
      rw [e9, bd1_s, f9]
      rfl
    · unfold FX8_next
      rw [e8, bd1_s, f9]
      rfl
end P76
