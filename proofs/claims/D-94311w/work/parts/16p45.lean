set_option maxRecDepth 100000
def HC (c : Nat) : Nat := hs (lN c * (-7046029254386353131))
def CX : Nat := 4611686018427387904
/-- the component's table: n codes -/
def CT (keys row : Nat → Int64) (slots : Nat → Int32) (n : Nat) (codes : Nat → Nat) : Prop :=
  n ≤ 6002 ∧ (∀ j, j < n → codes j < CX) ∧ (∀ j, j < n → row j = lN (codes j)) ∧ ∃ cell, OA HC cell n codes ∧ (∀ q, q < NQ → keys q = if cell q = 0 then 0 else lN (codes (cell q - 1) + 1)) ∧ ∀ j, j < n → ∃ q, q < NQ ∧ slots j = nI q ∧ cell q = j + 1
theorem lN_inj {a b : Nat} (ha : a < 9223372036854775808) (hb : b < 9223372036854775808) (h : lN a = lN b) : a = b := by
  have := congrArg Int64.toInt h
  rw [lNt ha, lNt hb] at this
  omega
theorem lNs1 (p : Nat) : lN p + 1 = lN (p + 1) := (Int64.ofNat_add p 1).symm
theorem key_cases {cell codes : Nat → Nat} {n q p : Nat} {v : Int64} (hc : ∀ j, j < n → codes j < CX) (hp : p < CX) (hl : cell q ≤ n) (e : v = if cell q = 0 then 0 else lN (codes (cell q - 1) + 1)) : (v = 0 ↔ cell q = 0) ∧ (cell q ≠ 0 → (v = lN (p + 1) ↔ codes (cell q - 1) = p)) := by
  unfold CX at hc hp
  by_cases c : cell q = 0
  · rw [if_pos c] at e
    exact ⟨⟨fun _ => c, fun _ => e⟩, fun z => absurd c z⟩
  · rw [if_neg c] at e
    have hq := hc (cell q - 1) (by omega)
    refine ⟨⟨fun z => ?_, fun z => absurd z c⟩, fun _ => ⟨fun z => ?_, fun z => ?_⟩⟩
    · rw [z] at e
      have := lN_inj (a := 0) (b := codes (cell q - 1) + 1) (by omega) (by omega) e
      omega
    · rw [e] at z
      have := lN_inj (by omega) (by omega) z
      omega
    · rw [e, z]
theorem slot6 {keys row : Nat → Int64} {slots : Nat → Int32} {n p : Nat} {codes cell : Nat → Nat} (hn : n ≤ 6002) (hc : ∀ j, j < n → codes j < CX) (hO : OA HC cell n codes) (hk : ∀ q, q < NQ → keys q = if cell q = 0 then 0 else lN (codes (cell q - 1) + 1)) (hp : p < CX) : ∃ k, k < NQ ∧ FX6_slot keys (lN p) = some (nI ((HC p + k) % NQ)) ∧ (∀ i, i < k → cell ((HC p + i) % NQ) ≠ 0) ∧ ((∃ j, j < n ∧ codes j = p ∧ cell ((HC p + k) % NQ) = j + 1) ∨ ((∀ j, j < n → codes j ≠ p) ∧ cell ((HC p + k) % NQ) = 0)) := by
  obtain ⟨k, k1, k2, k3, k4⟩ := hO.find (by unfold NQ; omega) p
  have hq : ∀ i, (HC p + i) % NQ < 16384 := fun i => nq_lt _
  have r : ∀ i, rd 16384 keys (nI ((HC p + i) % NQ)) = some (keys ((HC p + i) % NQ)) := fun i => rdn (hq i) (by omega) rfl
  have kc := fun i => key_cases (codes := codes) (q := (HC p + i) % NQ) (p := p) hc hp (hO.lt _ (hq i)) (hk _ (hq i))
  have body : ∀ i, FX6_slot_b13 keys (lN p) (nI ((HC p + i) % NQ)) = if keys ((HC p + i) % NQ) = 0 then some (.inr (nI ((HC p + i) % NQ))) else if keys ((HC p + i) % NQ) = lN (p + 1) then some (.inr (nI ((HC p + i) % NQ))) else some (.inl (nI ((HC p + (i + 1)) % NQ))) := by
    intro i
    unfold FX6_slot_b13
    rw [r i, bd1_s, bd1_s, nextq, lNs1]
    by_cases c : keys ((HC p + i) % NQ) = 0
    · rw [if_pos ((lg_eq _ _).mpr c), if_pos c]
    · rw [if_neg (fun z => c ((lg_eq _ _).mp z)), if_neg c]
      by_cases c2 : keys ((HC p + i) % NQ) = lN (p + 1)
      · rw [if_pos ((lg_eq _ _).mpr c2), if_pos c2]
      · rw [if_neg (fun z => c2 ((lg_eq _ _).mp z)), if_neg c2]
  refine ⟨k, k1, ?_, fun i hi => (k3 i hi).1, k4⟩
  have hs0 : (ushL (lN p * (-7046029254386353131)) 50).toInt32 = nI (HC p) := hs_n _
  have hpr : loopC (fun s => FX6_slot_b13 keys (lN p) s) (nI (HC p)) = some (nI ((HC p + k) % NQ)) := by
    refine probe (B := FX6_slot_b13 keys (lN p)) (b := HC p) (k := k) (r := nI ((HC p + k) % NQ)) (fun i hi => ?_) ?_ (hs_lt _)
    · obtain ⟨z1, z2⟩ := k3 i hi
      rw [body, if_neg (fun z => z1 ((kc i).1.mp z)), if_neg (fun z => z2 (((kc i).2 z1).mp z))]
    · rw [body]
      by_cases c : cell ((HC p + k) % NQ) = 0
      · rw [if_pos ((kc k).1.mpr c)]
      · rcases k2 with z | z
        · exact absurd z c
        · rw [if_neg (fun z => c ((kc k).1.mp z)), if_pos (((kc k).2 c).mpr z)]
  unfold FX6_slot
  rw [hs0, hpr, bd1_s]
theorem has6 {keys row : Nat → Int64} {slots : Nat → Int32} {n p : Nat} {codes : Nat → Nat} (h : CT keys row slots n codes) (hp : p < CX) : ∃ b, FX6_has keys (lN p) = some b ∧ (b = true ↔ ∃ j, j < n ∧ codes j = p) := by
  obtain ⟨hn, hc, hr, cell, hO, hk, hs⟩ := h
  obtain ⟨k, k1, k2, k3, k4⟩ := slot6 (row := row) (slots := slots) hn hc hO hk hp
  have hq : (HC p + k) % NQ < 16384 := nq_lt _
  have r : rd 16384 keys (nI ((HC p + k) % NQ)) = some (keys ((HC p + k) % NQ)) := rdn hq (by omega) rfl
  have kc := key_cases (codes := codes) (q := (HC p + k) % NQ) (p := p) hc hp (hO.lt _ hq) (hk _ hq)
  rcases k4 with ⟨j, j1, j2, j3⟩ | ⟨j1, j2⟩
  · refine ⟨true, ?_, ⟨fun _ => ⟨j, j1, j2⟩, fun _ => rfl⟩⟩
    unfold FX6_has
    rw [k2, bd1_s, r, bd1_s, if_neg (fun z => by have := kc.1.mp ((lg_eq _ _).mp z); omega)]
  · refine ⟨false, ?_, ⟨fun z => absurd z Bool.false_ne_true, fun ⟨j, a, b⟩ => absurd b (j1 j a)⟩⟩
    unfold FX6_has
    rw [k2, bd1_s, r, bd1_s, if_pos ((lg_eq _ _).mpr (kc.1.mpr j2))]
theorem updL_t {f : Nat → Int64} {k j : Nat} {v : Int64} (h : j = k) : vp_updL f k v j = v := if_pos h
theorem updL_f {f : Nat → Int64} {k j : Nat} {v : Int64} (h : j ≠ k) : vp_updL f k v j = f j := if_neg h
theorem adds6 {keys row : Nat → Int64} {slots : Nat → Int32} {n p : Nat} {codes : Nat → Nat} (h : CT keys row slots n codes) (hn6 : n < 6002) (hp : p < CX) : ∃ b keys' row' slots' n' codes', FX6_adds keys row slots (nI n) (lN p) = some (b, keys', row', slots', nI n') ∧ CT keys' row' slots' n' codes' ∧ (∀ j, j ≠ n → row' j = row j) ∧ ((b = false ∧ n' = n ∧ codes' = codes ∧ ∃ j, j < n ∧ codes j = p) ∨ (b = true ∧ n' = n + 1 ∧ codes' = up codes n p ∧ ∀ j, j < n → codes j ≠ p)) := by
  have h' := h
  obtain ⟨hn, hc, hr, cell, hO, hk, hs⟩ := h
  obtain ⟨k, k1, k2, k3, k4⟩ := slot6 (row := row) (slots := slots) hn hc hO hk hp
  have hq : (HC p + k) % NQ < 16384 := nq_lt _
  have r : rd 16384 keys (nI ((HC p + k) % NQ)) = some (keys ((HC p + k) % NQ)) := rdn hq (by omega) rfl
  have kc := key_cases (codes := codes) (q := (HC p + k) % NQ) (p := p) hc hp (hO.lt _ hq) (hk _ hq)
  rcases k4 with ⟨j, j1, j2, j3⟩ | ⟨j1, j2⟩
  · refine ⟨false, keys, row, slots, n, codes, ?_, h', fun _ _ => rfl, Or.inl ⟨rfl, rfl, rfl, j, j1, j2⟩⟩
    unfold FX6_adds
    rw [k2, bd1_s, r, bd1_s, if_neg (fun z => by have := kc.1.mp ((lg_eq _ _).mp z); omega)]
  · refine ⟨true, vp_updL keys ((HC p + k) % NQ) (lN (p + 1)), vp_updL row n (lN p), upd slots n (nI ((HC p + k) % NQ)), n + 1, up codes n p, ?_, ⟨by omega, fun j hj => ?_, fun j hj => ?_, up cell ((HC p + k) % NQ) (n + 1), hO.add k1 j2 k3 j1, fun q hq' => ?_, fun j hj => ?_⟩, fun j hj => updL_f hj, Or.inr ⟨rfl, rfl, rfl, j1⟩⟩
    · unfold FX6_adds
      rw [k2, bd1_s, r, bd1_s, if_pos ((lg_eq _ _).mpr (kc.1.mpr j2)), lNs1, wl_n hq (by omega), bd1_s, wl_n (by omega) (by omega), bd1_s, wr_n (by omega) (by omega), bd1_s, show nI n + 1 = nI (n + 1) from n_add n 1]
    · by_cases c : j = n
      · rw [upn_t c]; exact hp
      · rw [upn_f c]; exact hc j (by omega)
    · by_cases c : j = n
      · rw [upn_t c, updL_t c]
      · rw [upn_f c, updL_f c]; exact hr j (by omega)
    · by_cases c : q = (HC p + k) % NQ
      · rw [updL_t c, upn_t c, if_neg (by omega), Nat.add_sub_cancel, upn_t rfl]
      · rw [updL_f c, upn_f c, hk q hq']
        by_cases c2 : cell q = 0
        · rw [if_pos c2, if_pos c2]
        · have := hO.lt q hq'
          rw [if_neg c2, if_neg c2, upn_f (by omega)]
    · by_cases c : j = n
      · exact ⟨(HC p + k) % NQ, nq_lt _, up_t c, by rw [upn_t rfl, c]⟩
      · obtain ⟨q, q1, q2, q3⟩ := hs j (by omega)
        refine ⟨q, q1, by rw [up_f c]; exact q2, ?_⟩
        rw [upn_f (fun z => by rw [z, j2] at q3; omega)]
        exact q3
theorem clears6 {keys row : Nat → Int64} {slots : Nat → Int32} {n : Nat} {codes : Nat → Nat} (h : CT keys row slots n codes) : ∃ keys', FX6_clears keys slots (nI n) = some (keys', nI 0) ∧ ∀ row' slots' codes', CT keys' row' slots' 0 codes' := by
  obtain ⟨hn, hc, hr, cell, hO, hk, hs⟩ := h
  obtain ⟨keys', h1, h2⟩ := up_rule (B := fun (s : Int32 × (Nat → Int64)) => FX6_clears_b2 slots (nI n) s.1 s.2) (fun k (a : Nat → Int64) => (nI k, a)) (fun k a => ∀ q, q < NQ → (a q = 0 ∨ k < cell q)) (fun r => ∀ q, q < NQ → r q = 0) n (by
    intro k a hk2 ha
    obtain ⟨q, q1, q2, q3⟩ := hs k hk2
    have r1 : rd 6002 slots (nI k) = some (nI q) := rdn (by omega) (by omega) q2
    refine Or.inl ⟨vp_updL a q 0, ?_, fun q' hq' => ?_⟩
    · show FX6_clears_b2 slots (nI n) (nI k) a = _
      unfold FX6_clears_b2
      rw [if_neg (by rw [le_f (by omega) (by omega)]; exact id), r1, bd1_s, wl_n (show q < 16384 from q1) (by omega), bd1_s, show nI k + 1 = nI (k + 1) from n_add k 1]
    · by_cases c : q' = q
      · exact Or.inl (updL_t c)
      · rw [updL_f c]
        rcases ha q' hq' with z | z
        · exact Or.inl z
        · refine Or.inr ?_
          have : cell q' ≠ k + 1 := fun e => c (hO.inj q' q hq' q1 (by rw [e, q3]) (by omega))
          omega) (by
    intro a ha
    refine ⟨a, ?_, fun q hq => ?_⟩
    · show FX6_clears_b2 slots (nI n) (nI n) a = _
      unfold FX6_clears_b2
      exact if_pos (Int32.le_refl _)
    · rcases ha q hq with z | z
      · exact z
      · have := hO.lt q hq; omega) 0 keys (by omega) (fun q hq => by
    by_cases c : cell q = 0
    · exact Or.inl (by rw [hk q hq, if_pos c])
    · exact Or.inr (by omega))
  refine ⟨keys', ?_, fun row' slots' codes' => ⟨by omega, fun j hj => absurd hj (Nat.not_lt_zero j), fun j hj => absurd hj (Nat.not_lt_zero j), fun _ => 0, OA.none (fun _ _ => rfl), fun q hq => by rw [h2 q hq, if_pos rfl], fun j hj => absurd hj (Nat.not_lt_zero j)⟩⟩
  unfold FX6_clears
  rw [show ((0 : Int32), keys) = (nI 0, keys) from rfl, h1, bd1_s]
  rfl
