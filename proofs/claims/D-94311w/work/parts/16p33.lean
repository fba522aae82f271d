set_option maxRecDepth 100000
/-! which stone to which wished place: what it costs, on both sides -/
def hit (T O : Nat → Nat) (i p : Nat) : Bool := decide (i < T 6) && decide (pl O i < 15) && decide (T (41 + p) = T (7 + i) + 1)
def dst (a b : Nat) : Nat := if b / 3 ≤ a / 3 then a / 3 - b / 3 else b / 3 - a / 3
def cst (w p now : Nat) : Nat := (if now = p then 0 else w) + dst now p
def mF (hi : Nat → Bool) (S : Nat) (co nx : Nat → Nat) (base : Nat) : Nat → Nat
  | 0 => base
  | p + 1 => if hi p && !S.testBit p then min (mF hi S co nx base p) (co p + nx (S ||| 2 ^ p)) else mF hi S co nx base p
/-- the model's: so many stones from the last of eight on -/
def m8 (T O : Nat → Nat) : Nat → Nat → Nat
  | 0, _ => 0
  | d + 1, S => mF (hit T O (7 - d)) S (fun p => cst 1000 p (pl O (7 - d))) (m8 T O d) (m8 T O d S + if 7 - d < T 6 ∧ pl O (7 - d) < 15 then 1000000 else 0) 15
/-- the component's: so many stones from the last on -/
def c0 (T O : Nat → Nat) : Nat → Nat → Nat
  | 0, _ => 0
  | d + 1, S => mF (hit T O (T 6 - 1 - d)) S (fun p => cst 100 p (pl O (T 6 - 1 - d))) (c0 T O d) (10000 + c0 T O d S) 15
/-- a cost of three digits -/
def Tri (n c : Nat) : Prop := ∃ u e d, u ≤ n ∧ e ≤ n ∧ d ≤ 4 * n ∧ c = u * 1000000 + e * 1000 + d
def hC (c : Nat) : Nat := c / 1000000 * 10000 + c / 1000 % 1000 * 100 + c % 1000
theorem hC_eq {u e d : Nat} (he : e < 1000) (hd : d < 1000) : hC (u * 1000000 + e * 1000 + d) = u * 10000 + e * 100 + d := by
  unfold hC
  have h1 : (u * 1000000 + e * 1000 + d) / 1000000 = u := by omega
  have h2 : (u * 1000000 + e * 1000 + d) / 1000 % 1000 = e := by omega
  have h3 : (u * 1000000 + e * 1000 + d) % 1000 = d := by omega
  rw [h1, h2, h3]
theorem Tri.up {n c : Nat} (h : Tri n c) : Tri (n + 1) c := by
  obtain ⟨u, e, d, h1, h2, h3, h4⟩ := h
  exact ⟨u, e, d, by omega, by omega, by omega, h4⟩
theorem Tri.le {n c c' : Nat} (hn : n ≤ 8) (h : Tri n c) (h' : Tri n c') : (c ≤ c' ↔ hC c ≤ hC c') := by
  obtain ⟨u, e, d, h1, h2, h3, rfl⟩ := h
  obtain ⟨u', e', d', h1', h2', h3', rfl⟩ := h'
  rw [hC_eq (by omega) (by omega), hC_eq (by omega) (by omega)]
  rcases Nat.lt_trichotomy u u' with c | c | c
  · omega
  · subst c
    rcases Nat.lt_trichotomy e e' with c | c | c <;> omega
  · omega
theorem Tri.min {n c c' : Nat} (hn : n ≤ 8) (h : Tri n c) (h' : Tri n c') : Tri n (min c c') ∧ hC (min c c') = min (hC c) (hC c') := by
  have hl := h.le hn h'
  by_cases q : c ≤ c'
  · rw [Nat.min_eq_left q, Nat.min_eq_left (hl.mp q)]
    exact ⟨h, rfl⟩
  · have hl2 := h'.le hn h
    rw [Nat.min_eq_right (by omega), Nat.min_eq_right (hl2.mp (by omega))]
    exact ⟨h', rfl⟩
theorem Tri.eq {n c c' : Nat} (hn : n ≤ 8) (h : Tri n c) (h' : Tri n c') : (c = c' ↔ hC c = hC c') := by
  have h1 := h.le hn h'
  have h2 := h'.le hn h
  omega
theorem Tri.add {n c x : Nat} (hn : n ≤ 7) (h : Tri n c) {p now : Nat} (hp : p < 15) (hnow : now < 15) (hx : x = cst 1000 p now) : Tri (n + 1) (x + c) ∧ hC (x + c) = cst 100 p now + hC c := by
  obtain ⟨u, e, d, h1, h2, h3, rfl⟩ := h
  have hd : dst now p ≤ 4 := by
    unfold dst
    split <;> omega
  rw [hC_eq (by omega) (by omega), hx]
  unfold cst
  by_cases q : now = p
  · rw [if_pos q, if_pos q, show 0 + dst now p + (u * 1000000 + e * 1000 + d) = u * 1000000 + e * 1000 + (d + dst now p) by omega, hC_eq (by omega) (by omega)]
    exact ⟨⟨u, e, d + dst now p, by omega, by omega, by omega, rfl⟩, by omega⟩
  · rw [if_neg q, if_neg q, show 1000 + dst now p + (u * 1000000 + e * 1000 + d) = u * 1000000 + (e + 1) * 1000 + (d + dst now p) by omega, hC_eq (by omega) (by omega)]
    exact ⟨⟨u, e + 1, d + dst now p, by omega, by omega, by omega, rfl⟩, by omega⟩
theorem Tri.out {n c : Nat} (hn : n ≤ 7) (h : Tri n c) : Tri (n + 1) (c + 1000000) ∧ hC (c + 1000000) = 10000 + hC c := by
  obtain ⟨u, e, d, h1, h2, h3, rfl⟩ := h
  rw [hC_eq (by omega) (by omega), show u * 1000000 + e * 1000 + d + 1000000 = (u + 1) * 1000000 + e * 1000 + d by omega, hC_eq (by omega) (by omega)]
  exact ⟨⟨u + 1, e, d, by omega, by omega, by omega, rfl⟩, by omega⟩
theorem mF_out {hi : Nat → Bool} {S : Nat} {co nx : Nat → Nat} {base : Nat} (h : ∀ p, hi p = false) : ∀ n, mF hi S co nx base n = base := by
  intro n
  induction n with
  | zero => rfl
  | succ n ih => rw [mF, h n, Bool.false_and, if_neg Bool.false_ne_true, ih]
section P33
variable {all t on at' many ca la : Nat → Int32} {T O M M' : Nat → Nat} {V : Nat → BvT} {mv as1 a b : Nat} {p q : Int32} {lies : Int64} {year : Int32}
theorem hit_out {i : Nat} (h : ¬ (i < T 6 ∧ pl O i < 15)) (p : Nat) : hit T O i p = false := by
  unfold hit
  by_cases c : i < T 6
  · rw [decide_eq_false (show ¬ pl O i < 15 from fun z => h ⟨c, z⟩), Bool.and_false, Bool.false_and]
  · rw [decide_eq_false c, Bool.false_and, Bool.false_and]
theorem m8_0 (hb : T 6 ≤ 8) : ∀ d S, d + T 6 ≤ 8 → m8 T O d S = 0 := by
  intro d
  induction d with
  | zero => intro S _; rfl
  | succ d ih =>
    intro S h
    rw [m8, mF_out (hit_out (by omega)), ih S (by omega), if_neg (by omega)]
/-- how many of the last ones don't lie anywhere -/
def ntN (T O : Nat → Nat) : Nat → Nat
  | 0 => 0
  | d + 1 => ntN T O d + if pl O (T 6 - 1 - d) < 15 then 0 else 1
theorem mc_rel (hb : T 6 ≤ 8) : ∀ e, e ≤ T 6 → ∀ S, Tri e (m8 T O (8 - T 6 + e) S) ∧ c0 T O e S = hC (m8 T O (8 - T 6 + e) S) + 10000 * ntN T O e := by
  intro e
  induction e with
  | zero =>
    intro _ S
    rw [m8_0 hb _ _ (by omega)]
    exact ⟨⟨0, 0, 0, by omega, by omega, by omega, rfl⟩, rfl⟩
  | succ e ih =>
    intro he S
    have hi : 7 - (8 - T 6 + e) = T 6 - 1 - e := by omega
    rw [show 8 - T 6 + (e + 1) = (8 - T 6 + e) + 1 by omega, m8, c0, ntN, hi]
    generalize hj : T 6 - 1 - e = i
    have hi6 : i < T 6 := by omega
    by_cases ht : pl O i < 15
    · rw [if_pos ⟨hi6, ht⟩, if_pos ht]
      obtain ⟨t1, t2⟩ := ih (by omega) S
      obtain ⟨o1, o2⟩ := t1.out (by omega)
      have key : ∀ n, n ≤ 15 → Tri (e + 1) (mF (hit T O i) S (fun p => cst 1000 p (pl O i)) (m8 T O (8 - T 6 + e)) (m8 T O (8 - T 6 + e) S + 1000000) n) ∧ mF (hit T O i) S (fun p => cst 100 p (pl O i)) (c0 T O e) (10000 + c0 T O e S) n = hC (mF (hit T O i) S (fun p => cst 1000 p (pl O i)) (m8 T O (8 - T 6 + e)) (m8 T O (8 - T 6 + e) S + 1000000) n) + 10000 * (ntN T O e + 0) := by
        intro n
        induction n with
        | zero =>
          intro _
          refine ⟨o1, ?_⟩
          rw [mF, mF, o2, t2]
          omega
        | succ n ihn =>
          intro hn
          obtain ⟨k1, k2⟩ := ihn (by omega)
          rw [mF, mF]
          by_cases c : (hit T O i n && !S.testBit n) = true
          · rw [if_pos c, if_pos c]
            obtain ⟨t1', t2'⟩ := ih (by omega) (S ||| 2 ^ n)
            obtain ⟨a1, a2⟩ := t1'.add (by omega) (p := n) (now := pl O i) (by omega) ht rfl
            obtain ⟨b1, b2⟩ := k1.min (by omega) a1
            refine ⟨b1, ?_⟩
            rw [b2, a2, k2, t2']
            omega
          · rw [if_neg c, if_neg c]
            exact ⟨k1, k2⟩
      exact key 15 (by omega)
    · rw [if_neg (fun z => ht z.2), if_neg ht, mF_out (hit_out (fun z => ht z.2)), mF_out (hit_out (fun z => ht z.2))]
      obtain ⟨t1, t2⟩ := ih (by omega) S
      refine ⟨t1.up, ?_⟩
      rw [t2]
      show 10000 + _ = hC (m8 T O (8 - T 6 + e) S) + _
      omega
/-! the least place by which all that is left is least -/
def chP (T O : Nat → Nat) (i S p : Nat) : Bool := hit T O i p && !S.testBit p && decide (cst 1000 p (pl O i) + m8 T O (7 - i) (S ||| 2 ^ p) = m8 T O (8 - i) S)
def chC (T O : Nat → Nat) (i S p : Nat) : Bool := hit T O i p && !S.testBit p && decide (cst 100 p (pl O i) + c0 T O (T 6 - 1 - i) (S ||| 2 ^ p) = c0 T O (T 6 - i) S)
theorem ch_eq (hb : T 6 ≤ 8) {i : Nat} (hi : i < T 6) (S : Nat) {p : Nat} (hp : p < 15) : chC T O i S p = chP T O i S p := by
  unfold chC chP
  by_cases c : hit T O i p = true
  · have ht : pl O i < 15 := by
      by_cases q : i < T 6 ∧ pl O i < 15
      · exact q.2
      · rw [hit_out q] at c
        exact absurd c Bool.false_ne_true
    have h1 := mc_rel (O := O) hb (T 6 - 1 - i) (by omega) (S ||| 2 ^ p)
    have h2 := mc_rel (O := O) hb (T 6 - i) (by omega) S
    rw [show 8 - T 6 + (T 6 - 1 - i) = 7 - i by omega] at h1
    rw [show 8 - T 6 + (T 6 - i) = 8 - i by omega] at h2
    obtain ⟨a1, a2⟩ := h1.1.add (by omega) hp ht rfl
    rw [show T 6 - 1 - i + 1 = T 6 - i by omega] at a1
    have h3 := a1.eq (by omega) h2.1
    have h4 : ntN T O (T 6 - i) = ntN T O (T 6 - 1 - i) := by
      rw [show T 6 - i = (T 6 - 1 - i) + 1 by omega, ntN, show T 6 - 1 - (T 6 - 1 - i) = i by omega, if_pos ht, Nat.add_zero]
    rw [h1.2, h2.2, h4]
    by_cases q : cst 1000 p (pl O i) + m8 T O (7 - i) (S ||| 2 ^ p) = m8 T O (8 - i) S
    · rw [decide_eq_true q, decide_eq_true (by have := h3.mp q; omega)]
    · rw [decide_eq_false q, decide_eq_false (fun z => q (h3.mpr (by omega)))]
  · rw [Bool.eq_false_iff.mpr c, Bool.false_and, Bool.false_and, Bool.false_and]
def fsR (P : Nat → Bool) : Nat → Nat → Nat
  | 0, _ => 0
  | f + 1, k => if P k then k + 1 else fsR P f (k + 1)
theorem fsR_least (P : Nat → Bool) (n : Nat) : ∀ f k, k + f = n → (∀ j, j < k → P j = false) → Least P n (fsR P f k) := by
  intro f
  induction f with
  | zero => intro k hk h; exact Or.inl ⟨rfl, fun i hi => h i (by omega)⟩
  | succ f ih =>
    intro k hk h
    rw [fsR]
    by_cases c : P k = true
    · rw [if_pos c]
      exact Or.inr ⟨k, by omega, rfl, c, h⟩
    · rw [if_neg c]
      refine ih (k + 1) (by omega) fun j hj => ?_
      by_cases e : j = k
      · rw [e]; exact Bool.eq_false_iff.mpr c
      · exact h j (by omega)
theorem Least.le {P : Nat → Bool} {n m : Nat} (h : Least P n m) : m ≤ n := by
  rcases h with ⟨rfl, -⟩ | ⟨i, hi, rfl, -⟩ <;> omega
/-- a place of a stone when those taken are S; and who took what, by stones -/
def chS (T O : Nat → Nat) (i S : Nat) : Nat := fsR (chP T O i S) 15 0
def tkS (T O : Nat → Nat) : Nat → Nat
  | 0 => 0
  | i + 1 => tkS T O i ||| (if chS T O i (tkS T O i) = 0 then 0 else 2 ^ (chS T O i (tkS T O i) - 1))
def mtS' (T O : Nat → Nat) (i : Nat) : Nat := chS T O i (tkS T O i)
theorem chS_least (i S : Nat) : Least (chP T O i S) 15 (chS T O i S) := fsR_least _ 15 15 0 (by omega) (fun j hj => absurd hj (Nat.not_lt_zero j))
theorem chS_le (i S : Nat) : chS T O i S ≤ 15 := (chS_least i S).le
theorem tk_lt : ∀ i, tkS T O i < 32768 := by
  intro i
  induction i with
  | zero => show 0 < 32768; omega
  | succ i ih =>
    have := chS_le (T := T) (O := O) i (tkS T O i)
    rw [tkS]
    refine Nat.or_lt_two_pow (n := 15) ih ?_
    split
    · exact by decide
    · exact Nat.pow_lt_pow_right (by decide) (by omega)
theorem chS_out {i S : Nat} (h : ¬ (i < T 6 ∧ pl O i < 15)) : chS T O i S = 0 := by
  rcases chS_least (T := T) (O := O) i S with ⟨h1, -⟩ | ⟨p, hp, h1, h2, -⟩
  · exact h1
  · unfold chP at h2
    rw [hit_out h, Bool.false_and, Bool.false_and] at h2
    exact absurd h2 Bool.false_ne_true
theorem mF_le (hi : Nat → Bool) (S : Nat) (co nx : Nat → Nat) (base : Nat) : ∀ n, mF hi S co nx base n ≤ base := by
  intro n
  induction n with
  | zero => exact Nat.le_refl _
  | succ n ih =>
    rw [mF]
    split
    · exact Nat.le_trans (Nat.min_le_left _ _) ih
    · exact ih
theorem m8_le : ∀ d S, m8 T O d S ≤ 1000000 * d := by
  intro d
  induction d with
  | zero => intro S; exact Nat.le_refl _
  | succ d ih =>
    intro S
    rw [m8]
    refine Nat.le_trans (mF_le _ _ _ _ _ _) ?_
    have := ih S
    split <;> omega
theorem c0_le : ∀ d S, c0 T O d S ≤ 10000 * d := by
  intro d
  induction d with
  | zero => intro S; exact Nat.le_refl _
  | succ d ih =>
    intro S
    rw [c0]
    refine Nat.le_trans (mF_le _ _ _ _ _ _) ?_
    have := ih S
    omega
theorem cst_le {w p now : Nat} (hw : w ≤ 1000) (hp : p < 15) (hn : now < 15) : cst w p now ≤ 1004 := by
  have hd : dst now p ≤ 4 := by
    unfold dst
    split <;> omega
  unfold cst
  split <;> omega
end P33
