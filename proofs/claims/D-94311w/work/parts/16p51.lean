set_option maxRecDepth 100000
section P51
variable {all t on at' many : Nat → Int32} {T O O' M : Nat → Nat} {V : Nat → BvT} {mv as1 : Nat}
theorem VA.p1 (hW : WT T) {f : Nat} {acc : Acc} {s : St} {fl : Bool} {a b : Nat} (hs : VS T s) (ha : a < 5) (hb : b < 5) (h : VA T f acc) : VA T f (pair1 T V as1 fl f s a b acc) := by
  unfold pair1
  split
  · rename_i c
    exact h.add (VS.car (fl := fl) hW hs c ha hb).1
  · exact h
theorem VA.p2 (hW : WT T) {f : Nat} {acc : Acc} {s : St} {fl : Bool} {a b : Nat} (hs : VS T s) (ha : a < 5) (hb : b < 5) (h : VA T f acc) : VA T f (pair2 T V fl f s a b acc) := by
  unfold pair2
  split
  · rename_i c
    exact h.add (VS.ex (fl := fl) hW hs c.2 ha hb).1
  · exact h
theorem VA.row (hW : WT T) {f : Nat} {acc : Acc} {s : St} {fl : Bool} {a : Nat} (hs : VS T s) (ha : a < 5) (h : VA T f acc) : ∀ b, b ≤ 5 → VA T f (rowS T V as1 fl f s a acc b) := by
  intro b
  induction b with
  | zero => intro _; exact h
  | succ b ih => intro hb; exact VA.p2 hW hs ha (by omega) (VA.p1 hW hs ha (by omega) (ih (by omega)))
theorem VA.alls (hW : WT T) {f : Nat} {acc : Acc} {s : St} {fl : Bool} (hs : VS T s) (h : VA T f acc) : ∀ a, a ≤ 5 → VA T f (allS T V as1 fl f s acc a) := by
  have hw := hW.b
  intro a
  induction a with
  | zero => intro _; exact h
  | succ a ih => intro ha; exact VA.row hW hs (by omega) (ih (by omega)) (T 0) (by omega)
theorem addS_sp {f : Nat} {acc : Acc} {s : St} (h : acc.2.2 = true) : (addS f acc s).2.2 = true := by
  unfold addS
  split
  · exact h
  · split
    · rfl
    · exact h
theorem p1_sp {f : Nat} {acc : Acc} {s : St} {fl : Bool} {a b : Nat} (h : acc.2.2 = true) : (pair1 T V as1 fl f s a b acc).2.2 = true := by
  unfold pair1
  split
  · exact addS_sp h
  · exact h
theorem p2_sp {f : Nat} {acc : Acc} {s : St} {fl : Bool} {a b : Nat} (h : acc.2.2 = true) : (pair2 T V fl f s a b acc).2.2 = true := by
  unfold pair2
  split
  · exact addS_sp h
  · exact h
theorem row_sp {f : Nat} {acc : Acc} {s : St} {fl : Bool} {a b : Nat} (h : (rowS T V as1 fl f s a acc b).2.2 = true) : ∀ k, (rowS T V as1 fl f s a acc (b + k)).2.2 = true := by
  intro k
  induction k with
  | zero => exact h
  | succ k ih => exact p2_sp (p1_sp ih)
theorem row_sp0 {f : Nat} {acc : Acc} {s : St} {fl : Bool} {a : Nat} (h : acc.2.2 = true) (b : Nat) : (rowS T V as1 fl f s a acc b).2.2 = true := by
  have := row_sp (T := T) (V := V) (as1 := as1) (fl := fl) (f := f) (s := s) (a := a) (acc := acc) (b := 0) h b
  rwa [Nat.zero_add] at this
theorem all_sp {f : Nat} {acc : Acc} {s : St} {fl : Bool} {a : Nat} (h : (allS T V as1 fl f s acc a).2.2 = true) : ∀ k, (allS T V as1 fl f s acc (a + k)).2.2 = true := by
  intro k
  induction k with
  | zero => exact h
  | succ k ih => exact row_sp0 ih (T 0)
theorem CA.over {keys row : Nat → Int64} {slots : Nat → Int32} {n f : Nat} {acc acc' : Acc} (h : CA T keys row slots n f acc) (hv : VA T f acc') (h1 : acc.2.2 = true) (h2 : acc'.2.2 = true) : CA T keys row slots n f acc' := by
  obtain ⟨-, ⟨c1, -⟩ | ⟨-, c2, c3⟩⟩ := h
  · rw [h1] at c1; exact absurd c1.symm Bool.false_ne_true
  · exact ⟨hv, Or.inr ⟨h2, c2, c3⟩⟩
theorem cap0 {keys row : Nat → Int64} {slots : Nat → Int32} {n f b : Nat} {acc : Acc} (h : CA T keys row slots n f acc) (hf : f ≤ 6000) (hn : n ≤ 6002) : FX0_closes_j202 (nI f) (nI b) keys row slots (nI n) = some (if acc.2.2 then .inr (.inl (keys, row, slots, nI n)) else .inl (nI (b + 1), keys, row, slots, nI n)) := by
  have e : nI f + nI n = nI (f + n) := n_add f n
  unfold FX0_closes_j202
  rw [e, show nI b + 1 = nI (b + 1) from n_add b 1]
  obtain ⟨hv, ⟨c1, c2, -⟩ | ⟨c1, c2, -⟩⟩ := h
  · have := hv.1
    rw [c1, if_pos (show nI (f + n) ≤ 6000 by rw [show (6000 : Int32) = nI 6000 from rfl, le_t (by omega) (by omega)]; trivial)]
    rfl
  · rw [c1, if_neg (show ¬ nI (f + n) ≤ 6000 by rw [show (6000 : Int32) = nI 6000 from rfl, le_f (by omega) (by omega)]; exact id)]
    rfl
theorem pairC (ht : TwAt t T) (hW : WT T) (h114 : T 114 ≤ 8) {s : St} (hs : VS T s) (has : as1 < 100) {a b : Nat} (ha : a < T 0) (hb : b < T 0) (fl : Bool) (hat : AtAt at' many s.1 s.2.1) {keys row : Nat → Int64} {slots : Nat → Int32} {n f : Nat} {acc : Acc} (h : CA T keys row slots n f acc) (h0 : acc.2.2 = false) : ∃ keys' row' slots' n', FX0_closes_b56 (nD as1) (nI (T 114)) V t (nI f) (nI (if fl then 1 else 0)) (lN (cdS s)) at' many (nI s.2.2) (nI a) (nI b) keys row slots (nI n) = some (if (pair2 T V fl f s a b (pair1 T V as1 fl f s a b acc)).2.2 then .inr (.inl (keys', row', slots', nI n')) else .inl (nI (b + 1), keys', row', slots', nI n')) ∧ CA T keys' row' slots' n' f (pair2 T V fl f s a b (pair1 T V as1 fl f s a b acc)) ∧ n' ≤ 6002 := by
  have hw := hW.b
  have g0 := ht.n (k := 0) (by omega) (by omega)
  have hm := hs.2
  have hS := hs.1
  have hv := h.1
  have hf : f ≤ 6000 := by have := hv.1; omega
  have hn : n ≤ 6000 := by
    rcases h.2 with ⟨-, c2, -⟩ | ⟨c1, -⟩
    · have := hv.1; omega
    · rw [h0] at c1; exact absurd c1 Bool.false_ne_true
  have m3 := hS.m3 hW (show a < 5 by omega)
  have n3 := hS.m3 hW (show b < 5 by omega)
  have ra : rd 5 many (nI a) = some (nI (s.2.1 a)) := rdn (by omega) (by omega) (hat.2 a (by omega))
  have rb : rd 5 many (nI b) = some (nI (s.2.1 b)) := rdn (by omega) (by omega) (hat.2 b (by omega))
  have half : ∀ (keys1 row1 : Nat → Int64) (slots1 : Nat → Int32) (n1 : Nat) (acc1 : Acc), CA T keys1 row1 slots1 n1 f acc1 → n1 ≤ 6001 → ∃ keys' row' slots' n', FX0_closes_j116 (nI (T 114)) V t (nI f) (nI (if fl then 1 else 0)) (lN (cdS s)) at' many (nI s.2.2) (nI a) (nI b) keys1 row1 slots1 (nI n1) = some (if (pair2 T V fl f s a b acc1).2.2 then .inr (.inl (keys', row', slots', nI n')) else .inl (nI (b + 1), keys', row', slots', nI n')) ∧ CA T keys' row' slots' n' f (pair2 T V fl f s a b acc1) ∧ n' ≤ 6002 := by
    intro keys1 row1 slots1 n1 acc1 h1 hn1
    unfold FX0_closes_j116
    by_cases c : b ≤ a
    · have : pair2 T V fl f s a b acc1 = acc1 := if_neg (fun z => by omega)
      rw [this, if_pos (by rw [le_t c (by omega)]; trivial)]
      exact ⟨keys1, row1, slots1, n1, cap0 h1 hf (by omega), h1, by omega⟩
    · rw [if_neg (by rw [le_f (by omega) (by omega)]; exact id)]
      have e1 := mayX4 (V := V) (mv := s.2.2) ht hat hW hS h114 hm (nI a) (nI b)
      rw [e1, bd1_s]
      by_cases c2 : mtS T s.1 s.2.1 V s.2.2 (nI a) (nI b) = 0
      · obtain ⟨v1, v2, v3, v4, v5, v6⟩ := VS.ex (fl := fl) hW hs c2 (by omega) (by omega)
        have : pair2 T V fl f s a b acc1 = addS f acc1 (exSt fl s a b) := if_pos ⟨by omega, c2⟩
        rw [this, if_pos (by rw [c2]; rfl)]
        have ta := top4 hat hW hS (show a < 5 by omega) (by omega)
        have tb := top4 hat hW hS (show b < 5 by omega) (by omega)
        obtain ⟨y, y1, y2⟩ := toEx hW hs v2 v3 v4 v5 v6
        obtain ⟨s1, s2, s3⟩ := hS.st hW (show a < 5 by omega) (show s.2.1 a - 1 < s.2.1 a by omega)
        obtain ⟨r1, r2, r3⟩ := hS.st hW (show b < 5 by omega) (show s.2.1 b - 1 < s.2.1 b by omega)
        have x1 : (3 : Int32) * nI b + nI (s.2.1 b) - 1 = nI (3 * b + (s.2.1 b - 1)) := by
          rw [show (3 : Int32) = nI 3 from rfl, n_mul, n_add, show nI (3 * b + s.2.1 b) - 1 = nD (3 * b + s.2.1 b) from rfl, nD_pos (by omega), show 3 * b + s.2.1 b - 1 = 3 * b + (s.2.1 b - 1) by omega]
        have x2 : (3 : Int32) * nI a + nI (s.2.1 a) - 1 = nI (3 * a + (s.2.1 a - 1)) := by
          rw [show (3 : Int32) = nI 3 from rfl, n_mul, n_add, show nI (3 * a + s.2.1 a) - 1 = nD (3 * a + s.2.1 a) from rfl, nD_pos (by omega), show 3 * a + s.2.1 a - 1 = 3 * a + (s.2.1 a - 1) by omega]
        obtain ⟨keys2, row2, slots2, n2, q1, q2, q3⟩ := comesC (s := exSt fl s a b) (fl := fl) (m0 := s.2.2 ||| (2 ^ (s.1 (3 * b + (s.2.1 b - 1)) - 1) ||| 2 ^ (s.1 (3 * a + (s.2.1 a - 1)) - 1))) hW h1 (by omega) v1 (by rw [← Nat.or_assoc]; exact or_lt (or_lt hm (by omega)) (by omega)) rfl
        refine ⟨keys2, row2, slots2, n2, ?_, q2, by omega⟩
        rw [ta, bd1_s, rb, bd1_s, x1, y1, bd1_s, tb, bd1_s, ra, bd1_s, x2, y2, bd1_s, show FX0_comes keys1 row1 slots1 (nI n1) (lN (enc (exO s.1 s.2.1 a b) (s.2.2 ||| (2 ^ (s.1 (3 * b + (s.2.1 b - 1)) - 1) ||| 2 ^ (s.1 (3 * a + (s.2.1 a - 1)) - 1))))) (nI (if fl then 1 else 0)) = _ from q1, bd4_s]
        exact cap0 q2 hf (by omega)
      · have hle : mtS T s.1 s.2.1 V s.2.2 (nI a) (nI b) < 2147483648 := Nat.lt_of_le_of_lt mtS_le (by decide)
        have : pair2 T V fl f s a b acc1 = acc1 := if_neg (fun z => c2 z.2)
        rw [this, if_neg (by rw [show (0 : Int32) = nI 0 from rfl, eq_f c2 hle (by omega)]; exact id)]
        exact ⟨keys1, row1, slots1, n1, cap0 h1 hf (by omega), h1, by omega⟩
  have e1 := may4 (V := V) (mv := s.2.2) (as1 := as1) ht hat hW hS h114 hm has (nI a) (nI b)
  unfold FX0_closes_b56
  rw [g0, if_neg (by rw [le_f (by omega) (by omega)]; exact id), e1, bd1_s]
  by_cases c2 : maS T s.1 s.2.1 V s.2.2 as1 (nI a) (nI b) = 0
  · obtain ⟨v1, v2, v3, v4, v5, v6⟩ := VS.car (fl := fl) hW hs c2 (by omega) (by omega)
    have p1 : pair1 T V as1 fl f s a b acc = addS f acc (carS fl s a b) := if_pos c2
    rw [p1, if_pos (by rw [c2]; rfl)]
    have ta := top4 hat hW hS (show a < 5 by omega) (by omega)
    obtain ⟨s1, s2, s3⟩ := hS.st hW (show a < 5 by omega) (show s.2.1 a - 1 < s.2.1 a by omega)
    have y1 := toCar hW hs v2 v3 v4 v5 v6
    have x1 : (3 : Int32) * nI b + nI (s.2.1 b) = nI (3 * b + s.2.1 b) := by rw [show (3 : Int32) = nI 3 from rfl, n_mul, n_add]
    obtain ⟨keys2, row2, slots2, n2, q1, q2, q3⟩ := comesC (s := carS fl s a b) (fl := fl) (m0 := s.2.2 ||| 2 ^ (s.1 (3 * a + (s.2.1 a - 1)) - 1)) hW h (by omega) v1 (or_lt hm (by omega)) rfl
    obtain ⟨keys3, row3, slots3, n4, z1, z2, z3⟩ := half keys2 row2 slots2 n2 _ q2 (by omega)
    refine ⟨keys3, row3, slots3, n4, ?_, z2, z3⟩
    rw [ta, bd1_s, rb, bd1_s, x1, y1, bd1_s, show FX0_comes keys row slots (nI n) (lN (enc (caO s.1 s.2.1 a b) (s.2.2 ||| 2 ^ (s.1 (3 * a + (s.2.1 a - 1)) - 1)))) (nI (if fl then 1 else 0)) = _ from q1, bd4_s]
    exact z1
  · have hle := maS_le (T := T) (O := s.1) (M := s.2.1) (V := V) (mv := s.2.2) (as1 := as1) (p := nI a) (q := nI b)
    have p1 : pair1 T V as1 fl f s a b acc = acc := if_neg c2
    rw [p1, if_neg (by rw [show (0 : Int32) = nI 0 from rfl, eq_f c2 (by omega) (by omega)]; exact id)]
    exact half keys row slots n acc h (by omega)
end P51
