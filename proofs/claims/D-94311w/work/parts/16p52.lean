set_option maxRecDepth 100000
section P52
variable {all t on at' many : Nat → Int32} {T O O' M : Nat → Nat} {V : Nat → BvT} {mv as1 : Nat}
theorem rowC (ht : TwAt t T) (hW : WT T) (h114 : T 114 ≤ 8) {s : St} (hs : VS T s) (has : as1 < 100) {a : Nat} (ha : a < T 0) (fl : Bool) (hat : AtAt at' many s.1 s.2.1) {f : Nat} {acc : Acc} : ∀ d b (keys row : Nat → Int64) (slots : Nat → Int32) (n : Nat), b + d = T 0 → CA T keys row slots n f (rowS T V as1 fl f s a acc b) → (rowS T V as1 fl f s a acc b).2.2 = false → ∃ keys' row' slots' n', loopC (fun (s1 : Int32 × (Nat → Int64) × (Nat → Int64) × (Nat → Int32) × Int32) => FX0_closes_b56 (nD as1) (nI (T 114)) V t (nI f) (nI (if fl then 1 else 0)) (lN (cdS s)) at' many (nI s.2.2) (nI a) s1.1 s1.2.1 s1.2.2.1 s1.2.2.2.1 s1.2.2.2.2) (nI b, keys, row, slots, nI n) = some (if (rowS T V as1 fl f s a acc (T 0)).2.2 then .inl (keys', row', slots', nI n') else .inr (keys', row', slots', nI n')) ∧ CA T keys' row' slots' n' f (rowS T V as1 fl f s a acc (T 0)) ∧ n' ≤ 6002 := by
  have hw := hW.b
  have g0 := ht.n (k := 0) (by omega) (by omega)
  intro d
  induction d with
  | zero =>
    intro b keys row slots n hb h h0
    obtain rfl : b = T 0 := by omega
    have hn : n ≤ 6002 := by
      have hv := h.1.1
      rcases h.2 with ⟨-, c2, -⟩ | ⟨c1, -⟩
      · omega
      · rw [h0] at c1; exact absurd c1 Bool.false_ne_true
    refine ⟨keys, row, slots, n, loopC_inr ?_, h, hn⟩
    rw [h0]
    show FX0_closes_b56 (nD as1) (nI (T 114)) V t (nI f) (nI (if fl then 1 else 0)) (lN (cdS s)) at' many (nI s.2.2) (nI a) (nI (T 0)) keys row slots (nI n) = _
    unfold FX0_closes_b56
    rw [g0, if_pos (Int32.le_refl _)]
    rfl
  | succ d ih =>
    intro b keys row slots n hb h h0
    obtain ⟨keys1, row1, slots1, n1, e1, e2, e3⟩ := pairC ht hW h114 hs has ha (show b < T 0 by omega) fl hat h h0
    have e2' : CA T keys1 row1 slots1 n1 f (rowS T V as1 fl f s a acc (b + 1)) := e2
    have e1' : FX0_closes_b56 (nD as1) (nI (T 114)) V t (nI f) (nI (if fl then 1 else 0)) (lN (cdS s)) at' many (nI s.2.2) (nI a) (nI b) keys row slots (nI n) = some (if (rowS T V as1 fl f s a acc (b + 1)).2.2 then .inr (.inl (keys1, row1, slots1, nI n1)) else .inl (nI (b + 1), keys1, row1, slots1, nI n1)) := e1
    cases hsp : (rowS T V as1 fl f s a acc (b + 1)).2.2 with
    | true =>
      rw [hsp, if_pos rfl] at e1'
      have hT := row_sp hsp d
      rw [show b + 1 + d = T 0 by omega] at hT
      have hv : VA T f (rowS T V as1 fl f s a acc (T 0)) := by
        have key : ∀ k, b + 1 + k ≤ T 0 → VA T f (rowS T V as1 fl f s a acc (b + 1 + k)) := by
          intro k
          induction k with
          | zero => intro _; exact e2'.1
          | succ k ihk => intro hk; exact VA.p2 hW hs (show a < 5 by omega) (show b + 1 + k < 5 by omega) (VA.p1 hW hs (show a < 5 by omega) (show b + 1 + k < 5 by omega) (ihk (by omega)))
        have := key d (by omega)
        rwa [show b + 1 + d = T 0 by omega] at this
      refine ⟨keys1, row1, slots1, n1, ?_, e2'.over hv hsp hT, e3⟩
      rw [hT, if_pos rfl]
      exact loopC_inr e1'
    | false =>
      rw [hsp, if_neg Bool.false_ne_true] at e1'
      obtain ⟨keys2, row2, slots2, n2, f1, f2, f3⟩ := ih (b + 1) keys1 row1 slots1 n1 (by omega) e2' hsp
      exact ⟨keys2, row2, slots2, n2, (loopC_inl e1').trans f1, f2, f3⟩
theorem CA.n6 {keys row : Nat → Int64} {slots : Nat → Int32} {n f : Nat} {acc : Acc} (h : CA T keys row slots n f acc) (h0 : acc.2.2 = false) : n = acc.1 ∧ f + n ≤ 6000 := by
  have hv := h.1.1
  rcases h.2 with ⟨-, c2, -⟩ | ⟨c1, -⟩
  · exact ⟨c2, by omega⟩
  · rw [h0] at c1; exact absurd c1 Bool.false_ne_true
theorem allC (ht : TwAt t T) (hW : WT T) (h114 : T 114 ≤ 8) {s : St} (hs : VS T s) (has : as1 < 100) (fl : Bool) (hat : AtAt at' many s.1 s.2.1) {f : Nat} {acc : Acc} : ∀ d a (keys row : Nat → Int64) (slots : Nat → Int32) (n : Nat), a + d = T 0 → CA T keys row slots n f (allS T V as1 fl f s acc a) → (allS T V as1 fl f s acc a).2.2 = false → ∃ keys' row' slots' n', loopC (fun (s1 : Int32 × (Nat → Int64) × (Nat → Int64) × (Nat → Int32) × Int32) => FX0_closes_b41 (nD as1) (nI (T 114)) V t (nI f) (nI (if fl then 1 else 0)) (lN (cdS s)) at' many (nI s.2.2) s1.1 s1.2.1 s1.2.2.1 s1.2.2.2.1 s1.2.2.2.2) (nI a, keys, row, slots, nI n) = some (if (allS T V as1 fl f s acc (T 0)).2.2 then .inl (keys', row', slots', nI n') else .inr (keys', row', slots', nI n')) ∧ CA T keys' row' slots' n' f (allS T V as1 fl f s acc (T 0)) ∧ n' ≤ 6002 := by
  have hw := hW.b
  have g0 := ht.n (k := 0) (by omega) (by omega)
  intro d
  induction d with
  | zero =>
    intro a keys row slots n hb h h0
    obtain rfl : a = T 0 := by omega
    have hn := h.n6 h0
    refine ⟨keys, row, slots, n, loopC_inr ?_, h, by omega⟩
    rw [h0]
    show FX0_closes_b41 (nD as1) (nI (T 114)) V t (nI f) (nI (if fl then 1 else 0)) (lN (cdS s)) at' many (nI s.2.2) (nI (T 0)) keys row slots (nI n) = _
    unfold FX0_closes_b41
    rw [g0, if_pos (Int32.le_refl _)]
    rfl
  | succ d ih =>
    intro a keys row slots n hb h h0
    obtain ⟨keys1, row1, slots1, n1, e1, e2, e3⟩ := rowC (acc := allS T V as1 fl f s acc a) ht hW h114 hs has (show a < T 0 by omega) fl hat (T 0) 0 keys row slots n (by omega) h h0
    have e2' : CA T keys1 row1 slots1 n1 f (allS T V as1 fl f s acc (a + 1)) := e2
    have e1' : loopC (fun (s1 : Int32 × (Nat → Int64) × (Nat → Int64) × (Nat → Int32) × Int32) => FX0_closes_b56 (nD as1) (nI (T 114)) V t (nI f) (nI (if fl then 1 else 0)) (lN (cdS s)) at' many (nI s.2.2) (nI a) s1.1 s1.2.1 s1.2.2.1 s1.2.2.2.1 s1.2.2.2.2) ((0 : Int32), keys, row, slots, nI n) = some (if (allS T V as1 fl f s acc (a + 1)).2.2 then .inl (keys1, row1, slots1, nI n1) else .inr (keys1, row1, slots1, nI n1)) := e1
    have body : ∀ r, bdS2 (some (if (allS T V as1 fl f s acc (a + 1)).2.2 then .inl (keys1, row1, slots1, nI n1) else .inr (keys1, row1, slots1, nI n1))) (un4 fun a_sKeys_632 a_sRow_633 a_sSlots_634 v_sMany_635 => some (.inr (.inl (a_sKeys_632, a_sRow_633, a_sSlots_634, v_sMany_635)))) (un4 fun a_sKeys_642 a_sRow_643 a_sSlots_644 v_sMany_645 => some (.inl (nI (a + 1), a_sKeys_642, a_sRow_643, a_sSlots_644, v_sMany_645))) = r → FX0_closes_b41 (nD as1) (nI (T 114)) V t (nI f) (nI (if fl then 1 else 0)) (lN (cdS s)) at' many (nI s.2.2) (nI a) keys row slots (nI n) = r := by
      intro r hr
      unfold FX0_closes_b41
      rw [g0, if_neg (by rw [le_f (by omega) (by omega)]; exact id), e1', show nI a + 1 = nI (a + 1) from n_add a 1]
      exact hr
    cases hsp : (allS T V as1 fl f s acc (a + 1)).2.2 with
    | true =>
      rw [hsp] at body
      have hT := all_sp hsp d
      rw [show a + 1 + d = T 0 by omega] at hT
      have hv : VA T f (allS T V as1 fl f s acc (T 0)) := by
        have key : ∀ k, a + 1 + k ≤ T 0 → VA T f (allS T V as1 fl f s acc (a + 1 + k)) := by
          intro k
          induction k with
          | zero => intro _; exact e2'.1
          | succ k ihk => intro hk; exact VA.row hW hs (show a + 1 + k < 5 by omega) (ihk (by omega)) (T 0) (by omega)
        have := key d (by omega)
        rwa [show a + 1 + d = T 0 by omega] at this
      refine ⟨keys1, row1, slots1, n1, ?_, e2'.over hv hsp hT, e3⟩
      rw [hT, if_pos rfl]
      exact loopC_inr (body _ rfl)
    | false =>
      rw [hsp] at body
      obtain ⟨keys2, row2, slots2, n2, f1, f2, f3⟩ := ih (a + 1) keys1 row1 slots1 n1 (by omega) e2' hsp
      exact ⟨keys2, row2, slots2, n2, (loopC_inl (body _ rfl)).trans f1, f2, f3⟩
end P52
