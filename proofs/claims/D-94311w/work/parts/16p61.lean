set_option maxRecDepth 100000
section P61
variable {t : Nat → Int32} {T : Nat → Nat} {V : Nat → BvT} {as1 : Nat}
/-- a list that is over is found so at the first pair -/
theorem closesO (ht : TwAt t T) (hW : WT T) (h114 : T 114 ≤ 8) (has : as1 < 100) (h01 : 1 ≤ T 0) (fl : Int32) {f n : Nat} {acc : Acc} {keys row : Nat → Int64} {slots : Nat → Int32} (h : CA T keys row slots n f acc) (h0 : acc.2.2 = true) (hf : f ≤ 6000) (a0 m0 : Nat → Int32) (mv : Int32) : ∃ a' m' mv', FX0_closes t a0 m0 keys row slots mv (nD as1) (nI n) (nI (T 114)) V (nI f) fl = some (false, a', m', keys, row, slots, mv', nI n) := by
  have hw := hW.b
  have g0 := ht.n (k := 0) (by omega) (by omega)
  obtain ⟨hv, ⟨c1, -⟩ | ⟨-, c2, codes, c3, c4⟩⟩ := id h
  · rw [h0] at c1; exact absurd c1.symm Bool.false_ne_true
  have hn2 := c3.1
  have hn : 0 < n := by omega
  obtain ⟨s, hs, hc⟩ := c4 0 hn
  have r1 : rd 6002 row (nI 0) = some (lN (cdS s)) := rdn (by omega) (by omega) (by rw [c3.2.2.1 0 hn, hc])
  obtain ⟨a1, m1, e1, hat⟩ := lays4 ht hW hs.1 hs.2 a0 m0
  have e1' : FX4_lays t a0 m0 (lN (cdS s)) = some (a1, m1, nI s.2.2) := e1
  have e2 := may4 (V := V) (mv := s.2.2) (as1 := as1) ht hat hW hs.1 h114 hs.2 has (nI 0) (nI 0)
  have hle := maS_le (T := T) (O := s.1) (M := s.2.1) (V := V) (mv := s.2.2) (as1 := as1) (p := nI 0) (q := nI 0)
  have hne : maS T s.1 s.2.1 V s.2.2 as1 (nI 0) (nI 0) ≠ 0 := fun z => (VS.car (fl := false) hW hs z (by omega) (by omega)).2.2.2.1 rfl
  have ec := cap0 (b := 0) h hf hn2
  rw [h0] at ec
  have ec' : FX0_closes_j202 (nI f) (nI 0) keys row slots (nI n) = some (.inr (.inl (keys, row, slots, nI n))) := ec
  have b56 : FX0_closes_b56 (nD as1) (nI (T 114)) V t (nI f) fl (lN (cdS s)) a1 m1 (nI s.2.2) (nI 0) (nI 0) keys row slots (nI n) = some (.inr (.inl (keys, row, slots, nI n))) := by
    unfold FX0_closes_b56
    rw [g0, if_neg (by rw [le_f (by omega) (by omega)]; exact id), e2, bd1_s, if_neg (by rw [show (0 : Int32) = nI 0 from rfl, eq_f hne (by omega) (by omega)]; exact id)]
    unfold FX0_closes_j116
    rw [if_pos (Int32.le_refl _), ec']
  have b41 : FX0_closes_b41 (nD as1) (nI (T 114)) V t (nI f) fl (lN (cdS s)) a1 m1 (nI s.2.2) (nI 0) keys row slots (nI n) = some (.inr (.inl (keys, row, slots, nI n))) := by
    have l : loopC (fun (s1 : Int32 × (Nat → Int64) × (Nat → Int64) × (Nat → Int32) × Int32) => FX0_closes_b56 (nD as1) (nI (T 114)) V t (nI f) fl (lN (cdS s)) a1 m1 (nI s.2.2) (nI 0) s1.1 s1.2.1 s1.2.2.1 s1.2.2.2.1 s1.2.2.2.2) ((0 : Int32), keys, row, slots, nI n) = some (.inl (keys, row, slots, nI n)) := loopC_inr b56
    unfold FX0_closes_b41
    rw [g0, if_neg (by rw [le_f (by omega) (by omega)]; exact id), l]
    rfl
  have b3 : FX0_closes_b3 (nD as1) (nI (T 114)) V t (nI f) fl (nI 0) a0 m0 keys row slots mv (nI n) = some (.inr (.inl (a1, m1, keys, row, slots, nI s.2.2, nI n))) := by
    have l : loopC (fun (s1 : Int32 × (Nat → Int64) × (Nat → Int64) × (Nat → Int32) × Int32) => FX0_closes_b41 (nD as1) (nI (T 114)) V t (nI f) fl (lN (cdS s)) a1 m1 (nI s.2.2) s1.1 s1.2.1 s1.2.2.1 s1.2.2.2.1 s1.2.2.2.2) ((0 : Int32), keys, row, slots, nI n) = some (.inl (keys, row, slots, nI n)) := loopC_inr b41
    unfold FX0_closes_b3
    rw [if_neg (by rw [le_f (by omega) (by omega)]; exact id), r1, bd1_s, e1', bd3_s, l]
    rfl
  have l : loopC (fun (s1 : Int32 × (Nat → Int32) × (Nat → Int32) × (Nat → Int64) × (Nat → Int64) × (Nat → Int32) × Int32 × Int32) => FX0_closes_b3 (nD as1) (nI (T 114)) V t (nI f) fl s1.1 s1.2.1 s1.2.2.1 s1.2.2.2.1 s1.2.2.2.2.1 s1.2.2.2.2.2.1 s1.2.2.2.2.2.2.1 s1.2.2.2.2.2.2.2) ((0 : Int32), a0, m0, keys, row, slots, mv, nI n) = some (.inl (a1, m1, keys, row, slots, nI s.2.2, nI n)) := loopC_inr b3
  refine ⟨a1, m1, nI s.2.2, ?_⟩
  unfold FX0_closes
  rw [l]
  rfl
end P61
