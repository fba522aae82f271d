set_option maxRecDepth 100000
section P53
variable {all t on at' many : Nat → Int32} {T O O' M : Nat → Nat} {V : Nat → BvT} {mv as1 : Nat}
theorem spS_end {fl : Bool} {f d x : Nat} {acc : Acc} (h : acc.2.2 = true) : spS T V as1 fl f d x acc = acc := by
  cases d with
  | zero => rfl
  | succ d =>
    rw [spS]
    by_cases c : acc.1 ≤ x
    · rw [if_pos c]
    · rw [if_neg c, if_pos h]
theorem closeC (ht : TwAt t T) (hW : WT T) (h114 : T 114 ≤ 8) (has : as1 < 100) (fl : Bool) {f : Nat} : ∀ d x (acc : Acc) (a0 m0 : Nat → Int32) (mv : Int32) (keys row : Nat → Int64) (slots : Nat → Int32) (n : Nat), d + x = 6001 → CA T keys row slots n f acc → acc.2.2 = false → ∃ a' m' mv' keys' row' slots' n', loopC (fun (s : Int32 × (Nat → Int32) × (Nat → Int32) × (Nat → Int64) × (Nat → Int64) × (Nat → Int32) × Int32 × Int32) => FX0_closes_b3 (nD as1) (nI (T 114)) V t (nI f) (nI (if fl then 1 else 0)) s.1 s.2.1 s.2.2.1 s.2.2.2.1 s.2.2.2.2.1 s.2.2.2.2.2.1 s.2.2.2.2.2.2.1 s.2.2.2.2.2.2.2) (nI x, a0, m0, keys, row, slots, mv, nI n) = some (if (spS T V as1 fl f d x acc).2.2 then .inl (a', m', keys', row', slots', mv', nI n') else .inr (a', m', keys', row', slots', mv', nI n')) ∧ CA T keys' row' slots' n' f (spS T V as1 fl f d x acc) ∧ n' ≤ 6002 := by
  have hw := hW.b
  have fin : ∀ x (acc : Acc) (a0 m0 : Nat → Int32) (mv : Int32) (keys row : Nat → Int64) (slots : Nat → Int32) (n : Nat), acc.1 ≤ x → x < 10000 → CA T keys row slots n f acc → acc.2.2 = false → ∃ a' m' mv' keys' row' slots' n', loopC (fun (s : Int32 × (Nat → Int32) × (Nat → Int32) × (Nat → Int64) × (Nat → Int64) × (Nat → Int32) × Int32 × Int32) => FX0_closes_b3 (nD as1) (nI (T 114)) V t (nI f) (nI (if fl then 1 else 0)) s.1 s.2.1 s.2.2.1 s.2.2.2.1 s.2.2.2.2.1 s.2.2.2.2.2.1 s.2.2.2.2.2.2.1 s.2.2.2.2.2.2.2) (nI x, a0, m0, keys, row, slots, mv, nI n) = some (if acc.2.2 then .inl (a', m', keys', row', slots', mv', nI n') else .inr (a', m', keys', row', slots', mv', nI n')) ∧ CA T keys' row' slots' n' f acc ∧ n' ≤ 6002 := by
    intro x acc a0 m0 mv keys row slots n hx hx2 h h0
    have hn := h.n6 h0
    refine ⟨a0, m0, mv, keys, row, slots, n, loopC_inr ?_, h, by omega⟩
    rw [h0]
    show FX0_closes_b3 (nD as1) (nI (T 114)) V t (nI f) (nI (if fl then 1 else 0)) (nI x) a0 m0 keys row slots mv (nI n) = _
    unfold FX0_closes_b3
    rw [if_pos (by rw [le_t (by omega) (by omega)]; trivial)]
    rfl
  intro d
  induction d with
  | zero =>
    intro x acc a0 m0 mv keys row slots n hd h h0
    have hn := h.n6 h0
    exact fin x acc a0 m0 mv keys row slots n (by omega) (by omega) h h0
  | succ d ih =>
    intro x acc a0 m0 mv keys row slots n hd h h0
    have hn := h.n6 h0
    by_cases c : acc.1 ≤ x
    · rw [show spS T V as1 fl f (d + 1) x acc = acc from by rw [spS, if_pos c]]
      exact fin x acc a0 m0 mv keys row slots n c (by omega) h h0
    · have es : spS T V as1 fl f (d + 1) x acc = spS T V as1 fl f d (x + 1) (allS T V as1 fl f (acc.2.1 x) acc (T 0)) := by rw [spS, if_neg c, if_neg (by rw [h0]; exact Bool.false_ne_true)]
      rw [es]
      have hx := h.1.2 x (by omega)
      have hr : row x = lN (cdS (acc.2.1 x)) := by
        rcases h.2 with ⟨-, -, c3⟩ | ⟨c1, -⟩
        · exact c3.2.2.1 x (by omega)
        · rw [h0] at c1; exact absurd c1 Bool.false_ne_true
      have r1 : rd 6002 row (nI x) = some (lN (cdS (acc.2.1 x))) := rdn (by omega) (by omega) hr
      obtain ⟨a1, m1, e1, hat⟩ := lays4 ht hW hx.1 hx.2 a0 m0
      obtain ⟨keys2, row2, slots2, n2, e2, e3, e4⟩ := allC (s := acc.2.1 x) (acc := acc) ht hW h114 hx has fl hat (T 0) 0 keys row slots n (by omega) h h0
      have e1' : FX4_lays t a0 m0 (lN (cdS (acc.2.1 x))) = some (a1, m1, nI (acc.2.1 x).2.2) := e1
      have e2' : loopC (fun (s1 : Int32 × (Nat → Int64) × (Nat → Int64) × (Nat → Int32) × Int32) => FX0_closes_b41 (nD as1) (nI (T 114)) V t (nI f) (nI (if fl then 1 else 0)) (lN (cdS (acc.2.1 x))) a1 m1 (nI (acc.2.1 x).2.2) s1.1 s1.2.1 s1.2.2.1 s1.2.2.2.1 s1.2.2.2.2) ((0 : Int32), keys, row, slots, nI n) = _ := e2
      have body : ∀ r, bdS2 (some (if (allS T V as1 fl f (acc.2.1 x) acc (T 0)).2.2 then .inl (keys2, row2, slots2, nI n2) else .inr (keys2, row2, slots2, nI n2))) (un4 fun a_sKeys_652 a_sRow_653 a_sSlots_654 v_sMany_655 => some (.inr (.inl (a1, m1, a_sKeys_652, a_sRow_653, a_sSlots_654, nI (acc.2.1 x).2.2, v_sMany_655)))) (un4 fun a_sKeys_662 a_sRow_663 a_sSlots_664 v_sMany_665 => some (.inl (nI (x + 1), a1, m1, a_sKeys_662, a_sRow_663, a_sSlots_664, nI (acc.2.1 x).2.2, v_sMany_665))) = r → FX0_closes_b3 (nD as1) (nI (T 114)) V t (nI f) (nI (if fl then 1 else 0)) (nI x) a0 m0 keys row slots mv (nI n) = r := by
        intro r hr
        unfold FX0_closes_b3
        rw [if_neg (by rw [le_f (by omega) (by omega)]; exact id), r1, bd1_s, e1', bd3_s, e2', show nI x + 1 = nI (x + 1) from n_add x 1]
        exact hr
      cases hsp : (allS T V as1 fl f (acc.2.1 x) acc (T 0)).2.2 with
      | true =>
        rw [hsp] at body
        have ee : spS T V as1 fl f d (x + 1) (allS T V as1 fl f (acc.2.1 x) acc (T 0)) = allS T V as1 fl f (acc.2.1 x) acc (T 0) := spS_end hsp
        rw [ee]
        refine ⟨a1, m1, nI (acc.2.1 x).2.2, keys2, row2, slots2, n2, ?_, e3, e4⟩
        rw [hsp]
        exact loopC_inr (body _ rfl)
      | false =>
        rw [hsp] at body
        obtain ⟨a3, m3, mv3, keys3, row3, slots3, n3, f1, f2, f3⟩ := ih (x + 1) _ a1 m1 (nI (acc.2.1 x).2.2) keys2 row2 slots2 n2 (by omega) e3 hsp
        exact ⟨a3, m3, mv3, keys3, row3, slots3, n3, (loopC_inl (body _ rfl)).trans f1, f2, f3⟩
theorem closes0 (ht : TwAt t T) (hW : WT T) (h114 : T 114 ≤ 8) (has : as1 < 100) (fl : Bool) {f : Nat} {acc : Acc} {keys row : Nat → Int64} {slots : Nat → Int32} {n : Nat} (h : CA T keys row slots n f acc) (h0 : acc.2.2 = false) (a0 m0 : Nat → Int32) (mv : Int32) : ∃ a' m' mv' keys' row' slots' n', FX0_closes t a0 m0 keys row slots mv (nD as1) (nI n) (nI (T 114)) V (nI f) (nI (if fl then 1 else 0)) = some (!(spS T V as1 fl f 6001 0 acc).2.2, a', m', keys', row', slots', mv', nI n') ∧ CA T keys' row' slots' n' f (spS T V as1 fl f 6001 0 acc) ∧ n' ≤ 6002 := by
  obtain ⟨a3, m3, mv3, keys3, row3, slots3, n3, f1, f2, f3⟩ := closeC (V := V) ht hW h114 has fl 6001 0 acc a0 m0 mv keys row slots n (by omega) h h0
  have f1' : loopC (fun (s : Int32 × (Nat → Int32) × (Nat → Int32) × (Nat → Int64) × (Nat → Int64) × (Nat → Int32) × Int32 × Int32) => FX0_closes_b3 (nD as1) (nI (T 114)) V t (nI f) (nI (if fl then 1 else 0)) s.1 s.2.1 s.2.2.1 s.2.2.2.1 s.2.2.2.2.1 s.2.2.2.2.2.1 s.2.2.2.2.2.2.1 s.2.2.2.2.2.2.2) ((0 : Int32), a0, m0, keys, row, slots, mv, nI n) = _ := f1
  refine ⟨a3, m3, mv3, keys3, row3, slots3, n3, ?_, f2, f3⟩
  unfold FX0_closes
  rw [f1']
  cases (spS T V as1 fl f 6001 0 acc).2.2 <;> rfl
end P53
