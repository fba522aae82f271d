set_option maxRecDepth 100000
def anyS (T : Nat → Nat) (w : Nat) (E : Nat → St) : Nat → Nat → Bool
  | 0, _ => false
  | f + 1, k => if doR T (E k).1 (E k).2.1 w (T 0) 0 then true else anyS T w E f (k + 1)
section P54
variable {all t on at' many : Nat → Int32} {T O O' M : Nat → Nat} {V : Nat → BvT} {mv as1 w : Nat}
theorem anyDone0 (ht : TwAt t T) (hW : WT T) (hw : w < 100) {row : Nat → Int64} {n : Nat} {E : Nat → St} (hn : n ≤ 6002) (hE : ∀ j, j < n → VS T (E j)) (hr : ∀ j, j < n → row j = lN (cdS (E j))) (a0 m0 : Nat → Int32) (mv : Int32) : ∃ a' m' mv', FX0_isAnyDone t a0 m0 row mv (nI n) (nD w) = some (anyS T w E n 0, a', m', mv') := by
  have key : ∀ f k (a0 m0 : Nat → Int32) (mv : Int32), k + f = n → ∃ a' m' mv', loopC (fun (s : Int32 × (Nat → Int32) × (Nat → Int32) × Int32) => FX0_isAnyDone_b2 row (nI n) t (nD w) s.1 s.2.1 s.2.2.1 s.2.2.2) (nI k, a0, m0, mv) = some (if anyS T w E f k then .inl (a', m', mv') else .inr (a', m', mv')) := by
    intro f
    induction f with
    | zero =>
      intro k a0 m0 mv hk
      refine ⟨a0, m0, mv, loopC_inr ?_⟩
      show FX0_isAnyDone_b2 row (nI n) t (nD w) (nI k) a0 m0 mv = _
      unfold FX0_isAnyDone_b2
      rw [if_pos (by rw [le_t (by omega) (by omega)]; trivial)]
      rfl
    | succ f ih =>
      intro k a0 m0 mv hk
      have hx := hE k (by omega)
      have r1 : rd 6002 row (nI k) = some (lN (cdS (E k))) := rdn (by omega) (by omega) (hr k (by omega))
      obtain ⟨a1, m1, e1, hat⟩ := lays4 ht hW hx.1 hx.2 a0 m0
      have e1' : FX4_lays t a0 m0 (lN (cdS (E k))) = some (a1, m1, nI (E k).2.2) := e1
      have e2 := isDone4 ht hat hW hx.1 hw
      have body : FX0_isAnyDone_b2 row (nI n) t (nD w) (nI k) a0 m0 mv = if (b2i (doR T (E k).1 (E k).2.1 w (T 0) 0)) = 0 then some (.inl (nI (k + 1), a1, m1, nI (E k).2.2)) else some (.inr (.inl (a1, m1, nI (E k).2.2))) := by
        unfold FX0_isAnyDone_b2
        rw [if_neg (by rw [le_f (by omega) (by omega)]; exact id), r1, bd1_s, e1', bd3_s, e2, bd1_s, show nI k + 1 = nI (k + 1) from n_add k 1]
      rw [anyS]
      cases hd : doR T (E k).1 (E k).2.1 w (T 0) 0 with
      | true =>
        rw [hd] at body
        exact ⟨a1, m1, _, loopC_inr body⟩
      | false =>
        rw [hd] at body
        obtain ⟨a2, m2, mv2, e3⟩ := ih (k + 1) a1 m1 (nI (E k).2.2) (by omega)
        exact ⟨a2, m2, mv2, (loopC_inl body).trans e3⟩
  obtain ⟨a', m', mv', e⟩ := key n 0 a0 m0 mv (by omega)
  have e' : loopC (fun (s : Int32 × (Nat → Int32) × (Nat → Int32) × Int32) => FX0_isAnyDone_b2 row (nI n) t (nD w) s.1 s.2.1 s.2.2.1 s.2.2.2) ((0 : Int32), a0, m0, mv) = _ := e
  refine ⟨a', m', mv', ?_⟩
  unfold FX0_isAnyDone
  rw [e']
  cases anyS T w E n 0 <;> rfl
theorem anyDone8 (hA : AllAt all T) (hW : WT T) (hw : w < 100) {lies : Nat → Int64} {mt : Nat → Int32} {f n : Nat} {E : Nat → St} (hn : f + n ≤ 6000) (hE : ∀ j, j < n → VS T (E j)) (hr : ∀ j, j < n → lies (f + j) = lN (pk (E j).1 15) ∧ mt (f + j) = nI (E j).2.2) : ∀ d k (on many : Nat → Int32) (mv : Int32), k + d = n → ∃ on' many' mv', loopC (fun (s : Int32 × (Nat → Int32) × (Nat → Int32) × Int32) => FX8_sought_b41 all (nD w) lies mt (nI (f + n)) s.1 s.2.1 s.2.2.1 s.2.2.2) (nI (f + k), on, many, mv) = some (if anyS T w E d k then .inl (on', many', mv') else .inr (on', many', mv')) := by
  intro d
  induction d with
  | zero =>
    intro k on many mv hk
    refine ⟨on, many, mv, loopC_inr ?_⟩
    show FX8_sought_b41 all (nD w) lies mt (nI (f + n)) (nI (f + k)) on many mv = _
    unfold FX8_sought_b41
    rw [if_pos (by rw [le_t (by omega) (by omega)]; trivial)]
    rfl
  | succ d ih =>
    intro k on many mv hk
    have hx := hE k (by omega)
    obtain ⟨k3, k4⟩ := hr k (by omega)
    have r1 : rd 6001 lies (nI (f + k)) = some (lN (pk (E k).1 15)) := rdn (by omega) (by omega) k3
    have r2 : rd 6001 mt (nI (f + k)) = some (nI (E k).2.2) := rdn (by omega) (by omega) k4
    obtain ⟨on1, many1, e1, hon1⟩ := looksAt8 hW hx.1 (E k).2.2 on many
    have e2 := isDone8 hA hon1 hW hx.1 hw
    have body : FX8_sought_b41 all (nD w) lies mt (nI (f + n)) (nI (f + k)) on many mv = if (b2i (doR T (E k).1 (E k).2.1 w (T 0) 0)) = 0 then some (.inl (nI (f + (k + 1)), on1, many1, nI (E k).2.2)) else some (.inr (.inl (on1, many1, nI (E k).2.2))) := by
      unfold FX8_sought_b41
      rw [if_neg (by rw [le_f (by omega) (by omega)]; exact id), r1, bd1_s, r2, bd1_s, e1, bd3_s, e2, bd1_s, show nI (f + k) + 1 = nI (f + (k + 1)) from n_add (f + k) 1]
    rw [anyS]
    cases hd : doR T (E k).1 (E k).2.1 w (T 0) 0 with
    | true =>
      rw [hd] at body
      exact ⟨on1, many1, _, loopC_inr body⟩
    | false =>
      rw [hd] at body
      obtain ⟨a2, m2, mv2, e3⟩ := ih (k + 1) on1 many1 (nI (E k).2.2) (by omega)
      exact ⟨a2, m2, mv2, (loopC_inl body).trans e3⟩
theorem anyDoneB8 (hA : AllAt all T) (hW : WT T) (hw : w < 100) {lies : Nat → Int64} {n : Nat} {E : Nat → St} (hn : n ≤ 6000) (hE : ∀ j, j < n → VS T (E j)) (hr : ∀ j, j < n → lies j = lN (pk (E j).1 15)) : ∀ d k (on many : Nat → Int32) (mv : Int32), k + d = n → ∃ on' many' mv', loopC (fun (s : Int32 × (Nat → Int32) × (Nat → Int32) × Int32) => FX8_canBe_b30 all (nD w) lies (nI n) s.1 s.2.1 s.2.2.1 s.2.2.2) (nI k, on, many, mv) = some (if anyS T w E d k then .inl (on', many', mv') else .inr (on', many', mv')) := by
  intro d
  induction d with
  | zero =>
    intro k on many mv hk
    refine ⟨on, many, mv, loopC_inr ?_⟩
    show FX8_canBe_b30 all (nD w) lies (nI n) (nI k) on many mv = _
    unfold FX8_canBe_b30
    rw [if_pos (by rw [le_t (by omega) (by omega)]; trivial)]
    rfl
  | succ d ih =>
    intro k on many mv hk
    have hx := hE k (by omega)
    have r1 : rd 6001 lies (nI k) = some (lN (pk (E k).1 15)) := rdn (by omega) (by omega) (hr k (by omega))
    obtain ⟨on1, many1, e1, hon1⟩ := looksAt8 hW hx.1 0 on many
    have e1' : FX8_looksAt on many (lN (pk (E k).1 15)) 0 = some (on1, many1, nI 0) := e1
    have e2 := isDone8 hA hon1 hW hx.1 hw
    have body : FX8_canBe_b30 all (nD w) lies (nI n) (nI k) on many mv = if (b2i (doR T (E k).1 (E k).2.1 w (T 0) 0)) = 0 then some (.inl (nI (k + 1), on1, many1, nI 0)) else some (.inr (.inl (on1, many1, nI 0))) := by
      unfold FX8_canBe_b30
      rw [if_neg (by rw [le_f (by omega) (by omega)]; exact id), r1, bd1_s, e1', bd3_s, e2, bd1_s, show nI k + 1 = nI (k + 1) from n_add k 1]
    rw [anyS]
    cases hd : doR T (E k).1 (E k).2.1 w (T 0) 0 with
    | true =>
      rw [hd] at body
      exact ⟨on1, many1, _, loopC_inr body⟩
    | false =>
      rw [hd] at body
      obtain ⟨a2, m2, mv2, e3⟩ := ih (k + 1) on1 many1 (nI 0) (by omega)
      exact ⟨a2, m2, mv2, (loopC_inl body).trans e3⟩
end P54
