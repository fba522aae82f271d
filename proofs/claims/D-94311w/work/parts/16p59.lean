set_option maxRecDepth 100000
section P59
variable {T : Nat → Nat}
theorem CT.cong {keys row : Nat → Int64} {slots : Nat → Int32} {n : Nat} {c c' : Nat → Nat} (h : CT keys row slots n c) (e : ∀ j, j < n → c j = c' j) : CT keys row slots n c' := by
  obtain ⟨h1, h2, h3, cell, h4, h5, h6⟩ := h
  refine ⟨h1, fun j hj => by rw [← e j hj]; exact h2 j hj, fun j hj => by rw [← e j hj]; exact h3 j hj, cell, ⟨h4.lt, fun j hj => ?_, h4.inj, fun i j hi hj hh => h4.dis i j hi hj (by rw [e i hi, e j hj]; exact hh)⟩, fun q hq => ?_, h6⟩
  · rw [← e j hj]; exact h4.at' j hj
  · rw [h5 q hq]
    by_cases z : cell q = 0
    · rw [if_pos z, if_pos z]
    · have := h4.lt q hq
      rw [if_neg z, if_neg z, e (cell q - 1) (by omega)]
theorem NI.start {T : Nat → Nat} {f n0 : Nat} {E0 B : Nat → St} (hf : f ≤ 6000) (hB : ∀ j, j < n0 → VS T (B j) ∧ (B j).2.2 = 0) (h0 : n0 ≤ f) : NI T f n0 ((0, E0, false), n0, B) := ⟨⟨by show f + 0 ≤ 6000; omega, fun j hj => absurd hj (Nat.not_lt_zero j)⟩, hB, h0, fun j hj => absurd hj (Nat.not_lt_zero j), Or.inl ⟨rfl, rfl⟩⟩
/-- the component's step from a year to the next one -/
theorem beginsC (hW : WT T) {f f' n n0 : Nat} {acc : Acc} {B : Nat → St} {sK sR bK bR : Nat → Int64} {sS bS : Nat → Int32} (hs : CA T sK sR sS n f acc) (h0 : acc.2.2 = false) (hff : f + n = f') (hB : ∀ j, j < n0 → VS T (B j) ∧ (B j).2.2 = 0) (hn0 : n0 ≤ f') (hb : CT bK bR bS n0 (fun j => cdS (B j))) : ∃ sK' sR' sS' bK' bR' bS' nS nB, FX0_begins sK sR sS bK bR bS (nI n) (nI n0) = some (decide (n0 < nB), sK', sR', sS', bK', bR', bS', nI nS, nI nB) ∧ NI T f' n0 (nxS f' acc.2.1 n 0 ((0, acc.2.1, false), n0, B)) ∧ nS = nB - n0 ∧ CB T bK' bR' bS' nB f' n0 (nxS f' acc.2.1 n 0 ((0, acc.2.1, false), n0, B)) ∧ n0 ≤ nB ∧ CA T sK' sR' sS' nS f' (nxS f' acc.2.1 n 0 ((0, acc.2.1, false), n0, B)).1 := by
  have hn := hs.n6 h0
  have hcs : CT sK sR sS n (fun j => cdS (acc.2.1 j)) := by
    rcases hs.2 with ⟨-, -, c3⟩ | ⟨c1, -⟩
    · exact c3
    · rw [h0] at c1; exact absurd c1 Bool.false_ne_true
  obtain ⟨bK1, bR1, bS1, nB, e1, e2, e3⟩ := begins0 (f := f') (n0 := n0) hW (show n ≤ 6002 by omega) (fun j hj => hs.1.2 j (by omega)) (fun j hj => hcs.2.2.1 j hj) n 0 ((0, acc.2.1, false), n0, B) bK bR bS n0 (by omega) (NI.start (by omega) hB hn0) (Or.inl ⟨rfl, rfl, hb⟩)
  generalize hx : nxS f' acc.2.1 n 0 ((0, acc.2.1, false), n0, B) = x at *
  obtain ⟨sK1, e4, e5⟩ := clears6 hcs
  obtain ⟨codes, hct, hle, hn6, hav⟩ : ∃ codes, CT bK1 bR1 bS1 nB codes ∧ n0 ≤ nB ∧ (x.1.2.2 = false → codes = fun j => cdS (x.2.2 j)) ∧ AllV T nB codes := by
    rcases e3 with ⟨c1, c2, c3⟩ | ⟨c1, c2, c3, c4, codes, c5⟩
    · refine ⟨_, c3, ?_, fun _ => rfl, fun j hj => ⟨_, (e2.2.1 j (by omega)).1, rfl⟩⟩
      rcases e2.2.2.2.2 with ⟨-, z⟩ | ⟨-, z, -⟩ <;> omega
    · exact ⟨codes, c5.1, c2, fun z => by rw [c1] at z; exact absurd z.symm Bool.false_ne_true, c5.2⟩
  have hnb := hct.1
  obtain ⟨sK2, sR2, sS2, e6, e7⟩ := tail0 (n0 := n0) hct (nB - n0) n0 sK1 sR sS (by omega) (Nat.le_refl _) (by rw [Nat.sub_self]; exact e5 _ _ _)
  rw [Nat.sub_self] at e6
  have e1' : loopC (fun (s : Int32 × (Nat → Int64) × (Nat → Int64) × (Nat → Int32) × Int32) => FX0_begins_b10 sR (nI n) s.1 s.2.1 s.2.2.1 s.2.2.2.1 s.2.2.2.2) ((0 : Int32), bK, bR, bS, nI n0) = _ := e1
  refine ⟨sK2, sR2, sS2, bK1, bR1, bS1, nB - n0, nB, ?_, e2, rfl, e3, hle, e2.1, ?_⟩
  · unfold FX0_begins
    rw [e1', bd4_s, e4, bd2_s, e6, bd4_s]
    by_cases c : n0 < nB
    · rw [if_neg (by rw [le_f c (by omega)]; exact id), decide_eq_true c]
    · rw [if_pos (by rw [le_t (by omega) (by omega)]; trivial), decide_eq_false c]
  · rcases e3 with ⟨c1, c2, c3⟩ | ⟨c1, c2, c3, c4, -⟩
    · have hz : x.2.1 = n0 + x.1.1 := by
        rcases e2.2.2.2.2 with ⟨-, z⟩ | ⟨z, -⟩
        · exact z
        · rw [c1] at z; exact absurd z Bool.false_ne_true
      have hq : nB - n0 = x.1.1 := by omega
      refine Or.inl ⟨c1, hq, ?_⟩
      rw [hq] at e7 ⊢
      rw [hn6 c1] at e7
      exact e7.cong (fun j hj => congrArg cdS (e2.2.2.2.1 j hj).symm)
    · exact Or.inr ⟨c1, c3, _, e7, fun j hj => hav (n0 + j) (by omega)⟩
end P59
