set_option maxRecDepth 100000
section P58
variable {T : Nat → Nat}
/-- the tail of the begun becomes the new list -/
theorem tail0 {bK bR : Nat → Int64} {bS : Nat → Int32} {nC n0 : Nat} {codes : Nat → Nat} (h : CT bK bR bS nC codes) : ∀ d j (sK sR : Nat → Int64) (sS : Nat → Int32), j + d = nC → n0 ≤ j → CT sK sR sS (j - n0) (fun i => codes (n0 + i)) → ∃ sK' sR' sS', loopC (fun (s : Int32 × (Nat → Int64) × (Nat → Int64) × (Nat → Int32) × Int32) => FX0_begins_b82 bR (nI nC) s.1 s.2.1 s.2.2.1 s.2.2.2.1 s.2.2.2.2) (nI j, sK, sR, sS, nI (j - n0)) = some (sK', sR', sS', nI (nC - n0)) ∧ CT sK' sR' sS' (nC - n0) (fun i => codes (n0 + i)) := by
  have hn := h.1
  obtain ⟨-, hc, hr, cell, hO, -, -⟩ := h
  intro d
  induction d with
  | zero =>
    intro j sK sR sS hj h0 hs
    obtain rfl : j = nC := by omega
    refine ⟨sK, sR, sS, loopC_inr ?_, hs⟩
    show FX0_begins_b82 bR (nI j) (nI j) sK sR sS (nI (j - n0)) = _
    unfold FX0_begins_b82
    exact if_pos (Int32.le_refl _)
  | succ d ih =>
    intro j sK sR sS hj h0 hs
    have nn : ¬ nI nC ≤ nI j := by rw [le_f (by omega) (by omega)]; exact id
    have r1 : rd 6002 bR (nI j) = some (lN (codes j)) := rdn (by omega) (by omega) (hr j (by omega))
    obtain ⟨b, sK2, sR2, sS2, n2, c2, a1, a2, -, a3⟩ := adds6 hs (by omega) (hc j (by omega))
    have a3' : n2 = j + 1 - n0 ∧ c2 = fun i => codes (n0 + i) := by
      rcases a3 with ⟨-, -, -, i, i1, i2⟩ | ⟨-, q1, q2, -⟩
      · have := hO.dis (n0 + i) j (by omega) (by omega) i2
        omega
      · refine ⟨by omega, ?_⟩
        rw [q2]
        funext i
        by_cases c : i = j - n0
        · rw [upn_t c, c, show n0 + (j - n0) = j by omega]
        · rw [upn_f c]
    obtain ⟨rfl, rfl⟩ := a3'
    obtain ⟨sK3, sR3, sS3, z1, z2⟩ := ih (j + 1) sK2 sR2 sS2 (by omega) (by omega) a2
    refine ⟨sK3, sR3, sS3, (loopC_inl ?_).trans z1, z2⟩
    show FX0_begins_b82 bR (nI nC) (nI j) sK sR sS (nI (j - n0)) = _
    unfold FX0_begins_b82
    rw [if_neg nn, r1, bd1_s, a1, bd5_s, show nI j + 1 = nI (j + 1) from n_add j 1]
end P58
