set_option maxRecDepth 100000
section P57
variable {all t on at' many : Nat → Int32} {T O O' M : Nat → Nat} {V : Nat → BvT} {mv as1 w : Nat}
/-- the component's begun against the search: in step, or over -/
def CB (T : Nat → Nat) (bK bR : Nat → Int64) (bS : Nat → Int32) (nC f n0 : Nat) (x : NA) : Prop :=
  (x.1.2.2 = false ∧ nC = x.2.1 ∧ CT bK bR bS nC (fun j => cdS (x.2.2 j))) ∨ (x.1.2.2 = true ∧ n0 ≤ nC ∧ 6000 < f + (nC - n0) ∧ nC ≤ 6001 ∧ ∃ codes, CT bK bR bS nC codes ∧ AllV T nC codes)
theorem begins0 (hW : WT T) {f n n0 : Nat} {E : Nat → St} {sR : Nat → Int64} (hn : n ≤ 6002) (hE : ∀ j, j < n → VS T (E j)) (hr : ∀ j, j < n → sR j = lN (cdS (E j))) : ∀ d k (x : NA) (bK bR : Nat → Int64) (bS : Nat → Int32) (nC : Nat), k + d = n → NI T f n0 x → CB T bK bR bS nC f n0 x → ∃ bK' bR' bS' nC', loopC (fun (s : Int32 × (Nat → Int64) × (Nat → Int64) × (Nat → Int32) × Int32) => FX0_begins_b10 sR (nI n) s.1 s.2.1 s.2.2.1 s.2.2.2.1 s.2.2.2.2) (nI k, bK, bR, bS, nI nC) = some (bK', bR', bS', nI nC') ∧ NI T f n0 (nxS f E d k x) ∧ CB T bK' bR' bS' nC' f n0 (nxS f E d k x) := by
  intro d
  induction d with
  | zero =>
    intro k x bK bR bS nC hk hN hC
    refine ⟨bK, bR, bS, nC, loopC_inr ?_, hN, hC⟩
    show FX0_begins_b10 sR (nI n) (nI k) bK bR bS (nI nC) = _
    unfold FX0_begins_b10
    rw [if_pos (by rw [le_t (by omega) (by omega)]; trivial)]
  | succ d ih =>
    intro k x bK bR bS nC hk hN hC
    have hf := hN.1.1
    have h03 := hN.2.2.1
    have nn : ¬ nI n ≤ nI k := by rw [le_f (by omega) (by omega)]; exact id
    have hx := (hE k (by omega)).rs
    have r1 : rd 6002 sR (nI k) = some (lN (cdS (E k))) := rdn (by omega) (by omega) (hr k (by omega))
    have r2 : FX0_resting (lN (cdS (E k))) = some (lN (cdS (rsS (E k)))) := resting_n (hE k (by omega)).2
    have ek : nI k + 1 = nI (k + 1) := n_add k 1
    rcases hC with ⟨c1, rfl, c3⟩ | ⟨c1, c2, c3, c4, codes, c5, c7⟩
    · have e : nxS f E (d + 1) k x = nxS f E d (k + 1) (begS f x (rsS (E k))) := by rw [nxS, c1]; rfl
      have hnb : x.2.1 = n0 + x.1.1 := by
        rcases hN.2.2.2.2 with ⟨-, z⟩ | ⟨z, -⟩
        · exact z
        · rw [c1] at z; exact absurd z Bool.false_ne_true
      have n6 : ¬ (6000 : Int32) < nI x.2.1 := by rw [show (6000 : Int32) = nI 6000 from rfl, lt_f (by omega) (by omega)]; exact id
      have hN' := hN.step c1 hx rfl
      obtain ⟨b, h1, h2⟩ := has6 c3 (cd_CX hx)
      have memI : (∃ j, j < x.2.1 ∧ cdS (x.2.2 j) = cdS (rsS (E k))) ↔ memS x.2.2 (kyS (rsS (E k))) x.2.1 = true := by
        rw [memS_iff]
        constructor
        · rintro ⟨j, j1, j2⟩
          exact ⟨j, j1, (cd_ky hW (hN.2.1 j j1).1 hx).mp j2⟩
        · rintro ⟨j, j1, j2⟩
          exact ⟨j, j1, (cd_ky hW (hN.2.1 j j1).1 hx).mpr j2⟩
      rw [e]
      cases hb : b with
      | true =>
        have hm := memI.mp (h2.mp hb)
        have eb : begS f x (rsS (E k)) = x := if_pos hm
        rw [eb]
        obtain ⟨bK2, bR2, bS2, nC2, z1, z2⟩ := ih (k + 1) x bK bR bS x.2.1 (by omega) hN (Or.inl ⟨c1, rfl, c3⟩)
        refine ⟨bK2, bR2, bS2, nC2, (loopC_inl ?_).trans z1, z2⟩
        show FX0_begins_b10 sR (nI n) (nI k) bK bR bS (nI x.2.1) = _
        unfold FX0_begins_b10 FX0_begins_j67
        rw [if_neg nn, if_neg n6, r1, bd1_s, r2, bd1_s, h1, hb, bd1_s, if_neg (by decide), ek]
      | false =>
        have hm : ¬ memS x.2.2 (kyS (rsS (E k))) x.2.1 = true := fun z => by
          have := h2.mpr (memI.mpr z)
          rw [hb] at this
          exact Bool.false_ne_true this
        have eb : begS f x (rsS (E k)) = (addS f x.1 (rsS (E k)), x.2.1 + 1, up x.2.2 x.2.1 (rsS (E k))) := if_neg hm
        have ea := begS_new hN c1 hm
        obtain ⟨b3, bK3, bR3, bS3, nC3, codes3, a1, a2, -, a3⟩ := adds6 c3 (by omega) (cd_CX hx)
        have a3' : nC3 = x.2.1 + 1 ∧ codes3 = up (fun j => cdS (x.2.2 j)) x.2.1 (cdS (rsS (E k))) := by
          rcases a3 with ⟨-, -, -, j, j1, j2⟩ | ⟨-, q1, q2, -⟩
          · exact absurd (memI.mp ⟨j, j1, j2⟩) hm
          · exact ⟨q1, q2⟩
        obtain ⟨rfl, rfl⟩ := a3'
        have hC' : CB T bK3 bR3 bS3 (x.2.1 + 1) f n0 (begS f x (rsS (E k))) := by
          rw [eb, ea]
          by_cases c6 : f + x.1.1 = 6000
          · rw [if_pos c6]
            exact Or.inr ⟨rfl, by omega, by omega, by omega, _, a2, AllV.up (fun j hj => ⟨_, (hN.2.1 j hj).1, rfl⟩) hx⟩
          · rw [if_neg c6]
            refine Or.inl ⟨rfl, rfl, a2.congr ?_⟩
            funext j
            show up (fun j => cdS (x.2.2 j)) x.2.1 (cdS (rsS (E k))) j = cdS (up x.2.2 x.2.1 (rsS (E k)) j)
            by_cases c : j = x.2.1
            · rw [upn_t c, upn_t c]
            · rw [upn_f c, upn_f c]
        obtain ⟨bK2, bR2, bS2, nC2, z1, z2⟩ := ih (k + 1) (begS f x (rsS (E k))) bK3 bR3 bS3 (x.2.1 + 1) (by omega) hN' hC'
        refine ⟨bK2, bR2, bS2, nC2, (loopC_inl ?_).trans z1, z2⟩
        show FX0_begins_b10 sR (nI n) (nI k) bK bR bS (nI x.2.1) = _
        unfold FX0_begins_b10 FX0_begins_j67
        rw [if_neg nn, if_neg n6, r1, bd1_s, r2, bd1_s, h1, hb, bd1_s, if_pos (by decide), a1, bd5_s, ek]
    · have e : nxS f E (d + 1) k x = x := by rw [nxS, if_pos c1]
      have e' : nxS f E d (k + 1) x = x := by
        cases d with
        | zero => rfl
        | succ d => rw [nxS, if_pos c1]
      by_cases c6 : 6000 < nC
      · rw [e]
        refine ⟨bK, bR, bS, nC, loopC_inr ?_, hN, Or.inr ⟨c1, c2, c3, c4, codes, c5, c7⟩⟩
        show FX0_begins_b10 sR (nI n) (nI k) bK bR bS (nI nC) = _
        unfold FX0_begins_b10
        rw [if_neg nn, if_pos (by rw [show (6000 : Int32) = nI 6000 from rfl, lt_t c6 (by omega)]; trivial)]
      · have n6 : ¬ (6000 : Int32) < nI nC := by rw [show (6000 : Int32) = nI 6000 from rfl, lt_f (by omega) (by omega)]; exact id
        obtain ⟨b, h1, h2⟩ := has6 c5 (cd_CX hx)
        cases hb : b with
        | true =>
          obtain ⟨bK2, bR2, bS2, nC2, z1, z2⟩ := ih (k + 1) x bK bR bS nC (by omega) hN (Or.inr ⟨c1, c2, c3, c4, codes, c5, c7⟩)
          rw [e'] at z2
          rw [e]
          refine ⟨bK2, bR2, bS2, nC2, (loopC_inl ?_).trans z1, z2⟩
          show FX0_begins_b10 sR (nI n) (nI k) bK bR bS (nI nC) = _
          unfold FX0_begins_b10 FX0_begins_j67
          rw [if_neg nn, if_neg n6, r1, bd1_s, r2, bd1_s, h1, hb, bd1_s, if_neg (by decide), ek]
        | false =>
          obtain ⟨b3, bK3, bR3, bS3, nC3, codes3, a1, a2, -, a3⟩ := adds6 c5 (by omega) (cd_CX hx)
          have hav : AllV T nC3 codes3 := by
            rcases a3 with ⟨-, rfl, rfl, -⟩ | ⟨-, rfl, rfl, -⟩
            · exact c7
            · exact c7.up hx
          have a3' : nC ≤ nC3 ∧ nC3 ≤ nC + 1 := by
            rcases a3 with ⟨-, q, -⟩ | ⟨-, q, -⟩ <;> omega
          obtain ⟨bK2, bR2, bS2, nC2, z1, z2⟩ := ih (k + 1) x bK3 bR3 bS3 nC3 (by omega) hN (Or.inr ⟨c1, Nat.le_trans c2 a3'.1, Nat.lt_of_lt_of_le c3 (Nat.add_le_add_left (Nat.sub_le_sub_right a3'.1 n0) f), Nat.le_trans a3'.2 (Nat.succ_le_succ (Nat.le_of_not_lt c6)), codes3, a2, hav⟩)
          rw [e'] at z2
          rw [e]
          refine ⟨bK2, bR2, bS2, nC2, (loopC_inl ?_).trans z1, z2⟩
          show FX0_begins_b10 sR (nI n) (nI k) bK bR bS (nI nC) = _
          unfold FX0_begins_b10 FX0_begins_j67
          rw [if_neg nn, if_neg n6, r1, bd1_s, r2, bd1_s, h1, hb, bd1_s, if_pos (by decide), a1, bd5_s, ek]
end P57
