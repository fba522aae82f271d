set_option maxRecDepth 100000
section P62
variable {T : Nat → Nat} {V : Nat → BvT} {as1 : Nat}
theorem addS_ge {f : Nat} {acc : Acc} {s : St} : acc.1 ≤ (addS f acc s).1 := by
  unfold addS
  split
  · exact Nat.le_refl _
  · split
    · exact Nat.le_refl _
    · exact Nat.le_succ _
theorem p1_ge {f : Nat} {acc : Acc} {s : St} {fl : Bool} {a b : Nat} : acc.1 ≤ (pair1 T V as1 fl f s a b acc).1 := by
  unfold pair1
  split
  · exact addS_ge
  · exact Nat.le_refl _
theorem p2_ge {f : Nat} {acc : Acc} {s : St} {fl : Bool} {a b : Nat} : acc.1 ≤ (pair2 T V fl f s a b acc).1 := by
  unfold pair2
  split
  · exact addS_ge
  · exact Nat.le_refl _
theorem row_ge {f : Nat} {acc : Acc} {s : St} {fl : Bool} {a : Nat} : ∀ b, acc.1 ≤ (rowS T V as1 fl f s a acc b).1 := by
  intro b
  induction b with
  | zero => exact Nat.le_refl _
  | succ b ih => exact Nat.le_trans ih (Nat.le_trans p1_ge p2_ge)
theorem all_ge {f : Nat} {acc : Acc} {s : St} {fl : Bool} : ∀ a, acc.1 ≤ (allS T V as1 fl f s acc a).1 := by
  intro a
  induction a with
  | zero => exact Nat.le_refl _
  | succ a ih => exact Nat.le_trans ih (row_ge (T 0))
theorem sp_ge {f : Nat} {fl : Bool} : ∀ d x (acc : Acc), acc.1 ≤ (spS T V as1 fl f d x acc).1 := by
  intro d
  induction d with
  | zero => intro x acc; exact Nat.le_refl _
  | succ d ih =>
    intro x acc
    rw [spS]
    split
    · exact Nat.le_refl _
    · split
      · exact Nat.le_refl _
      · exact Nat.le_trans (all_ge (T 0)) (ih _ _)
theorem all_Z (h : T 0 = 0) {f : Nat} {acc : Acc} {s : St} {fl : Bool} : allS T V as1 fl f s acc (T 0) = acc := by
  rw [h]
  rfl
theorem sp_Z (h : T 0 = 0) {f : Nat} {fl : Bool} : ∀ d x (acc : Acc), spS T V as1 fl f d x acc = acc := by
  intro d
  induction d with
  | zero => intro x acc; rfl
  | succ d ih =>
    intro x acc
    rw [spS]
    split
    · rfl
    · split
      · rfl
      · rw [all_Z h, ih]
/-- what holds at the beginning of a year: the states found before, those of this year, the begun -/
def YI (T : Nat → Nat) (f n0 : Nat) (acc : Acc) (B : Nat → St) : Prop :=
  acc.2.2 = false ∧ 1 ≤ acc.1 ∧ n0 ≤ f + acc.1 ∧ (∀ j, j < n0 → VS T (B j) ∧ (B j).2.2 = 0) ∧ (T 0 = 0 → acc.1 ≤ 1 ∧ (f = 0 ∨ f ≤ 1 ∧ memS B (kyS (rsS (acc.2.1 0))) n0 = true))
/-- a town of no rows has no year that is over -/
theorem YI.z {f n0 : Nat} {acc : Acc} {B : Nat → St} (h : YI T f n0 acc B) (hz : T 0 = 0) (hf : f + acc.1 ≤ 6000) : (nxS (f + acc.1) acc.2.1 acc.1 0 ((0, acc.2.1, false), n0, B)).1.2.2 = false ∧ ((nxS (f + acc.1) acc.2.1 acc.1 0 ((0, acc.2.1, false), n0, B)).1.1 = 0 ∨ (nxS (f + acc.1) acc.2.1 acc.1 0 ((0, acc.2.1, false), n0, B)).1.1 = 1 ∧ f = 0 ∧ acc.1 = 1 ∧ memS (nxS (f + acc.1) acc.2.1 acc.1 0 ((0, acc.2.1, false), n0, B)).2.2 (kyS (rsS ((nxS (f + acc.1) acc.2.1 acc.1 0 ((0, acc.2.1, false), n0, B)).1.2.1 0))) (nxS (f + acc.1) acc.2.1 acc.1 0 ((0, acc.2.1, false), n0, B)).2.1 = true) := by
  obtain ⟨-, h1, -, -, h5⟩ := h
  obtain ⟨h6, h7⟩ := h5 hz
  have h8 : acc.1 = 1 := by omega
  have e : nxS (f + acc.1) acc.2.1 acc.1 0 ((0, acc.2.1, false), n0, B) = begS (f + acc.1) ((0, acc.2.1, false), n0, B) (rsS (acc.2.1 0)) := by rw [h8]; rfl
  rw [e]
  by_cases c : memS B (kyS (rsS (acc.2.1 0))) n0 = true
  · have e2 : begS (f + acc.1) ((0, acc.2.1, false), n0, B) (rsS (acc.2.1 0)) = ((0, acc.2.1, false), n0, B) := if_pos c
    rw [e2]
    exact ⟨rfl, Or.inl rfl⟩
  · have hf0 : f = 0 := by
      rcases h7 with z | ⟨-, z⟩
      · exact z
      · exact absurd z c
    have e2 : begS (f + acc.1) ((0, acc.2.1, false), n0, B) (rsS (acc.2.1 0)) = (addS (f + acc.1) (0, acc.2.1, false) (rsS (acc.2.1 0)), n0 + 1, up B n0 (rsS (acc.2.1 0))) := if_neg c
    have e3 : addS (f + acc.1) (0, acc.2.1, false) (rsS (acc.2.1 0)) = (0 + 1, up acc.2.1 0 (rsS (acc.2.1 0)), false) := by
      unfold addS
      rw [if_neg (by show ¬ memS acc.2.1 (kyS (rsS (acc.2.1 0))) 0 = true; exact Bool.false_ne_true), if_neg (by show ¬ f + acc.1 + 0 = 6000; omega)]
    rw [e2, e3]
    refine ⟨rfl, Or.inr ⟨rfl, hf0, h8, ?_⟩⟩
    show memS (up B n0 (rsS (acc.2.1 0))) (kyS (rsS (up acc.2.1 0 (rsS (acc.2.1 0)) 0))) (n0 + 1) = true
    refine (memS_iff _ _ _).mpr ⟨n0, Nat.lt_succ_self _, ?_⟩
    rw [upn_t rfl, upn_t rfl]
    rfl
/-- the year behind -/
theorem YI.next {f n0 : Nat} {acc : Acc} {B : Nat → St} (h : YI T f n0 acc B) (hf : f + acc.1 ≤ 6000) (x : NA) (hx : x = nxS (f + acc.1) acc.2.1 acc.1 0 ((0, acc.2.1, false), n0, B)) (hN : NI T (f + acc.1) n0 x) (h1 : x.1.2.2 = false) (h2 : 1 ≤ x.1.1) : YI T (f + acc.1) x.2.1 x.1 x.2.2 := by
  have hz := h.z
  rw [← hx] at hz
  obtain ⟨a1, a2, a3, a4, a5⟩ := hN
  have hb : x.2.1 = n0 + x.1.1 := by
    rcases a5 with ⟨-, z⟩ | ⟨z, -⟩
    · exact z
    · rw [h1] at z; exact absurd z Bool.false_ne_true
  refine ⟨h1, h2, by rw [hb]; omega, a2, fun z => ?_⟩
  obtain ⟨-, z1 | ⟨z1, z2, z3, z4⟩⟩ := hz z hf
  · omega
  · exact ⟨by omega, Or.inr ⟨by omega, z4⟩⟩
/-- the first state of the model, from tables ready for a new mark -/
theorem starts8' (hW : WT T) {s : St} (hs : VS T s) {on many : Nat → Int32} (hon : OnAt on many s.1 s.2.1) {lies : Nat → Int64} {mt yt ym bt bm : Nat → Int32} {bg : Nat → Int64} {mk bk : Nat} (h1 : ∀ keys, MT lies mt yt ym (mk + 1) 0 0 keys) (h2 : ∀ codes, BT bt bm bg (bk + 1) 0 codes) (hmk : mk + 1 < 2147483648) (hbk : bk + 1 < 2147483648) : ∃ lies' mt' yt' ym' bt' bm' bg' nb', FX8_startsYears on (nI s.2.2) lies mt yt ym bt bm (nI mk) (nI bk) bg = some (lies', mt', yt', ym', bt', bm', nI 1, 0, nI (mk + 1), nI (bk + 1), nI nb', bg', 0) ∧ MA T lies' mt' yt' ym' (mk + 1) 0 (one1 s) 0 ∧ nb' = (if s.2.2 = 0 then 1 else 0) ∧ BT bt' bm' bg' (bk + 1) nb' (fun _ => pk s.1 15) := by
  have e0 := packed8 hW hs.1 hon.1
  have m1 : nI mk + 1 = nI (mk + 1) := n_add mk 1
  have m2 : nI bk + 1 = nI (bk + 1) := n_add bk 1
  have h3 : MA T lies mt yt ym (mk + 1) 0 (0, fun _ => s, false) 0 := ⟨⟨by show 0 + 0 ≤ 6000; omega, fun j hj => absurd hj (Nat.not_lt_zero j)⟩, h1 _, rfl⟩
  obtain ⟨lies', mt', yt', ym', sp', e1, e2, -⟩ := addM h3 hW hs hmk
  have ea : addS 0 (0, fun _ => s, false) s = (1, up (fun _ => s) 0 s, false) := rfl
  have eb : up (fun _ => s) 0 s = fun _ => s := by
    funext j
    by_cases c : j = 0
    · rw [upn_t c]
    · rw [upn_f c]
  rw [ea, eb] at e1 e2
  have hsp : sp' = 0 := e2.2.2
  subst hsp
  have e1' : FX8_takes lies mt yt ym 0 (nI (mk + 1)) 0 (lN (pk s.1 15)) (nI s.2.2) = some (lies', mt', yt', ym', nI 1, 0) := e1
  by_cases c : s.2.2 = 0
  · obtain ⟨b4, bt4, bm4, bg4, n4, c4, e4, f4, g4⟩ := begun8 (h2 (fun _ => pk s.1 15)) hbk (by omega) (pk_CX hW hs.1)
    have g4' : n4 = 1 ∧ c4 = fun _ => pk s.1 15 := by
      rcases g4 with ⟨-, -, -, j, hj, -⟩ | ⟨-, q2, q3, -⟩
      · exact absurd hj (Nat.not_lt_zero j)
      · refine ⟨q2, ?_⟩
        rw [q3]
        funext j
        by_cases c : j = 0
        · rw [upn_t c]
        · rw [upn_f c]
    obtain ⟨rfl, rfl⟩ := g4'
    refine ⟨lies', mt', yt', ym', bt4, bm4, bg4, 1, ?_, e2, by rw [if_pos c], f4⟩
    have e4' : FX8_isBegun bt bm (nI (bk + 1)) 0 bg (lN (pk s.1 15)) = some (b4, bt4, bm4, nI 1, bg4) := e4
    unfold FX8_startsYears
    rw [e0, bd1_s, m1, m2, e1', bd6_s, if_pos (by rw [c]; rfl), bd1_s, e4', bd5_s]
  · refine ⟨lies', mt', yt', ym', bt, bm, bg, 0, ?_, e2, by rw [if_neg c], h2 _⟩
    unfold FX8_startsYears
    rw [e0, bd1_s, m1, m2, e1', bd6_s, if_neg (by rw [show (0 : Int32) = nI 0 from rfl, eq_f c (by have := hs.2; omega) (by omega)]; exact id)]
    rfl
/-- what the tables of the search are between the calls -/
def TabC (sK sR : Nat → Int64) (sS : Nat → Int32) (bK bR : Nat → Int64) (bS : Nat → Int32) (sM bM : Int32) : Prop := ∃ n nb cs cb, CT sK sR sS n cs ∧ CT bK bR bS nb cb ∧ sM = nI n ∧ bM = nI nb
def TabM (lies : Nat → Int64) (mt yt ym bt bm : Nat → Int32) (bg : Nat → Int64) (mk bk : Nat) : Prop := (∀ keys, MT lies mt yt ym (mk + 1) 0 0 keys) ∧ ∀ codes, BT bt bm bg (bk + 1) 0 codes
theorem CA.ct {keys row : Nat → Int64} {slots : Nat → Int32} {n f : Nat} {acc : Acc} (h : CA T keys row slots n f acc) : ∃ codes, CT keys row slots n codes := by
  rcases h.2 with ⟨-, -, z⟩ | ⟨-, -, c, z, -⟩
  · exact ⟨_, z⟩
  · exact ⟨c, z⟩
theorem CB.ct {bK bR : Nat → Int64} {bS : Nat → Int32} {nC f n0 : Nat} {x : NA} (h : CB T bK bR bS nC f n0 x) : ∃ codes, CT bK bR bS nC codes := by
  rcases h with ⟨-, -, z⟩ | ⟨-, -, -, -, c, z, -⟩
  · exact ⟨_, z⟩
  · exact ⟨c, z⟩
theorem TabC.of {sK sR bK bR : Nat → Int64} {sS bS : Nat → Int32} {n nb : Nat} (h1 : ∃ c, CT sK sR sS n c) (h2 : ∃ c, CT bK bR bS nb c) : TabC sK sR sS bK bR bS (nI n) (nI nb) := by
  obtain ⟨c, h1⟩ := h1
  obtain ⟨d, h2⟩ := h2
  exact ⟨n, nb, c, d, h1, h2, rfl, rfl⟩
theorem TabM.of {lies : Nat → Int64} {mt yt ym bt bm : Nat → Int32} {bg : Nat → Int64} {mk bk f : Nat} {acc : Acc} {sp : Int32} {nb : Nat} {codes : Nat → Nat} (h1 : MA T lies mt yt ym mk f acc sp) (h2 : BT bt bm bg bk nb codes) : TabM lies mt yt ym bt bm bg mk bk := ⟨fun _ => h1.2.1.next (by omega), fun _ => h2.next⟩
end P62
