set_option maxRecDepth 100000
section P60
variable {T : Nat → Nat}
/-- the model's step from a year to the next one -/
theorem nextM (hW : WT T) {f f' n0 m1 bk : Nat} {acc : Acc} {B : Nat → St} {lies : Nat → Int64} {mt yt ym bt bm : Nat → Int32} {bg : Nat → Int64} {sp : Int32} (hM : MA T lies mt yt ym m1 f acc sp) (h0 : acc.2.2 = false) (hff : f + acc.1 = f') (hB : ∀ j, j < n0 → VS T (B j) ∧ (B j).2.2 = 0) (hn0 : n0 ≤ f') (hb : BT bt bm bg bk n0 (fun j => pk (B j).1 15)) (hmk : m1 + 1 < 2147483648) (hbk : bk < 2147483648) : ∃ lies' mt' yt' ym' bt' bm' bg' sp', FX8_nextYear lies mt yt ym bt bm (nI f') (nI f) (nI m1) (nI bk) (nI n0) bg sp = some (decide (0 < (nxS f' acc.2.1 acc.1 0 ((0, acc.2.1, false), n0, B)).1.1) || (nxS f' acc.2.1 acc.1 0 ((0, acc.2.1, false), n0, B)).1.2.2, lies', mt', yt', ym', bt', bm', nI (f' + (nxS f' acc.2.1 acc.1 0 ((0, acc.2.1, false), n0, B)).1.1), nI f', nI (m1 + 1), nI (nxS f' acc.2.1 acc.1 0 ((0, acc.2.1, false), n0, B)).2.1, bg', sp') ∧ MA T lies' mt' yt' ym' (m1 + 1) f' (nxS f' acc.2.1 acc.1 0 ((0, acc.2.1, false), n0, B)).1 sp' ∧ BT bt' bm' bg' bk (nxS f' acc.2.1 acc.1 0 ((0, acc.2.1, false), n0, B)).2.1 (fun j => pk ((nxS f' acc.2.1 acc.1 0 ((0, acc.2.1, false), n0, B)).2.2 j).1 15) ∧ KP f' lies mt lies' mt' := by
  have hf := hM.1.1
  have hsp : sp = 0 := by have := hM.2.2; rw [h0] at this; exact this
  have hM' : MA T lies mt yt ym (m1 + 1) f' (0, acc.2.1, false) sp := ⟨⟨by show f' + 0 ≤ 6000; omega, fun j hj => absurd hj (Nat.not_lt_zero j)⟩, hM.2.1.next (by omega), hsp⟩
  obtain ⟨l1, mt1, yt1, ym1, bt1, bm1, bg1, sp1, e1, e2, e3, e4, kp⟩ := next8 (f := f) (f' := f') (n := acc.1) (n0 := n0) (m1 := m1) (bk := bk) (E := acc.2.1) hW hff (fun j hj => hM.1.2 j hj) hmk hbk acc.1 0 ((0, acc.2.1, false), n0, B) lies mt yt ym bt bm bg sp (by omega) (NI.start (by omega) hB hn0) (fun j hj => (hM.2.1.2.1 j hj).2.2.1) hM' hb
  generalize nxS f' acc.2.1 acc.1 0 ((0, acc.2.1, false), n0, B) = x at *
  refine ⟨l1, mt1, yt1, ym1, bt1, bm1, bg1, sp1, ?_, e3, e4, kp⟩
  have hx := e3.1.1
  have hsp1 := e3.2.2
  unfold FX8_nextYear FX8_nextYear_j90
  rw [Nat.add_zero] at e1
  have e1' : _ = _ := e1
  rw [show ((nI f, lies, mt, yt, ym, bt, bm, nI f', nI n0, bg, sp) : Int32 × (Nat → Int64) × (Nat → Int32) × (Nat → Int32) × (Nat → Int32) × (Nat → Int32) × (Nat → Int32) × Int32 × Int32 × (Nat → Int64) × Int32) = (nI f, lies, mt, yt, ym, bt, bm, nI (f' + 0), nI n0, bg, sp) from rfl, e1, bd10_s, show nI m1 + 1 = nI (m1 + 1) from n_add m1 1]
  by_cases c : 0 < x.1.1
  · rw [if_pos (by rw [lt_t (by omega) (by omega)]; trivial), decide_eq_true c]
    rfl
  · rw [if_neg (by rw [lt_f (by omega) (by omega)]; exact id), decide_eq_false c]
    cases hs : x.1.2.2 with
    | true =>
      rw [hs] at hsp1
      rw [if_neg (by rw [hsp1]; decide)]
      rfl
    | false =>
      rw [hs] at hsp1
      rw [if_pos (show sp1 = 0 from hsp1)]
      rfl
end P60
