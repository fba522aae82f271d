set_option maxRecDepth 100000
section P49
variable {all t on at' many : Nat → Int32} {T O O' M : Nat → Nat} {V : Nat → BvT} {mv as1 : Nat}
theorem rowM (hA : AllAt all T) (hW : WT T) (hB : BarsOK all T V) {s : St} (hs : VS T s) (has : as1 < 100) {a : Nat} (ha : a < T 0) (fl : Bool) {mk f : Nat} {acc : Acc} (hmk : mk < 2147483648) : ∀ d b (on many pile : Nat → Int32) (lies : Nat → Int64) (mt yt ym : Nat → Int32) (sp : Int32), b + d = T 0 → OnAt on many s.1 s.2.1 → MA T lies mt yt ym mk f (rowS T V as1 fl f s a acc b) sp → ∃ on' many' pile' lies' mt' yt' ym' sp', loopC (fun (s1 : Int32 × (Nat → Int32) × (Nat → Int32) × (Nat → Int32) × (Nat → Int64) × (Nat → Int32) × (Nat → Int32) × (Nat → Int32) × Int32 × Int32) => FX8_spreads_b58 all (nD as1) (nI mk) (nI (if fl then 1 else 0)) (nI s.2.2) (nI a) s1.1 s1.2.1 s1.2.2.1 s1.2.2.2.1 s1.2.2.2.2.1 s1.2.2.2.2.2.1 s1.2.2.2.2.2.2.1 s1.2.2.2.2.2.2.2.1 s1.2.2.2.2.2.2.2.2.1 s1.2.2.2.2.2.2.2.2.2) (nI b, on, many, pile, lies, mt, yt, ym, nI (f + (rowS T V as1 fl f s a acc b).1), sp) = some (on', many', pile', lies', mt', yt', ym', nI (f + (rowS T V as1 fl f s a acc (T 0)).1), sp') ∧ OnAt on' many' s.1 s.2.1 ∧ MA T lies' mt' yt' ym' mk f (rowS T V as1 fl f s a acc (T 0)) sp' ∧ KP f lies mt lies' mt' := by
  have hw := hW.b
  have g0 := hA.n (k := 0) (by omega) (by omega)
  have r0 : rd 1593 all 0 = some (nI (T 0)) := rdn (k := 0) (by omega) (by omega) g0
  intro d
  induction d with
  | zero =>
    intro b on many pile lies mt yt ym sp hb hon h
    obtain rfl : b = T 0 := by omega
    refine ⟨on, many, pile, lies, mt, yt, ym, sp, loopC_inr ?_, hon, h, KP.rf⟩
    show FX8_spreads_b58 all (nD as1) (nI mk) (nI (if fl then 1 else 0)) (nI s.2.2) (nI a) (nI (T 0)) on many pile lies mt yt ym _ sp = _
    unfold FX8_spreads_b58
    rw [r0, bd1_s, if_pos (Int32.le_refl _)]
  | succ d ih =>
    intro b on many pile lies mt yt ym sp hb hon h
    obtain ⟨on1, many1, pile1, lies1, mt1, yt1, ym1, sp1, e1, e2, e3, kp1⟩ := pairM hA hW hB hs has ha (show b < T 0 by omega) fl hon h hmk pile
    obtain ⟨on2, many2, pile2, lies2, mt2, yt2, ym2, sp2, f1, f2, f3, kp2⟩ := ih (b + 1) on1 many1 pile1 lies1 mt1 yt1 ym1 sp1 (by omega) e2 e3
    exact ⟨on2, many2, pile2, lies2, mt2, yt2, ym2, sp2, (loopC_inl e1).trans f1, f2, f3, KP.tr kp1 kp2⟩
theorem allM (hA : AllAt all T) (hW : WT T) (hB : BarsOK all T V) {s : St} (hs : VS T s) (has : as1 < 100) (fl : Bool) {mk f : Nat} {acc : Acc} (hmk : mk < 2147483648) : ∀ d a (on many pile : Nat → Int32) (lies : Nat → Int64) (mt yt ym : Nat → Int32) (sp : Int32), a + d = T 0 → OnAt on many s.1 s.2.1 → MA T lies mt yt ym mk f (allS T V as1 fl f s acc a) sp → ∃ on' many' pile' lies' mt' yt' ym' sp', loopC (fun (s1 : Int32 × (Nat → Int32) × (Nat → Int32) × (Nat → Int32) × (Nat → Int64) × (Nat → Int32) × (Nat → Int32) × (Nat → Int32) × Int32 × Int32) => FX8_spreads_b44 all (nD as1) (nI mk) (nI (if fl then 1 else 0)) (nI s.2.2) s1.1 s1.2.1 s1.2.2.1 s1.2.2.2.1 s1.2.2.2.2.1 s1.2.2.2.2.2.1 s1.2.2.2.2.2.2.1 s1.2.2.2.2.2.2.2.1 s1.2.2.2.2.2.2.2.2.1 s1.2.2.2.2.2.2.2.2.2) (nI a, on, many, pile, lies, mt, yt, ym, nI (f + (allS T V as1 fl f s acc a).1), sp) = some (on', many', pile', lies', mt', yt', ym', nI (f + (allS T V as1 fl f s acc (T 0)).1), sp') ∧ OnAt on' many' s.1 s.2.1 ∧ MA T lies' mt' yt' ym' mk f (allS T V as1 fl f s acc (T 0)) sp' ∧ KP f lies mt lies' mt' := by
  have hw := hW.b
  have g0 := hA.n (k := 0) (by omega) (by omega)
  have r0 : rd 1593 all 0 = some (nI (T 0)) := rdn (k := 0) (by omega) (by omega) g0
  intro d
  induction d with
  | zero =>
    intro a on many pile lies mt yt ym sp hb hon h
    obtain rfl : a = T 0 := by omega
    refine ⟨on, many, pile, lies, mt, yt, ym, sp, loopC_inr ?_, hon, h, KP.rf⟩
    show FX8_spreads_b44 all (nD as1) (nI mk) (nI (if fl then 1 else 0)) (nI s.2.2) (nI (T 0)) on many pile lies mt yt ym _ sp = _
    unfold FX8_spreads_b44
    rw [r0, bd1_s, if_pos (Int32.le_refl _)]
  | succ d ih =>
    intro a on many pile lies mt yt ym sp hb hon h
    obtain ⟨on1, many1, pile1, lies1, mt1, yt1, ym1, sp1, e1, e2, e3, kp1⟩ := rowM (acc := allS T V as1 fl f s acc a) hA hW hB hs has (show a < T 0 by omega) fl hmk (T 0) 0 on many pile lies mt yt ym sp (by omega) hon h
    obtain ⟨on2, many2, pile2, lies2, mt2, yt2, ym2, sp2, f1, f2, f3, kp2⟩ := ih (a + 1) on1 many1 pile1 lies1 mt1 yt1 ym1 sp1 (by omega) e2 e3
    refine ⟨on2, many2, pile2, lies2, mt2, yt2, ym2, sp2, (loopC_inl ?_).trans f1, f2, f3, KP.tr kp1 kp2⟩
    show FX8_spreads_b44 all (nD as1) (nI mk) (nI (if fl then 1 else 0)) (nI s.2.2) (nI a) on many pile lies mt yt ym _ sp = _
    unfold FX8_spreads_b44
    rw [r0, bd1_s, if_neg (by rw [le_f (by omega) (by omega)]; exact id)]
    have e1' : loopC (fun (s1 : Int32 × (Nat → Int32) × (Nat → Int32) × (Nat → Int32) × (Nat → Int64) × (Nat → Int32) × (Nat → Int32) × (Nat → Int32) × Int32 × Int32) => FX8_spreads_b58 all (nD as1) (nI mk) (nI (if fl then 1 else 0)) (nI s.2.2) (nI a) s1.1 s1.2.1 s1.2.2.1 s1.2.2.2.1 s1.2.2.2.2.1 s1.2.2.2.2.2.1 s1.2.2.2.2.2.2.1 s1.2.2.2.2.2.2.2.1 s1.2.2.2.2.2.2.2.2.1 s1.2.2.2.2.2.2.2.2.2) ((0 : Int32), on, many, pile, lies, mt, yt, ym, nI (f + (allS T V as1 fl f s acc a).1), sp) = _ := e1
    rw [e1', bd9_s, show nI a + 1 = nI (a + 1) from n_add a 1]
    rfl
theorem spreadM (hA : AllAt all T) (hW : WT T) (hB : BarsOK all T V) (has : as1 < 100) (fl : Bool) {mk f : Nat} (hmk : mk < 2147483648) : ∀ d x (acc : Acc) (on many : Nat → Int32) (mv : Int32) (pile : Nat → Int32) (lies : Nat → Int64) (mt yt ym : Nat → Int32) (sp : Int32), d + x = 6001 → MA T lies mt yt ym mk f acc sp → ∃ on' many' mv' pile' lies' mt' yt' ym' sp', loopC (fun (s1 : Int32 × (Nat → Int32) × (Nat → Int32) × Int32 × (Nat → Int32) × (Nat → Int64) × (Nat → Int32) × (Nat → Int32) × (Nat → Int32) × Int32 × Int32) => FX8_spreads_b5 all (nD as1) (nI mk) (nI (if fl then 1 else 0)) s1.1 s1.2.1 s1.2.2.1 s1.2.2.2.1 s1.2.2.2.2.1 s1.2.2.2.2.2.1 s1.2.2.2.2.2.2.1 s1.2.2.2.2.2.2.2.1 s1.2.2.2.2.2.2.2.2.1 s1.2.2.2.2.2.2.2.2.2.1 s1.2.2.2.2.2.2.2.2.2.2) (nI (f + x), on, many, mv, pile, lies, mt, yt, ym, nI (f + acc.1), sp) = some (on', many', mv', pile', lies', mt', yt', ym', nI (f + (spS T V as1 fl f d x acc).1), sp') ∧ MA T lies' mt' yt' ym' mk f (spS T V as1 fl f d x acc) sp' ∧ KP f lies mt lies' mt' := by
  have hw := hW.b
  intro d
  induction d with
  | zero =>
    intro x acc on many mv pile lies mt yt ym sp hd h
    have hn := h.1.1
    refine ⟨on, many, mv, pile, lies, mt, yt, ym, sp, loopC_inr ?_, h, KP.rf⟩
    show FX8_spreads_b5 all (nD as1) (nI mk) (nI (if fl then 1 else 0)) (nI (f + x)) on many mv pile lies mt yt ym (nI (f + acc.1)) sp = _
    unfold FX8_spreads_b5
    rw [if_pos (by rw [le_t (by omega) (by omega)]; trivial)]
    rfl
  | succ d ih =>
    intro x acc on many mv pile lies mt yt ym sp hd h
    have hn := h.1.1
    rw [spS]
    by_cases c : acc.1 ≤ x
    · rw [if_pos c]
      refine ⟨on, many, mv, pile, lies, mt, yt, ym, sp, loopC_inr ?_, h, KP.rf⟩
      show FX8_spreads_b5 all (nD as1) (nI mk) (nI (if fl then 1 else 0)) (nI (f + x)) on many mv pile lies mt yt ym (nI (f + acc.1)) sp = _
      unfold FX8_spreads_b5
      rw [if_pos (by rw [le_t (by omega) (by omega)]; trivial)]
    · rw [if_neg c]
      have nn : ¬ nI (f + acc.1) ≤ nI (f + x) := by rw [le_f (by omega) (by omega)]; exact id
      have hsp := h.2.2
      by_cases c2 : acc.2.2 = true
      · rw [if_pos c2]
        rw [if_pos c2] at hsp
        refine ⟨on, many, mv, pile, lies, mt, yt, ym, sp, loopC_inr ?_, h, KP.rf⟩
        show FX8_spreads_b5 all (nD as1) (nI mk) (nI (if fl then 1 else 0)) (nI (f + x)) on many mv pile lies mt yt ym (nI (f + acc.1)) sp = _
        unfold FX8_spreads_b5
        rw [if_neg nn, if_neg (by rw [hsp]; decide)]
      · rw [if_neg c2]
        rw [if_neg c2] at hsp
        have hx := h.1.2 x (by omega)
        obtain ⟨k1, k2, k3, k4⟩ := h.2.1.2.1 x (by omega)
        have r1 : rd 6001 lies (nI (f + x)) = some (lN (pk (acc.2.1 x).1 15)) := rdn (by omega) (by omega) k3
        have r2 : rd 6001 mt (nI (f + x)) = some (nI (acc.2.1 x).2.2) := rdn (by omega) (by omega) k4
        obtain ⟨on1, many1, e1, hon1⟩ := looksAt8 hW hx.1 (acc.2.1 x).2.2 on many
        obtain ⟨on2, many2, pile2, lies2, mt2, yt2, ym2, sp2, e2, e3, e4, kp1⟩ := allM (s := acc.2.1 x) (acc := acc) hA hW hB hx has fl hmk (T 0) 0 on1 many1 pile lies mt yt ym sp (by omega) hon1 h
        obtain ⟨on3, many3, mv3, pile3, lies3, mt3, yt3, ym3, sp3, e5, e6, kp2⟩ := ih (x + 1) (allS T V as1 fl f (acc.2.1 x) acc (T 0)) on2 many2 (nI (acc.2.1 x).2.2) pile2 lies2 mt2 yt2 ym2 sp2 (by omega) e4
        refine ⟨on3, many3, mv3, pile3, lies3, mt3, yt3, ym3, sp3, (loopC_inl ?_).trans e5, e6, KP.tr kp1 kp2⟩
        show FX8_spreads_b5 all (nD as1) (nI mk) (nI (if fl then 1 else 0)) (nI (f + x)) on many mv pile lies mt yt ym (nI (f + acc.1)) sp = _
        unfold FX8_spreads_b5
        have e2' : loopC (fun (s1 : Int32 × (Nat → Int32) × (Nat → Int32) × (Nat → Int32) × (Nat → Int64) × (Nat → Int32) × (Nat → Int32) × (Nat → Int32) × Int32 × Int32) => FX8_spreads_b44 all (nD as1) (nI mk) (nI (if fl then 1 else 0)) (nI (acc.2.1 x).2.2) s1.1 s1.2.1 s1.2.2.1 s1.2.2.2.1 s1.2.2.2.2.1 s1.2.2.2.2.2.1 s1.2.2.2.2.2.2.1 s1.2.2.2.2.2.2.2.1 s1.2.2.2.2.2.2.2.2.1 s1.2.2.2.2.2.2.2.2.2) ((0 : Int32), on1, many1, pile, lies, mt, yt, ym, nI (f + acc.1), sp) = _ := e2
        rw [if_neg nn, if_pos hsp, r1, bd1_s, r2, bd1_s, e1, bd3_s, e2', bd9_s, show nI (f + x) + 1 = nI (f + (x + 1)) from n_add (f + x) 1]
theorem spreads8 (hA : AllAt all T) (hW : WT T) (hB : BarsOK all T V) (has : as1 < 100) (fl : Bool) {mk f : Nat} (hmk : mk < 2147483648) {acc : Acc} {lies : Nat → Int64} {mt yt ym : Nat → Int32} {sp : Int32} (h : MA T lies mt yt ym mk f acc sp) (on many : Nat → Int32) (mv : Int32) (pile : Nat → Int32) : ∃ on' many' mv' pile' lies' mt' yt' ym' sp', FX8_spreads all on many mv pile (nD as1) lies mt yt ym (nI (f + acc.1)) (nI f) (nI mk) sp (nI (if fl then 1 else 0)) = some (on', many', mv', pile', lies', mt', yt', ym', nI (f + (spS T V as1 fl f 6001 0 acc).1), sp') ∧ MA T lies' mt' yt' ym' mk f (spS T V as1 fl f 6001 0 acc) sp' ∧ KP f lies mt lies' mt' := by
  obtain ⟨on3, many3, mv3, pile3, lies3, mt3, yt3, ym3, sp3, e5, e6, kp1⟩ := spreadM hA hW hB has fl hmk 6001 0 acc on many mv pile lies mt yt ym sp (by omega) h
  refine ⟨on3, many3, mv3, pile3, lies3, mt3, yt3, ym3, sp3, ?_, e6, kp1⟩
  rw [Nat.add_zero] at e5
  unfold FX8_spreads
  rw [e5, bd10_s]
end P49
