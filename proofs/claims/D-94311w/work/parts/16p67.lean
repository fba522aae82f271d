set_option maxRecDepth 100000
/-! winters -/
def mxW (T : Nat → Nat) (G : Nat → St) : Nat → Nat
  | 0 => 0
  | n + 1 => max (mxW T G n) (riN T (G n).1 0 15)
noncomputable def wkB (t : Nat → Int32) (nb : Int32) (bv : Nat → BvT) (p1 : Int32) (s : Int32 × Int32 × Int32 × SkX) : Option ((Int32 × Int32 × Int32 × SkX) ⊕ (SkX ⊕ (Int32 × SkX))) := FX0_winters_b41 t nb bv p1 s.1 s.2.1 s.2.2.1 s.2.2.2.1 s.2.2.2.2.1 s.2.2.2.2.2.1 s.2.2.2.2.2.2.1 s.2.2.2.2.2.2.2.1 s.2.2.2.2.2.2.2.2.1 s.2.2.2.2.2.2.2.2.2.1 s.2.2.2.2.2.2.2.2.2.2.1 s.2.2.2.2.2.2.2.2.2.2.2.1 s.2.2.2.2.2.2.2.2.2.2.2.2.1 s.2.2.2.2.2.2.2.2.2.2.2.2.2.1 s.2.2.2.2.2.2.2.2.2.2.2.2.2.2
noncomputable def wgB (all : Nat → Int32) (as p1 bk : Int32) (s : Int32 × Int32 × SgX) : Option ((Int32 × Int32 × SgX) ⊕ (SgX ⊕ (SgX ⊕ SgX))) := FX8_winters_b32 all as p1 bk s.1 s.2.1 s.2.2.1 s.2.2.2.1 s.2.2.2.2.1 s.2.2.2.2.2.1 s.2.2.2.2.2.2.1 s.2.2.2.2.2.2.2.1 s.2.2.2.2.2.2.2.2.1 s.2.2.2.2.2.2.2.2.2.1 s.2.2.2.2.2.2.2.2.2.2.1 s.2.2.2.2.2.2.2.2.2.2.2.1 s.2.2.2.2.2.2.2.2.2.2.2.2.1 s.2.2.2.2.2.2.2.2.2.2.2.2.2.1 s.2.2.2.2.2.2.2.2.2.2.2.2.2.2.1 s.2.2.2.2.2.2.2.2.2.2.2.2.2.2.2.1 s.2.2.2.2.2.2.2.2.2.2.2.2.2.2.2.2.1 s.2.2.2.2.2.2.2.2.2.2.2.2.2.2.2.2.2
noncomputable def wkE (o : Option (SkX ⊕ (Int32 × SkX))) : Option S0R := bdS2 o
  (un12 fun tA tM sK sR sS bK bR bS so tv sM bM => some ((-4), tA, tM, sK, sR, sS, bK, bR, bS, so, tv, (-1), sM, bM))
  (un13 fun x tA tM sK sR sS bK bR bS so tv sM bM => some (x, tA, tM, sK, sR, sS, bK, bR, bS, so, tv, (-1), sM, bM))
noncomputable def wgE (all : Nat → Int32) (bk : Int32) (o : Option (SgX ⊕ (SgX ⊕ SgX))) : Option S8R := bdS3 o
  (un16 fun on many mv pile lies mt yt ym bt bm fo yf mk nb bg sp => some ((-4), on, many, mv, pile, lies, mt, yt, ym, bt, bm, fo, yf, mk, bk, nb, bg, sp))
  (un16 fun on many mv pile lies mt yt ym bt bm fo yf mk nb bg sp => some ((-4), on, many, mv, pile, lies, mt, yt, ym, bt, bm, fo, yf, mk, bk, nb, bg, sp))
  (un16 fun on many mv pile lies mt yt ym bt bm fo yf mk nb bg sp => bd4 (loopC (fun (s : Int32 × Int32 × (Nat → Int32) × (Nat → Int32) × Int32) => FX8_winters_b95 all lies mt fo s.1 s.2.1 s.2.2.1 s.2.2.2.1 s.2.2.2.2) (0, 0, on, many, mv)) fun x on2 many2 mv2 => some (x, on2, many2, mv2, pile, lies, mt, yt, ym, bt, bm, fo, yf, mk, bk, nb, bg, sp))
theorem SO.up {mk bk d d' : Nat} {p5 : Int32} {o0 : Option S0R} {o8 : Option S8R} (h : SO mk bk d p5 o0 o8) (hd : d ≤ d') : SO mk bk d' p5 o0 o8 := by
  obtain ⟨r, so, fo, tA', tM', sK', sR', sS', bK', bR', bS', tv', sM', bM', on', many', mv', pile', lies', mt', yt', ym', bt', bm', yf', mk', bk', nb', bg', sp', q1, q2, q3, q4, q5, q6, q7⟩ := h
  exact SO.mk q1 q2 q3 q4 q5 (by omega) (by omega)
section P67
variable {all t : Nat → Int32} {T : Nat → Nat} {V : Nat → BvT}
theorem mxW_le (T : Nat → Nat) (G : Nat → St) : ∀ n, mxW T G n ≤ 15 := by
  intro n
  induction n with
  | zero => exact Nat.zero_le _
  | succ n ih => exact Nat.max_le.mpr ⟨ih, riN_le _ _ _ 15⟩
theorem mxW_cong {G G' : Nat → St} : ∀ n, (∀ j, j < n → G' j = G j) → mxW T G' n = mxW T G n := by
  intro n
  induction n with
  | zero => intro _; rfl
  | succ n ih =>
    intro h
    show max (mxW T G' n) _ = max (mxW T G n) _
    rw [ih (fun j hj => h j (by omega)), h n (by omega)]
theorem mxI_n {a b : Nat} (ha : a ≤ 15) (hb : b ≤ 15) : mxI (nI a) (nI b) = nI (max a b) := by
  unfold mxI
  by_cases c : a < b
  · rw [if_pos (by rw [lt_t c (by omega)]; trivial), Nat.max_eq_right (by omega)]
  · rw [if_neg (by rw [lt_f (by omega) (by omega)]; exact id), Nat.max_eq_left (by omega)]
theorem win0 (ht : TwAt t T) (hW : WT T) {row : Nat → Int64} {n f : Nat} {E G : Nat → St} (hn : n ≤ 6002) (hE : ∀ j, j < n → VS T (E j)) (hr : ∀ j, j < n → row j = lN (cdS (E j))) (hG : ∀ j, j < n → G (f + j) = E j) : ∀ d k (a0 m0 : Nat → Int32) (mv : Int32), k + d = n → ∃ a' m' mv', loopC (fun (s : Int32 × Int32 × (Nat → Int32) × (Nat → Int32) × Int32) => FX0_winters_b92 t row (nI n) s.1 s.2.1 s.2.2.1 s.2.2.2.1 s.2.2.2.2) (nI (mxW T G (f + k)), nI k, a0, m0, mv) = some (nI (mxW T G (f + n)), a', m', mv') := by
  intro d
  induction d with
  | zero =>
    intro k a0 m0 mv hk
    obtain rfl : k = n := by omega
    refine ⟨a0, m0, mv, loopC_inr ?_⟩
    show FX0_winters_b92 t row (nI k) (nI (mxW T G (f + k))) (nI k) a0 m0 mv = _
    unfold FX0_winters_b92
    rw [if_pos (Int32.le_refl _)]
  | succ d ih =>
    intro k a0 m0 mv hk
    have hx := hE k (by omega)
    have r1 : rd 6002 row (nI k) = some (lN (cdS (E k))) := rdn (by omega) (by omega) (hr k (by omega))
    obtain ⟨a1, m1, e1, hat⟩ := lays4 ht hW hx.1 hx.2 a0 m0
    have e1' : FX4_lays t a0 m0 (lN (cdS (E k))) = some (a1, m1, nI (E k).2.2) := e1
    have e2 := right4 ht hat.1 hW hx.1 (w := 0) (by omega)
    have e2' : FX4_right t a1 (-1) = some (nI (riN T (E k).1 0 15)) := e2
    obtain ⟨a2, m2, mv2, e3⟩ := ih (k + 1) a1 m1 (nI (E k).2.2) (by omega)
    refine ⟨a2, m2, mv2, (loopC_inl ?_).trans e3⟩
    show FX0_winters_b92 t row (nI n) (nI (mxW T G (f + k))) (nI k) a0 m0 mv = _
    unfold FX0_winters_b92
    rw [if_neg (by rw [le_f (by omega) (by omega)]; exact id), r1, bd1_s, e1', bd3_s, e2', bd1_s, mxI_n (mxW_le _ _ _) (riN_le _ _ _ _), show nI k + 1 = nI (k + 1) from n_add k 1, show f + (k + 1) = (f + k) + 1 from rfl, ← hG k (by omega)]
    rfl
theorem win8 (hA : AllAt all T) (hW : WT T) {lies : Nat → Int64} {mt : Nat → Int32} {n : Nat} {G : Nat → St} (hn : n ≤ 6000) (hE : ∀ j, j < n → VS T (G j)) (hr : ∀ j, j < n → lies j = lN (pk (G j).1 15) ∧ mt j = nI (G j).2.2) : ∀ d k (on many : Nat → Int32) (mv : Int32), k + d = n → ∃ on' many' mv', loopC (fun (s : Int32 × Int32 × (Nat → Int32) × (Nat → Int32) × Int32) => FX8_winters_b95 all lies mt (nI n) s.1 s.2.1 s.2.2.1 s.2.2.2.1 s.2.2.2.2) (nI (mxW T G k), nI k, on, many, mv) = some (nI (mxW T G n), on', many', mv') := by
  intro d
  induction d with
  | zero =>
    intro k on many mv hk
    obtain rfl : k = n := by omega
    refine ⟨on, many, mv, loopC_inr ?_⟩
    show FX8_winters_b95 all lies mt (nI k) (nI (mxW T G k)) (nI k) on many mv = _
    unfold FX8_winters_b95
    rw [if_pos (Int32.le_refl _)]
  | succ d ih =>
    intro k on many mv hk
    have hx := hE k (by omega)
    obtain ⟨k3, k4⟩ := hr k (by omega)
    have r1 : rd 6001 lies (nI k) = some (lN (pk (G k).1 15)) := rdn (by omega) (by omega) k3
    have r2 : rd 6001 mt (nI k) = some (nI (G k).2.2) := rdn (by omega) (by omega) k4
    obtain ⟨on1, many1, e1, hon1⟩ := looksAt8 hW hx.1 (G k).2.2 on many
    have e2 := rights8 hA hon1.1 hW hx.1 (w := 0) (by omega)
    have e2' : FX8_rights all on1 (-1) = some (nI (riN T (G k).1 0 15)) := e2
    obtain ⟨a2, m2, mv2, e3⟩ := ih (k + 1) on1 many1 (nI (G k).2.2) (by omega)
    have h1 := mxW_le T G k
    have h2 := riN_le T (G k).1 0 15
    refine ⟨a2, m2, mv2, (loopC_inl ?_).trans e3⟩
    show FX8_winters_b95 all lies mt (nI n) (nI (mxW T G k)) (nI k) on many mv = _
    unfold FX8_winters_b95 FX8_winters_j141
    rw [if_neg (by rw [le_f (by omega) (by omega)]; exact id), r1, bd1_s, r2, bd1_s, e1, bd3_s, e2', bd1_s, show nI k + 1 = nI (k + 1) from n_add k 1]
    by_cases c : riN T (G k).1 0 15 ≤ mxW T G k
    · rw [if_pos (by rw [le_t c (by omega)]; trivial), show mxW T G (k + 1) = mxW T G k from Nat.max_eq_left c]
    · rw [if_neg (by rw [le_f (by omega) (by omega)]; exact id), show mxW T G (k + 1) = riN T (G k).1 0 15 from Nat.max_eq_right (by omega)]
theorem wrs (ht : TwAt t T) (hA : AllAt all T) (hW : WT T) (hB : BarsOK all T V) {bk : Nat} (hbk : bk < 2147483648) {P : Nat} (hP : P < 100) : ∀ d y f n0 n mk (acc : Acc) (B G : Nat → St) (tA tM : Nat → Int32) (tv : Int32) (sK sR : Nat → Int64) (sS : Nat → Int32) (bK bR : Nat → Int64) (bS : Nat → Int32) (on many : Nat → Int32) (mv : Int32) (pile : Nat → Int32) (lies : Nat → Int64) (mt yt ym bt bm : Nat → Int32) (bg : Nat → Int64) (sp : Int32), y + d = P → YI T f n0 acc B → CA T sK sR sS n f acc → CT bK bR bS n0 (fun j => cdS (B j)) → MA T lies mt yt ym mk f acc sp → BT bt bm bg bk n0 (fun j => pk (B j).1 15) → (∀ j, j < f → VS T (G j) ∧ lies j = lN (pk (G j).1 15) ∧ mt j = nI (G j).2.2) → mk + d + 1 < 2147483648 →
    SO mk bk (d + 1) (-1) (wkE (loopC (wkB t (nI (T 114)) V (nI P)) (nI (mxW T G f), 1, nI y, tA, tM, sK, sR, sS, bK, bR, bS, nI f, tv, nI n, nI n0))) (wgE all (nI bk) (loopC (wgB all (nD 0) (nI P) (nI bk)) (1, nI y, on, many, mv, pile, lies, mt, yt, ym, bt, bm, nI (f + acc.1), nI f, nI mk, nI n0, bg, sp))) := by
  intro d
  induction d using Nat.strongRecOn with
  | ind d ih =>
    intro y f n0 n mk acc B G tA tM tv sK sR sS bK bR bS on many mv pile lies mt yt ym bt bm bg sp hd hY hS hcb hM hbb hG hmk
    obtain ⟨a1, m1, v1, sK1, sR1, sS1, n1, e1, e2, -⟩ := closes0 (V := V) (as1 := 0) ht hW hB.1 (by omega) false hS hY.1 tA tM tv
    obtain ⟨on1, many1, mv1, pile1, lies1, mt1, yt1, ym1, sp1, d1, d2, dkp⟩ := spreads8 (V := V) (as1 := 0) hA hW hB (by omega) false (show mk < 2147483648 by omega) hM on many mv pile
    have hYE := hY.sp (V := V) (as1 := 0)
    have hge := sp_ge (T := T) (V := V) (as1 := 0) (f := f) (fl := false) 6001 0 acc
    generalize spS T V 0 false f 6001 0 acc = E at *
    have e1' : FX0_closes t tA tM sK sR sS tv (-1) (nI n) (nI (T 114)) V (nI f) 0 = _ := e1
    have d1' : FX8_spreads all on many mv pile (nD 0) lies mt yt ym (nI (f + acc.1)) (nI f) (nI mk) sp 0 = _ := d1
    have hsp := d2.2.2
    have hpy : ¬ nI P < nI y := by rw [lt_f (by omega) (by omega)]; exact id
    have one : ¬ ((1 : Int32) = 0) := by decide
    cases hE : E.2.2 with
    | true =>
      rw [hE] at hsp e1'
      have x0 : wkB t (nI (T 114)) V (nI P) (nI (mxW T G f), 1, nI y, tA, tM, sK, sR, sS, bK, bR, bS, nI f, tv, nI n, nI n0) = some (.inr (.inl (a1, m1, sK1, sR1, sS1, bK, bR, bS, nI f, v1, nI n1, nI n0))) := by
        show FX0_winters_b41 t (nI (T 114)) V (nI P) (nI (mxW T G f)) 1 (nI y) tA tM sK sR sS bK bR bS (nI f) tv (nI n) (nI n0) = _
        unfold FX0_winters_b41
        rw [if_neg hpy, if_neg one, e1', bd8_s]
        rfl
      have x8 : wgB all (nD 0) (nI P) (nI bk) (1, nI y, on, many, mv, pile, lies, mt, yt, ym, bt, bm, nI (f + acc.1), nI f, nI mk, nI n0, bg, sp) = some (.inr (.inl (on1, many1, mv1, pile1, lies1, mt1, yt1, ym1, bt, bm, nI (f + E.1), nI f, nI mk, nI n0, bg, sp1))) := by
        show FX8_winters_b32 all (nD 0) (nI P) (nI bk) 1 (nI y) on many mv pile lies mt yt ym bt bm (nI (f + acc.1)) (nI f) (nI mk) (nI n0) bg sp = _
        unfold FX8_winters_b32
        rw [if_neg hpy, if_neg one, d1', bd10_s, if_neg (by rw [hsp]; decide)]
      exact SO.mk (congrArg wkE (loopC_inr x0)) (congrArg (wgE all (nI bk)) (loopC_inr x8)) (TabC.of e2.ct ⟨_, hcb⟩) (TabM.of d2 hbb) (Or.inl rfl) (by omega) (by omega)
    | false =>
      rw [hE, if_neg Bool.false_ne_true] at hsp
      rw [hE] at e1'
      have hYE := hYE hE
      have hf := d2.1.1
      have hz := hYE.z
      have hnx := hYE.next hf
      obtain ⟨hn1, hf1⟩ := e2.n6 hE
      have hcs : CT sK1 sR1 sS1 n1 (fun j => cdS (E.2.1 j)) := by
        rcases e2.2 with ⟨-, -, c3⟩ | ⟨c1, -⟩
        · exact c3
        · rw [hE] at c1; exact absurd c1 Bool.false_ne_true
      -- the states of all years so far
      have hG0 : ∀ j, j < f → (fun j => if j < f then G j else E.2.1 (j - f)) j = G j := fun j hj => if_pos hj
      have hG1 : ∀ j, j < n1 → (fun j => if j < f then G j else E.2.1 (j - f)) (f + j) = E.2.1 j := fun j hj => by
        show (if f + j < f then G (f + j) else E.2.1 (f + j - f)) = _
        rw [if_neg (by omega), Nat.add_sub_cancel_left]
      have hG2 : ∀ j, j < f + E.1 → VS T ((fun j => if j < f then G j else E.2.1 (j - f)) j) ∧ lies1 j = lN (pk ((fun j => if j < f then G j else E.2.1 (j - f)) j).1 15) ∧ mt1 j = nI ((fun j => if j < f then G j else E.2.1 (j - f)) j).2.2 := fun j hj => by
        by_cases c : j < f
        · rw [hG0 j c, (dkp j c).1, (dkp j c).2]
          exact hG j c
        · obtain ⟨i, rfl⟩ : ∃ i, j = f + i := ⟨j - f, by omega⟩
          rw [hG1 i (by omega)]
          have := d2.2.1.2.1 i (by omega)
          exact ⟨d2.1.2 i (by omega), this.2.2.1, this.2.2.2⟩
      have hmx : mxW T (fun j => if j < f then G j else E.2.1 (j - f)) f = mxW T G f := mxW_cong f hG0
      generalize (fun j => if j < f then G j else E.2.1 (j - f)) = G' at *
      obtain ⟨a2, m2, v2, w1⟩ := win0 (f := f) (G := G') ht hW (show n1 ≤ 6002 by omega) (fun j hj => e2.1.2 j (by omega)) (fun j hj => hcs.2.2.1 j hj) hG1 n1 0 a1 m1 v1 (by omega)
      rw [Nat.add_zero, hmx] at w1
      have w1' : loopC (fun (s : Int32 × Int32 × (Nat → Int32) × (Nat → Int32) × Int32) => FX0_winters_b92 t sR1 (nI n1) s.1 s.2.1 s.2.2.1 s.2.2.2.1 s.2.2.2.2) (nI (mxW T G f), 0, a1, m1, v1) = some (nI (mxW T G' (f + n1)), a2, m2, v2) := w1
      obtain ⟨sK2, sR2, sS2, bK2, bR2, bS2, nS, nB, e4, e5, e6, e7, e8, e9⟩ := beginsC (f := f) (f' := f + E.1) (n := n1) (n0 := n0) (B := B) hW e2 hE (by omega) hY.2.2.2.1 (by have := hY.2.2.1; omega) hcb
      have x0 : wkB t (nI (T 114)) V (nI P) (nI (mxW T G f), 1, nI y, tA, tM, sK, sR, sS, bK, bR, bS, nI f, tv, nI n, nI n0) = some (.inl (nI (mxW T G' (f + E.1)), b2i (decide (n0 < nB)), nI (y + 1), a2, m2, sK2, sR2, sS2, bK2, bR2, bS2, nI (f + E.1), v2, nI nS, nI nB)) := by
        show FX0_winters_b41 t (nI (T 114)) V (nI P) (nI (mxW T G f)) 1 (nI y) tA tM sK sR sS bK bR bS (nI f) tv (nI n) (nI n0) = _
        unfold FX0_winters_b41
        rw [if_neg hpy, if_neg one, e1', bd8_s, if_neg (by decide), w1', bd4_s, e4, bd9_s, show nI y + 1 = nI (y + 1) from n_add y 1, show nI f + nI n1 = nI (f + E.1) from by rw [n_add, hn1], hn1]
      -- behind the last year
      have fin : ∀ (g : Int32) (on3 many3 : Nat → Int32) (mv3 : Int32) (lies3 : Nat → Int64) (mt3 yt3 ym3 bt3 bm3 : Nat → Int32) (yf3 nb3 : Int32) (bg3 : Nat → Int64) (sp3 : Int32) (mk3 y3 : Nat) (more : Int32), (nI P < nI (y + 1) ∨ g = 0) → (nI P < nI (y + 1) ∨ more = 0) → (∀ j, j < f + E.1 → lies3 j = lies1 j ∧ mt3 j = mt1 j) → TabM lies3 mt3 yt3 ym3 bt3 bm3 bg3 mk3 bk → mk3 ≤ mk + 1 → SO mk bk 1 (-1) (wkE (loopC (wkB t (nI (T 114)) V (nI P)) (nI (mxW T G' (f + E.1)), g, nI (y + 1), a2, m2, sK2, sR2, sS2, bK2, bR2, bS2, nI (f + E.1), v2, nI nS, nI nB))) (wgE all (nI bk) (loopC (wgB all (nD 0) (nI P) (nI bk)) (more, nI (y + 1), on3, many3, mv3, pile1, lies3, mt3, yt3, ym3, bt3, bm3, nI (f + E.1), yf3, nI mk3, nb3, bg3, sp3))) := by
        intro g on3 many3 mv3 lies3 mt3 yt3 ym3 bt3 bm3 yf3 nb3 bg3 sp3 mk3 y3 more hg hm hkp hTM hmk3
        have z0 : wkB t (nI (T 114)) V (nI P) (nI (mxW T G' (f + E.1)), g, nI (y + 1), a2, m2, sK2, sR2, sS2, bK2, bR2, bS2, nI (f + E.1), v2, nI nS, nI nB) = some (.inr (.inr (nI (mxW T G' (f + E.1)), a2, m2, sK2, sR2, sS2, bK2, bR2, bS2, nI (f + E.1), v2, nI nS, nI nB))) := by
          show FX0_winters_b41 t (nI (T 114)) V (nI P) (nI (mxW T G' (f + E.1))) g (nI (y + 1)) a2 m2 sK2 sR2 sS2 bK2 bR2 bS2 (nI (f + E.1)) v2 (nI nS) (nI nB) = _
          unfold FX0_winters_b41
          by_cases c : nI P < nI (y + 1)
          · rw [if_pos c]
          · rw [if_neg c, if_pos (hg.resolve_left c)]
        have z8 : wgB all (nD 0) (nI P) (nI bk) (more, nI (y + 1), on3, many3, mv3, pile1, lies3, mt3, yt3, ym3, bt3, bm3, nI (f + E.1), yf3, nI mk3, nb3, bg3, sp3) = some (.inr (.inr (.inr (on3, many3, mv3, pile1, lies3, mt3, yt3, ym3, bt3, bm3, nI (f + E.1), yf3, nI mk3, nb3, bg3, sp3)))) := by
          show FX8_winters_b32 all (nD 0) (nI P) (nI bk) more (nI (y + 1)) on3 many3 mv3 pile1 lies3 mt3 yt3 ym3 bt3 bm3 (nI (f + E.1)) yf3 (nI mk3) nb3 bg3 sp3 = _
          unfold FX8_winters_b32
          by_cases c : nI P < nI (y + 1)
          · rw [if_pos c]
          · rw [if_neg c, if_pos (hm.resolve_left c)]
        obtain ⟨on4, many4, mv4, w8⟩ := win8 (G := G') (lies := lies3) (mt := mt3) hA hW hf (fun j hj => (hG2 j hj).1) (fun j hj => by rw [(hkp j hj).1, (hkp j hj).2]; exact (hG2 j hj).2) (f + E.1) 0 on3 many3 mv3 (by omega)
        refine SO.mk (congrArg wkE (loopC_inr z0)) (?_ : _ = some (nI (mxW T G' (f + E.1)), on4, many4, mv4, pile1, lies3, mt3, yt3, ym3, bt3, bm3, nI (f + E.1), yf3, nI mk3, nI bk, nb3, bg3, sp3)) (TabC.of e9.ct e7.ct) hTM (Or.inr rfl) (by omega) (by omega)
        rw [loopC_inr z8]
        show bd4 (loopC (fun (s : Int32 × Int32 × (Nat → Int32) × (Nat → Int32) × Int32) => FX8_winters_b95 all lies3 mt3 (nI (f + E.1)) s.1 s.2.1 s.2.2.1 s.2.2.2.1 s.2.2.2.2) (nI (mxW T G' 0), nI 0, on3, many3, mv3)) (fun x on2 many2 mv2 => some (x, on2, many2, mv2, pile1, lies3, mt3, yt3, ym3, bt3, bm3, nI (f + E.1), yf3, nI mk3, nI bk, nb3, bg3, sp3)) = _
        rw [w8, bd4_s]
      rw [loopC_inl x0]
      by_cases cP : P ≤ y
      · have x8 : wgB all (nD 0) (nI P) (nI bk) (1, nI y, on, many, mv, pile, lies, mt, yt, ym, bt, bm, nI (f + acc.1), nI f, nI mk, nI n0, bg, sp) = some (.inl (0, nI (y + 1), on1, many1, mv1, pile1, lies1, mt1, yt1, ym1, bt, bm, nI (f + E.1), nI f, nI mk, nI n0, bg, sp1)) := by
          show FX8_winters_b32 all (nD 0) (nI P) (nI bk) 1 (nI y) on many mv pile lies mt yt ym bt bm (nI (f + acc.1)) (nI f) (nI mk) (nI n0) bg sp = _
          unfold FX8_winters_b32 FX8_winters_j72 FX8_winters_j73
          rw [if_neg hpy, if_neg one, d1', bd10_s, if_pos hsp, if_pos (by rw [le_t cP (by omega)]; trivial), if_pos hsp, show nI y + 1 = nI (y + 1) from n_add y 1]
        rw [loopC_inl x8]
        exact (fin (b2i (decide (n0 < nB))) on1 many1 mv1 lies1 mt1 yt1 ym1 bt bm (nI f) (nI n0) bg sp1 mk (y + 1) 0 (Or.inl (by rw [lt_t (by omega) (by omega)]; trivial)) (Or.inr rfl) (fun j _ => ⟨rfl, rfl⟩) (TabM.of d2 hbb) (by omega)).up (by omega)
      · obtain ⟨lies2, mt2, yt2, ym2, bt2, bm2, bg2, sp2, f1, f3, f4, f5⟩ := nextM (f := f) (f' := f + E.1) (n0 := n0) (m1 := mk) (bk := bk) hW d2 hE rfl hY.2.2.2.1 (by have := hY.2.2.1; omega) hbb (by omega) hbk
        have hpl : ¬ nI P ≤ nI y := by rw [le_f (by omega) (by omega)]; exact id
        rw [hn1] at e5 e7 e9
        generalize hx : nxS (f + E.1) E.2.1 E.1 0 ((0, E.2.1, false), n0, B) = x at *
        have hsp2 := f3.2.2
        cases ho : x.1.2.2 with
        | true =>
          rw [ho] at hsp2
          have x8 : wgB all (nD 0) (nI P) (nI bk) (1, nI y, on, many, mv, pile, lies, mt, yt, ym, bt, bm, nI (f + acc.1), nI f, nI mk, nI n0, bg, sp) = some (.inr (.inr (.inl (on1, many1, mv1, pile1, lies2, mt2, yt2, ym2, bt2, bm2, nI (f + E.1 + x.1.1), nI (f + E.1), nI (mk + 1), nI x.2.1, bg2, sp2)))) := by
            show FX8_winters_b32 all (nD 0) (nI P) (nI bk) 1 (nI y) on many mv pile lies mt yt ym bt bm (nI (f + acc.1)) (nI f) (nI mk) (nI n0) bg sp = _
            unfold FX8_winters_b32 FX8_winters_j73
            rw [if_neg hpy, if_neg one, d1', bd10_s, if_pos hsp, if_neg hpl, f1, bd13_s, ho, Bool.or_true, if_neg (by decide), if_neg (by rw [hsp2]; decide)]
          have h01 : 1 ≤ T 0 := by
            by_cases c : T 0 = 0
            · have := (hz c hf).1
              rw [ho] at this
              exact absurd this.symm Bool.false_ne_true
            · omega
          have hlt : n0 < nB := by
            rcases e7 with ⟨z, -⟩ | ⟨-, z1, z2, -⟩
            · rw [ho] at z; exact absurd z.symm Bool.false_ne_true
            · omega
          rw [decide_eq_true hlt]
          obtain ⟨a3, m3, v3, g1⟩ := closesO (V := V) (as1 := 0) ht hW hB.1 (by omega) h01 0 e9 ho hf a2 m2 v2
          have g1' : FX0_closes t a2 m2 sK2 sR2 sS2 v2 (-1) (nI nS) (nI (T 114)) V (nI (f + E.1)) 0 = _ := g1
          have g2 : wkB t (nI (T 114)) V (nI P) (nI (mxW T G' (f + E.1)), b2i true, nI (y + 1), a2, m2, sK2, sR2, sS2, bK2, bR2, bS2, nI (f + E.1), v2, nI nS, nI nB) = some (.inr (.inl (a3, m3, sK2, sR2, sS2, bK2, bR2, bS2, nI (f + E.1), v3, nI nS, nI nB))) := by
            show FX0_winters_b41 t (nI (T 114)) V (nI P) (nI (mxW T G' (f + E.1))) (b2i true) (nI (y + 1)) a2 m2 sK2 sR2 sS2 bK2 bR2 bS2 (nI (f + E.1)) v2 (nI nS) (nI nB) = _
            unfold FX0_winters_b41
            rw [if_neg (by rw [lt_f (by omega) (by omega)]; exact id), if_neg (by decide), g1', bd8_s]
            rfl
          exact SO.mk (congrArg wkE (loopC_inr g2)) (congrArg (wgE all (nI bk)) (loopC_inr x8)) (TabC.of e9.ct e7.ct) (TabM.of f3 f4) (Or.inl rfl) (by omega) (by omega)
        | false =>
          rw [ho] at hsp2
          have hnB : nB = x.2.1 ∧ CT bK2 bR2 bS2 nB (fun j => cdS (x.2.2 j)) := by
            rcases e7 with ⟨-, z1, z2⟩ | ⟨z, -⟩
            · exact ⟨z1, z2⟩
            · rw [ho] at z; exact absurd z Bool.false_ne_true
          have hx1 : x.2.1 = n0 + x.1.1 := by
            rcases e5.2.2.2.2 with ⟨-, z⟩ | ⟨z, -⟩
            · exact z
            · rw [ho] at z; exact absurd z Bool.false_ne_true
          obtain ⟨rfl, hcb2⟩ := hnB
          have sp0 : sp2 = 0 := hsp2
          have x8 : wgB all (nD 0) (nI P) (nI bk) (1, nI y, on, many, mv, pile, lies, mt, yt, ym, bt, bm, nI (f + acc.1), nI f, nI mk, nI n0, bg, sp) = some (.inl (if 0 < x.1.1 then 1 else 0, nI (y + 1), on1, many1, mv1, pile1, lies2, mt2, yt2, ym2, bt2, bm2, nI (f + E.1 + x.1.1), nI (f + E.1), nI (mk + 1), nI x.2.1, bg2, sp2)) := by
            show FX8_winters_b32 all (nD 0) (nI P) (nI bk) 1 (nI y) on many mv pile lies mt yt ym bt bm (nI (f + acc.1)) (nI f) (nI mk) (nI n0) bg sp = _
            unfold FX8_winters_b32 FX8_winters_j72 FX8_winters_j73
            rw [if_neg hpy, if_neg one, d1', bd10_s, if_pos hsp, if_neg hpl, f1, bd13_s, ho, Bool.or_false]
            by_cases c : 0 < x.1.1
            · rw [decide_eq_true c, if_neg (by decide), if_pos sp0, if_pos c, show nI y + 1 = nI (y + 1) from n_add y 1]
            · rw [decide_eq_false c, if_pos (by decide), if_pos sp0, if_neg c, show nI y + 1 = nI (y + 1) from n_add y 1]
          rw [loopC_inl x8]
          have hkp : ∀ j, j < f + E.1 → lies2 j = lies1 j ∧ mt2 j = mt1 j := fun j hj => ⟨(f5 j hj).1, (f5 j hj).2⟩
          by_cases c : 0 < x.1.1
          · rw [if_pos c, decide_eq_true (show n0 < x.2.1 by omega)]
            have hih := ih (d - 1) (by omega) (y + 1) (f + E.1) x.2.1 nS (mk + 1) x.1 x.2.2 G' a2 m2 v2 sK2 sR2 sS2 bK2 bR2 bS2 on1 many1 mv1 pile1 lies2 mt2 yt2 ym2 bt2 bm2 bg2 sp2 (by omega) (hnx x rfl e5 ho c) e9 hcb2 f3 f4 (fun j hj => by rw [(hkp j hj).1, (hkp j hj).2]; exact hG2 j hj) (by omega)
            obtain ⟨r, so, fo, tA', tM', sK', sR', sS', bK', bR', bS', tv', sM', bM', on', many', mv', pile', lies', mt', yt', ym', bt', bm', yf', mk', bk', nb', bg', sp', q1, q2, q3, q4, q5, q6, q7⟩ := hih
            exact SO.mk q1 q2 q3 q4 q5 (by omega) (by omega)
          · rw [if_neg c, decide_eq_false (show ¬ n0 < x.2.1 by omega)]
            have h0 : x.1.1 = 0 := by omega
            rw [h0, Nat.add_zero]
            exact (fin (b2i false) on1 many1 mv1 lies2 mt2 yt2 ym2 bt2 bm2 (nI (f + E.1)) (nI x.2.1) bg2 sp2 (mk + 1) (y + 1) 0 (Or.inr rfl) (Or.inr rfl) hkp (TabM.of f3 f4) (by omega)).up (by omega)
theorem winters_law {t ca la : Nat → Int32} {M : Nat → Nat} {lies : Int64} {year : Int32} {sK sR bK bR l8 bg : Nat → Int64} {sS bS mt yt ym bt bm : Nat → Int32} {sM bM : Int32} {mk bk : Nat} (h : Cur T M V all t lies ca la year) (hC : TabC sK sR sS bK bR bS sM bM) (hT : TabM l8 mt yt ym bt bm bg mk bk) (hmk : mk + 7000 < 2147483648) (hbk : bk + 7000 < 2147483648) (on many : Nat → Int32) (mv : Int32) (pile tA tM : Nat → Int32) (so tv tw fo yf nb sp p : Int32) : ∃ (ans so' fo' tv' tw' sM' bM' : Int32) (tA' tM' : Nat → Int32) (sK' sR' : Nat → Int64) (sS' : Nat → Int32) (bK' bR' : Nat → Int64) (bS' : Nat → Int32) (on' many' : Nat → Int32) (mv' : Int32) (pile' : Nat → Int32) (l8' : Nat → Int64) (mt' yt' ym' bt' bm' : Nat → Int32) (yf' : Int32) (mk' bk' : Nat) (nb' : Int32) (bg' : Nat → Int64) (sp' : Int32), FX0_winters tA tM sK sR sS bK bR bS so tv tw sM bM lies t (nI (T 114)) V p = some (ans, tA', tM', sK', sR', sS', bK', bR', bS', so', tv', tw', sM', bM') ∧ FX8_winters all on many mv pile nM l8 mt yt ym bt bm fo yf (nI mk) (nI bk) nb bg sp p = some (ans, on', many', mv', pile', l8', mt', yt', ym', bt', bm', fo', yf', nI mk', nI bk', nb', bg', sp') ∧ TabC sK' sR' sS' bK' bR' bS' sM' bM' ∧ TabM l8' mt' yt' ym' bt' bm' bg' mk' bk' ∧ mk' ≤ mk + 6001 ∧ bk' ≤ bk + 6001 := by
  have hs := h.vs
  have hl := h.li
  obtain ⟨⟨hW, hS, hm, hy, hB⟩, hA, ht, -, hc, hla, rfl⟩ := h
  have wi : FX0_in p.toInt64 1 3 = some (decide (1 ≤ p.toInt ∧ p.toInt ≤ 3)) := inL (by decide) (by decide)
  have wi8 : FX8_within p.toInt64 1 3 = some (decide (1 ≤ p.toInt ∧ p.toInt ≤ 3)) := wi
  by_cases hp : 1 ≤ p.toInt ∧ p.toInt ≤ 3
  · obtain ⟨P, hP, rfl⟩ := (rng p (n := 4) (by omega)).resolve_right (fun z => z ⟨by omega, by omega⟩)
    rw [decide_eq_true hp] at wi wi8
    have hP1 : 1 ≤ P := by
      have := hp.1
      rw [toN (by omega)] at this
      omega
    obtain ⟨o1, m1, e1, hon⟩ := looksNow8 hA hW hS on many
    obtain ⟨n, nb0, cs, cb, h1, h2, rfl, rfl⟩ := hC
    obtain ⟨sK1, sR1, sS1, bK1, bR1, bS1, nb1, g1, g2, g3, g4⟩ := opens0 hW hs h1 h2
    obtain ⟨lies1, mt1, yt1, ym1, bt1, bm1, bg1, nb2, k1, k2, k3, k4⟩ := starts8' hW hs hon hT.1 hT.2 (by omega) (by omega)
    obtain rfl : nb2 = nb1 := by rw [k3, g3]
    have hY : YI T 0 nb2 (one1 ((fun p => T (80 + p)), M, T 95)) (fun _ => rsS ((fun p => T (80 + p)), M, T 95)) := by
      refine ⟨rfl, Nat.le_refl _, ?_, fun j hj => ⟨hs.rs, rfl⟩, fun z => ⟨Nat.le_refl _, Or.inl rfl⟩⟩
      show nb2 ≤ 0 + 1
      rw [g3]
      split <;> omega
    have g4' : CT bK1 bR1 bS1 nb2 (fun _ => cdS (rsS ((fun p => T (80 + p)), M, T 95))) := by
      by_cases c : T 95 = 0
      · have : cdS (rsS ((fun p => T (80 + p)), M, T 95)) = cdS ((fun p => T (80 + p)), M, T 95) := by
          show cdS ((fun p => T (80 + p)), M, 0) = _
          rw [c]
        rw [this]
        exact g4
      · rw [g3, if_neg (show ¬ ((fun p => T (80 + p)), M, T 95).2.2 = 0 from c)] at g4 ⊢
        exact g4.cong (fun j hj => absurd hj (Nat.not_lt_zero j))
    have q := wrs (V := V) ht hA hW (hB.ok hA hW) (show bk + 1 < 2147483648 by omega) (P := P) (by omega) (P - 1) 1 0 nb2 1 (mk + 1) (one1 ((fun p => T (80 + p)), M, T 95)) (fun _ => rsS ((fun p => T (80 + p)), M, T 95)) (fun _ => rsS ((fun p => T (80 + p)), M, T 95)) tA tM tv sK1 sR1 sS1 bK1 bR1 bS1 o1 m1 (nI (T 95)) pile lies1 mt1 yt1 ym1 bt1 bm1 bg1 0 (by omega) hY g2 g4' k2 k4 (fun j hj => absurd hj (Nat.not_lt_zero j)) (by omega)
    obtain ⟨r, so2, fo2, tA2, tM2, sK2, sR2, sS2, bK2, bR2, bS2, tv2, sM2, bM2, on2, many2, mv2, pile2, l82, mt2, yt2, ym2, bt2, bm2, yf2, mk2, bk2, nb2_, bg2, sp2, q1, q2, q3, q4, q5, q6, q7⟩ := q
    refine ⟨r, so2, fo2, tv2, -1, sM2, bM2, tA2, tM2, sK2, sR2, sS2, bK2, bR2, bS2, on2, many2, mv2, pile2, l82, mt2, yt2, ym2, bt2, bm2, yf2, mk2, bk2, nb2_, bg2, sp2, ?_, ?_, q3, q4, by omega, by omega⟩
    · unfold FX0_winters
      rw [wi, bd1_s, if_neg (by decide), hl, g1, bd9_s]
      exact q1
    · unfold FX8_winters
      rw [wi8, bd1_s, if_neg (by decide), e1, bd3_s, k1, bd13_s]
      exact q2
  · rw [decide_eq_false hp] at wi wi8
    refine ⟨-3, so, fo, tv, tw, sM, bM, tA, tM, sK, sR, sS, bK, bR, bS, on, many, mv, pile, l8, mt, yt, ym, bt, bm, yf, mk, bk, nb, bg, sp, ?_, ?_, hC, hT, by omega, by omega⟩
    · unfold FX0_winters
      rw [wi, bd1_s, if_pos (show b2i false = 0 from rfl)]
    · unfold FX8_winters
      rw [wi8, bd1_s, if_pos (show b2i false = 0 from rfl)]
end P67
