set_option maxRecDepth 100000
def HM (c : Nat × Nat) : Nat := hs ((lN c.1 * 256 + (nI c.2).toInt64) * (-7046029254386353131))
def HB (c : Nat) : Nat := hs ((lN c * 256 + (0 : Int32).toInt64) * (-7046029254386353131))
theorem spotM (c m : Nat) : FX8_spot (lN c) (nI m) = some (nI (HM (c, m))) := by
  unfold FX8_spot
  rw [hs_n]
  rfl
theorem spotB (c : Nat) : FX8_spot (lN c) 0 = some (nI (HB c)) := by
  unfold FX8_spot
  rw [hs_n]
  rfl
theorem HM_lt (c : Nat × Nat) : HM c < NQ := hs_lt _
theorem HB_lt (c : Nat) : HB c < NQ := hs_lt _
/-- marks up to mk, those of mk on the cells that are held -/
def Marks (ym : Nat → Int32) (mk : Nat) (cell : Nat → Nat) : Prop := ∀ q, q < NQ → ∃ m, m ≤ mk ∧ ym q = nI m ∧ (m = mk ↔ cell q ≠ 0)
theorem Marks.next {ym : Nat → Int32} {mk : Nat} {cell : Nat → Nat} (h : Marks ym mk cell) : Marks ym (mk + 1) (fun _ => 0) := by
  intro q hq
  obtain ⟨m, m1, m2, m3⟩ := h q hq
  exact ⟨m, by omega, m2, by constructor; · intro z; omega
                             · intro z; exact absurd rfl z⟩
theorem Marks.add {ym : Nat → Int32} {mk q v : Nat} {cell : Nat → Nat} (h : Marks ym mk cell) (hv : v ≠ 0) : Marks (upd ym q (nI mk)) mk (up cell q v) := by
  intro x hx
  by_cases c : x = q
  · exact ⟨mk, Nat.le_refl _, up_t c, by rw [upn_t c]; exact ⟨fun _ => hv, fun _ => rfl⟩⟩
  · obtain ⟨m, m1, m2, m3⟩ := h x hx
    exact ⟨m, m1, by rw [up_f c]; exact m2, by rw [upn_f c]; exact m3⟩
/-- the model's table of one year: n from the number f on -/
def MT (lies : Nat → Int64) (mt yt ym : Nat → Int32) (mk f n : Nat) (keys : Nat → Nat × Nat) : Prop :=
  f + n ≤ 6000 ∧ (∀ j, j < n → (keys j).1 < CX ∧ (keys j).2 < 256 ∧ lies (f + j) = lN (keys j).1 ∧ mt (f + j) = nI (keys j).2) ∧ ∃ cell, OA HM cell n keys ∧ Marks ym mk cell ∧ ∀ q, q < NQ → cell q ≠ 0 → yt q = nI (f + (cell q - 1))
theorem MT.next {lies : Nat → Int64} {mt yt ym : Nat → Int32} {mk f n f' : Nat} {keys keys' : Nat → Nat × Nat} (h : MT lies mt yt ym mk f n keys) (hf : f' ≤ 6000) : MT lies mt yt ym (mk + 1) f' 0 keys' := by
  obtain ⟨h1, h2, cell, h3, h4, h5⟩ := h
  exact ⟨hf, fun j hj => absurd hj (Nat.not_lt_zero j), fun _ => 0, OA.none (fun _ _ => rfl), h4.next, fun q _ z => absurd rfl z⟩
theorem takes8 {lies : Nat → Int64} {mt yt ym : Nat → Int32} {mk f n c m : Nat} {keys : Nat → Nat × Nat} (h : MT lies mt yt ym mk f n keys) (hmk : mk < 2147483648) (hc : c < CX) (hm : m < 256) (sp : Int32) : ∃ lies' mt' yt' ym' n' keys' sp', FX8_takes lies mt yt ym (nI (f + n)) (nI mk) sp (lN c) (nI m) = some (lies', mt', yt', ym', nI (f + n'), sp') ∧ MT lies' mt' yt' ym' mk f n' keys' ∧ (∀ j, j < f → lies' j = lies j ∧ mt' j = mt j) ∧ (((∃ j, j < n ∧ keys j = (c, m)) ∧ n' = n ∧ keys' = keys ∧ sp' = sp) ∨ ((∀ j, j < n → keys j ≠ (c, m)) ∧ ((f + n = 6000 ∧ n' = n ∧ keys' = keys ∧ sp' = 1) ∨ (f + n < 6000 ∧ n' = n + 1 ∧ keys' = up keys n (c, m) ∧ sp' = sp)))) := by
  have h' := h
  obtain ⟨h1, h2, cell, h3, h4, h5⟩ := h
  obtain ⟨k, k1, k2, k3, k4⟩ := h3.find (by unfold NQ; omega) (c, m)
  have hq : ∀ i, (HM (c, m) + i) % NQ < 16384 := fun i => nq_lt _
  have kne : ∀ i, cell ((HM (c, m) + i) % NQ) ≠ 0 → (keys (cell ((HM (c, m) + i) % NQ) - 1) = (c, m) ↔ lies (f + (cell ((HM (c, m) + i) % NQ) - 1)) = lN c ∧ mt (f + (cell ((HM (c, m) + i) % NQ) - 1)) = nI m) := by
    intro i hz
    have hl := h3.lt _ (hq i)
    obtain ⟨a1, a2, a3, a4⟩ := h2 (cell ((HM (c, m) + i) % NQ) - 1) (by omega)
    rw [a3, a4]
    unfold CX at a1 hc
    constructor
    · intro e
      rw [e]
      exact ⟨rfl, rfl⟩
    · rintro ⟨e1, e2⟩
      have b1 := lN_inj (by omega) (by omega) e1
      have b2 := nI_inj e2 (by omega) (by omega)
      exact Prod.ext b1 b2
  have body : ∀ i, FX8_takes_b7 lies mt yt ym (nI mk) (lN c) (nI m) (nI ((HM (c, m) + i) % NQ)) = if cell ((HM (c, m) + i) % NQ) = 0 then some (.inr (.inr (nI ((HM (c, m) + i) % NQ)))) else if keys (cell ((HM (c, m) + i) % NQ) - 1) = (c, m) then some (.inr (.inl ())) else some (.inl (nI ((HM (c, m) + (i + 1)) % NQ))) := by
    intro i
    obtain ⟨mm, m1, m2, m3⟩ := h4 _ (hq i)
    have r1 : rd 16384 ym (nI ((HM (c, m) + i) % NQ)) = some (nI mm) := rdn (hq i) (by omega) m2
    unfold FX8_takes_b7 FX8_takes_j55
    rw [r1, bd1_s]
    by_cases cc : cell ((HM (c, m) + i) % NQ) = 0
    · rw [if_neg (by rw [eq_f (fun z => (m3.mp z) cc) (by omega) (by omega)]; exact id), if_pos cc]
    · have hl := h3.lt _ (hq i)
      have r2 : rd 16384 yt (nI ((HM (c, m) + i) % NQ)) = some (nI (f + (cell ((HM (c, m) + i) % NQ) - 1))) := rdn (hq i) (by omega) (h5 _ (hq i) cc)
      have r3 : rd 6001 lies (nI (f + (cell ((HM (c, m) + i) % NQ) - 1))) = some (lies (f + (cell ((HM (c, m) + i) % NQ) - 1))) := rdn (by omega) (by omega) rfl
      have r4 : rd 6001 mt (nI (f + (cell ((HM (c, m) + i) % NQ) - 1))) = some (mt (f + (cell ((HM (c, m) + i) % NQ) - 1))) := rdn (by omega) (by omega) rfl
      have kk := kne i cc
      rw [if_pos (by rw [m3.mpr cc]), if_neg cc, r2, bd1_s, r3, bd1_s, bd1_s, r4, bd1_s, nextq]
      by_cases e1 : lies (f + (cell ((HM (c, m) + i) % NQ) - 1)) = lN c
      · rw [if_pos ((lg_eq _ _).mpr e1)]
        by_cases e2 : mt (f + (cell ((HM (c, m) + i) % NQ) - 1)) = nI m
        · rw [if_pos e2, if_pos (kk.mpr ⟨e1, e2⟩)]
        · rw [if_neg e2, if_neg (fun z => e2 (kk.mp z).2)]
      · rw [if_neg (fun z => e1 ((lg_eq _ _).mp z)), if_neg (fun z => e1 (kk.mp z).1)]
  rcases k4 with ⟨j, j1, j2, j3⟩ | ⟨j1, j2⟩
  · refine ⟨lies, mt, yt, ym, n, keys, sp, ?_, h', fun _ _ => ⟨rfl, rfl⟩, Or.inl ⟨⟨j, j1, j2⟩, rfl, rfl, rfl⟩⟩
    have hpr : loopC (fun s => FX8_takes_b7 lies mt yt ym (nI mk) (lN c) (nI m) s) (nI (HM (c, m))) = some (.inl ()) := by
      refine probe (B := FX8_takes_b7 lies mt yt ym (nI mk) (lN c) (nI m)) (b := HM (c, m)) (k := k) (fun i hi => ?_) ?_ (HM_lt (c, m))
      · rw [body, if_neg (k3 i hi).1, if_neg (k3 i hi).2]
      · rw [body, if_neg (by omega), if_pos (by rw [j3, Nat.add_sub_cancel, j2])]
    unfold FX8_takes
    rw [spotM, bd1_s, hpr]
    rfl
  · have hpr : loopC (fun s => FX8_takes_b7 lies mt yt ym (nI mk) (lN c) (nI m) s) (nI (HM (c, m))) = some (.inr (nI ((HM (c, m) + k) % NQ))) := by
      refine probe (B := FX8_takes_b7 lies mt yt ym (nI mk) (lN c) (nI m)) (b := HM (c, m)) (k := k) (fun i hi => ?_) ?_ (HM_lt (c, m))
      · rw [body, if_neg (k3 i hi).1, if_neg (k3 i hi).2]
      · rw [body, if_pos j2]
    by_cases c6 : f + n = 6000
    · refine ⟨lies, mt, yt, ym, n, keys, 1, ?_, h', fun _ _ => ⟨rfl, rfl⟩, Or.inr ⟨j1, Or.inl ⟨c6, rfl, rfl, rfl⟩⟩⟩
      unfold FX8_takes
      rw [spotM, bd1_s, hpr, bdS2_1]
      exact if_pos (by rw [c6]; rfl)
    · refine ⟨vp_updL lies (f + n) (lN c), upd mt (f + n) (nI m), upd yt ((HM (c, m) + k) % NQ) (nI (f + n)), upd ym ((HM (c, m) + k) % NQ) (nI mk), n + 1, up keys n (c, m), sp, ?_, ⟨by omega, fun j hj => ?_, up cell ((HM (c, m) + k) % NQ) (n + 1), h3.add k1 j2 (fun i hi => (k3 i hi).1) j1, h4.add (by omega), fun q hq' hz => ?_⟩, fun j hj => ⟨updL_f (by omega), up_f (by omega)⟩, Or.inr ⟨j1, Or.inr ⟨by omega, rfl, rfl, rfl⟩⟩⟩
      · have c6' : ¬ nI (f + n) = 6000 := by rw [show (6000 : Int32) = nI 6000 from rfl, eq_f c6 (by omega) (by omega)]; exact id
        unfold FX8_takes
        rw [spotM, bd1_s, hpr, bdS2_1]
        show (if nI (f + n) = 6000 then _ else _) = _
        rw [if_neg c6', wr_n (hq k) (by omega), bd1_s, wr_n (hq k) (by omega), bd1_s, wl_n (by omega) (by omega), bd1_s, wr_n (by omega) (by omega), bd1_s, show nI (f + n) + 1 = nI (f + (n + 1)) from n_add (f + n) 1]
      · by_cases e : j = n
        · rw [upn_t e, e]
          exact ⟨hc, hm, updL_t rfl, up_t rfl⟩
        · rw [upn_f e, updL_f (by omega), up_f (by omega)]
          exact h2 j (by omega)
      · by_cases e : q = (HM (c, m) + k) % NQ
        · rw [up_t e, upn_t e, Nat.add_sub_cancel]
        · rw [upn_f e] at hz
          rw [up_f e, upn_f e]
          exact h5 q hq' hz
/-- the model's table of the begun -/
def BT (bt bm : Nat → Int32) (bg : Nat → Int64) (mk n : Nat) (codes : Nat → Nat) : Prop :=
  n ≤ 6002 ∧ (∀ j, j < n → codes j < CX ∧ bg j = lN (codes j)) ∧ ∃ cell, OA HB cell n codes ∧ Marks bm mk cell ∧ ∀ q, q < NQ → cell q ≠ 0 → bt q = nI (cell q - 1)
theorem BT.next {bt bm : Nat → Int32} {bg : Nat → Int64} {mk n : Nat} {codes codes' : Nat → Nat} (h : BT bt bm bg mk n codes) : BT bt bm bg (mk + 1) 0 codes' := by
  obtain ⟨h1, h2, cell, h3, h4, h5⟩ := h
  exact ⟨by omega, fun j hj => absurd hj (Nat.not_lt_zero j), fun _ => 0, OA.none (fun _ _ => rfl), h4.next, fun q _ z => absurd rfl z⟩
theorem begun8 {bt bm : Nat → Int32} {bg : Nat → Int64} {mk n c : Nat} {codes : Nat → Nat} (h : BT bt bm bg mk n codes) (hmk : mk < 2147483648) (hn : n < 6002) (hc : c < CX) : ∃ b bt' bm' bg' n' codes', FX8_isBegun bt bm (nI mk) (nI n) bg (lN c) = some (b, bt', bm', nI n', bg') ∧ BT bt' bm' bg' mk n' codes' ∧ ((b = false ∧ n' = n ∧ codes' = codes ∧ ∃ j, j < n ∧ codes j = c) ∨ (b = true ∧ n' = n + 1 ∧ codes' = up codes n c ∧ ∀ j, j < n → codes j ≠ c)) := by
  have h' := h
  obtain ⟨h1, h2, cell, h3, h4, h5⟩ := h
  obtain ⟨k, k1, k2, k3, k4⟩ := h3.find (by unfold NQ; omega) c
  have hq : ∀ i, (HB c + i) % NQ < 16384 := fun i => nq_lt _
  have body : ∀ i, FX8_isBegun_b6 bt bm (nI mk) bg (lN c) (nI ((HB c + i) % NQ)) = if cell ((HB c + i) % NQ) = 0 then some (.inr (.inr (nI ((HB c + i) % NQ)))) else if codes (cell ((HB c + i) % NQ) - 1) = c then some (.inr (.inl ())) else some (.inl (nI ((HB c + (i + 1)) % NQ))) := by
    intro i
    obtain ⟨mm, m1, m2, m3⟩ := h4 _ (hq i)
    have r1 : rd 16384 bm (nI ((HB c + i) % NQ)) = some (nI mm) := rdn (hq i) (by omega) m2
    unfold FX8_isBegun_b6
    rw [r1, bd1_s]
    by_cases cc : cell ((HB c + i) % NQ) = 0
    · rw [if_neg (by rw [eq_f (fun z => (m3.mp z) cc) (by omega) (by omega)]; exact id), if_pos cc]
    · have hl := h3.lt _ (hq i)
      obtain ⟨a1, a2⟩ := h2 (cell ((HB c + i) % NQ) - 1) (by omega)
      have r2 : rd 16384 bt (nI ((HB c + i) % NQ)) = some (nI (cell ((HB c + i) % NQ) - 1)) := rdn (hq i) (by omega) (h5 _ (hq i) cc)
      have r3 : rd 6002 bg (nI (cell ((HB c + i) % NQ) - 1)) = some (lN (codes (cell ((HB c + i) % NQ) - 1))) := rdn (by omega) (by omega) a2
      unfold CX at a1 hc
      rw [if_pos (by rw [m3.mpr cc]), if_neg cc, r2, bd1_s, r3, bd1_s, nextq]
      by_cases e1 : codes (cell ((HB c + i) % NQ) - 1) = c
      · rw [if_pos ((lg_eq _ _).mpr (by rw [e1])), if_pos e1]
      · rw [if_neg (fun z => e1 (lN_inj (by omega) (by omega) ((lg_eq _ _).mp z))), if_neg e1]
  rcases k4 with ⟨j, j1, j2, j3⟩ | ⟨j1, j2⟩
  · refine ⟨false, bt, bm, bg, n, codes, ?_, h', Or.inl ⟨rfl, rfl, rfl, j, j1, j2⟩⟩
    have hpr : loopC (fun s => FX8_isBegun_b6 bt bm (nI mk) bg (lN c) s) (nI (HB c)) = some (.inl ()) := by
      refine probe (B := FX8_isBegun_b6 bt bm (nI mk) bg (lN c)) (b := HB c) (k := k) (fun i hi => ?_) ?_ (HB_lt c)
      · rw [body, if_neg (k3 i hi).1, if_neg (k3 i hi).2]
      · rw [body, if_neg (by omega), if_pos (by rw [j3, Nat.add_sub_cancel, j2])]
    unfold FX8_isBegun
    rw [spotB, bd1_s, hpr, bdS2_0, un0_s]
  · have hpr : loopC (fun s => FX8_isBegun_b6 bt bm (nI mk) bg (lN c) s) (nI (HB c)) = some (.inr (nI ((HB c + k) % NQ))) := by
      refine probe (B := FX8_isBegun_b6 bt bm (nI mk) bg (lN c)) (b := HB c) (k := k) (fun i hi => ?_) ?_ (HB_lt c)
      · rw [body, if_neg (k3 i hi).1, if_neg (k3 i hi).2]
      · rw [body, if_pos j2]
    refine ⟨true, upd bt ((HB c + k) % NQ) (nI n), upd bm ((HB c + k) % NQ) (nI mk), vp_updL bg n (lN c), n + 1, up codes n c, ?_, ⟨by omega, fun j hj => ?_, up cell ((HB c + k) % NQ) (n + 1), h3.add k1 j2 (fun i hi => (k3 i hi).1) j1, h4.add (by omega), fun q hq' hz => ?_⟩, Or.inr ⟨rfl, rfl, rfl, j1⟩⟩
    · unfold FX8_isBegun
      rw [spotB, bd1_s, hpr, bdS2_1, un1_s, wr_n (hq k) (by omega), bd1_s, wr_n (hq k) (by omega), bd1_s, wl_n (by omega) (by omega), bd1_s, show nI n + 1 = nI (n + 1) from n_add n 1]
    · by_cases e : j = n
      · rw [upn_t e]
        exact ⟨hc, updL_t e⟩
      · rw [upn_f e, updL_f e]
        exact h2 j (by omega)
    · by_cases e : q = (HB c + k) % NQ
      · rw [up_t e, upn_t e, Nat.add_sub_cancel]
      · rw [upn_f e] at hz
        rw [up_f e, upn_f e]
        exact h5 q hq' hz
