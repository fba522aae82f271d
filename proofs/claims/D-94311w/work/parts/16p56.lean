set_option maxRecDepth 100000
abbrev NA : Type := Acc × Nat × (Nat → St)
def rsS (s : St) : St := (s.1, s.2.1, 0)
def begS (f : Nat) (x : NA) (r : St) : NA := if memS x.2.2 (kyS r) x.2.1 then x else (addS f x.1 r, x.2.1 + 1, up x.2.2 x.2.1 r)
def nxS (f : Nat) (E : Nat → St) : Nat → Nat → NA → NA
  | 0, _, x => x
  | d + 1, k, x => if x.1.2.2 then x else nxS f E d (k + 1) (begS f x (rsS (E k)))
/-- the new list is the tail of the begun, from n0 on -/
def NI (T : Nat → Nat) (f n0 : Nat) (x : NA) : Prop :=
  VA T f x.1 ∧ (∀ j, j < x.2.1 → VS T (x.2.2 j) ∧ (x.2.2 j).2.2 = 0) ∧ n0 ≤ f ∧ (∀ j, j < x.1.1 → x.1.2.1 j = x.2.2 (n0 + j)) ∧ ((x.1.2.2 = false ∧ x.2.1 = n0 + x.1.1) ∨ (x.1.2.2 = true ∧ x.2.1 = n0 + x.1.1 + 1 ∧ f + x.1.1 = 6000))
section P56
variable {all t on at' many : Nat → Int32} {T O O' M : Nat → Nat} {V : Nat → BvT} {mv as1 w : Nat}
theorem VS.rs {s : St} (hs : VS T s) : VS T (rsS s) := ⟨hs.1, by show 0 < 256; decide⟩
theorem begS_new {f n0 : Nat} {x : NA} {r : St} (h : NI T f n0 x) (h0 : x.1.2.2 = false) (hm : ¬ memS x.2.2 (kyS r) x.2.1 = true) : addS f x.1 r = if f + x.1.1 = 6000 then (x.1.1, x.1.2.1, true) else (x.1.1 + 1, up x.1.2.1 x.1.1 r, false) := by
  obtain ⟨h1, h2, h3, h4, h5⟩ := h
  have hnb : x.2.1 = n0 + x.1.1 := by
    rcases h5 with ⟨-, z⟩ | ⟨z, -⟩
    · exact z
    · rw [h0] at z; exact absurd z Bool.false_ne_true
  have hm' : ¬ memS x.1.2.1 (kyS r) x.1.1 = true := fun z => by
    obtain ⟨j, j1, j2⟩ := (memS_iff _ _ _).mp z
    exact hm ((memS_iff _ _ _).mpr ⟨n0 + j, by omega, by rw [← h4 j j1]; exact j2⟩)
  unfold addS
  rw [if_neg hm', h0]
theorem NI.step {f n0 : Nat} {x : NA} {r : St} (h : NI T f n0 x) (h0 : x.1.2.2 = false) (hr : VS T r) (hr0 : r.2.2 = 0) : NI T f n0 (begS f x r) := by
  by_cases hm : memS x.2.2 (kyS r) x.2.1 = true
  · unfold begS
    rw [if_pos hm]
    exact h
  · have e := begS_new h h0 hm
    have e2 : begS f x r = (addS f x.1 r, x.2.1 + 1, up x.2.2 x.2.1 r) := if_neg hm
    have h' := h
    obtain ⟨h1, h2, h3, h4, h5⟩ := h'
    have hnb : x.2.1 = n0 + x.1.1 := by
      rcases h5 with ⟨-, z⟩ | ⟨z, -⟩
      · exact z
      · rw [h0] at z; exact absurd z Bool.false_ne_true
    have hv := h1.add (f := f) hr
    rw [e2]
    refine ⟨hv, fun j hj => ?_, h3, ?_, ?_⟩
    · show VS T (up x.2.2 x.2.1 r j) ∧ (up x.2.2 x.2.1 r j).2.2 = 0
      have hj' : j < x.2.1 + 1 := hj
      by_cases c : j = x.2.1
      · rw [upn_t c]; exact ⟨hr, hr0⟩
      · rw [upn_f c]; exact h2 j (by omega)
    · show ∀ j, j < (addS f x.1 r).1 → (addS f x.1 r).2.1 j = up x.2.2 x.2.1 r (n0 + j)
      rw [e]
      by_cases c6 : f + x.1.1 = 6000
      · rw [if_pos c6]
        intro j hj
        have hj' : j < x.1.1 := hj
        rw [upn_f (by omega)]
        exact h4 j hj'
      · rw [if_neg c6]
        intro j hj
        have hj' : j < x.1.1 + 1 := hj
        show up x.1.2.1 x.1.1 r j = _
        by_cases c : j = x.1.1
        · rw [upn_t c, upn_t (by omega)]
        · rw [upn_f c, upn_f (by omega)]
          exact h4 j (by omega)
    · show ((addS f x.1 r).2.2 = false ∧ x.2.1 + 1 = n0 + (addS f x.1 r).1) ∨ ((addS f x.1 r).2.2 = true ∧ x.2.1 + 1 = n0 + (addS f x.1 r).1 + 1 ∧ f + (addS f x.1 r).1 = 6000)
      rw [e]
      by_cases c6 : f + x.1.1 = 6000
      · rw [if_pos c6]
        exact Or.inr ⟨rfl, by show x.2.1 + 1 = n0 + x.1.1 + 1; omega, c6⟩
      · rw [if_neg c6]
        exact Or.inl ⟨rfl, by show x.2.1 + 1 = n0 + (x.1.1 + 1); omega⟩
theorem next8 (hW : WT T) {f f' n n0 m1 bk : Nat} {E : Nat → St} (hff : f + n = f') (hE : ∀ j, j < n → VS T (E j)) (hmk : m1 + 1 < 2147483648) (hbk : bk < 2147483648) : ∀ d k (x : NA) (lies : Nat → Int64) (mt yt ym bt bm : Nat → Int32) (bg : Nat → Int64) (sp : Int32), k + d = n → NI T f' n0 x → (∀ j, j < n → lies (f + j) = lN (pk (E j).1 15)) → MA T lies mt yt ym (m1 + 1) f' x.1 sp → BT bt bm bg bk x.2.1 (fun j => pk (x.2.2 j).1 15) → ∃ lies' mt' yt' ym' bt' bm' bg' sp', loopC (fun (s : Int32 × (Nat → Int64) × (Nat → Int32) × (Nat → Int32) × (Nat → Int32) × (Nat → Int32) × (Nat → Int32) × Int32 × Int32 × (Nat → Int64) × Int32) => FX8_nextYear_b30 (nI f') (nI m1) (nI bk) s.1 s.2.1 s.2.2.1 s.2.2.2.1 s.2.2.2.2.1 s.2.2.2.2.2.1 s.2.2.2.2.2.2.1 s.2.2.2.2.2.2.2.1 s.2.2.2.2.2.2.2.2.1 s.2.2.2.2.2.2.2.2.2.1 s.2.2.2.2.2.2.2.2.2.2) (nI (f + k), lies, mt, yt, ym, bt, bm, nI (f' + x.1.1), nI x.2.1, bg, sp) = some (lies', mt', yt', ym', bt', bm', nI (f' + (nxS f' E d k x).1.1), nI (nxS f' E d k x).2.1, bg', sp') ∧ NI T f' n0 (nxS f' E d k x) ∧ MA T lies' mt' yt' ym' (m1 + 1) f' (nxS f' E d k x).1 sp' ∧ BT bt' bm' bg' bk (nxS f' E d k x).2.1 (fun j => pk ((nxS f' E d k x).2.2 j).1 15) ∧ KP f' lies mt lies' mt' := by
  intro d
  induction d with
  | zero =>
    intro k x lies mt yt ym bt bm bg sp hk hN hl hM hB
    have hf := hM.1.1
    refine ⟨lies, mt, yt, ym, bt, bm, bg, sp, loopC_inr ?_, hN, hM, hB, KP.rf⟩
    show FX8_nextYear_b30 (nI f') (nI m1) (nI bk) (nI (f + k)) lies mt yt ym bt bm (nI (f' + x.1.1)) (nI x.2.1) bg sp = _
    unfold FX8_nextYear_b30
    rw [if_pos (by rw [le_t (by omega) (by omega)]; trivial)]
    rfl
  | succ d ih =>
    intro k x lies mt yt ym bt bm bg sp hk hN hl hM hB
    have hf := hM.1.1
    have nn : ¬ nI f' ≤ nI (f + k) := by rw [le_f (by omega) (by omega)]; exact id
    have hsp := hM.2.2
    cases h0 : x.1.2.2 with
    | true =>
      have e : nxS f' E (d + 1) k x = x := by rw [nxS, if_pos h0]
      rw [h0] at hsp
      rw [e]
      refine ⟨lies, mt, yt, ym, bt, bm, bg, sp, loopC_inr ?_, hN, hM, hB, KP.rf⟩
      show FX8_nextYear_b30 (nI f') (nI m1) (nI bk) (nI (f + k)) lies mt yt ym bt bm (nI (f' + x.1.1)) (nI x.2.1) bg sp = _
      unfold FX8_nextYear_b30
      rw [if_neg nn, if_neg (by rw [hsp]; decide)]
    | false =>
      have e : nxS f' E (d + 1) k x = nxS f' E d (k + 1) (begS f' x (rsS (E k))) := by rw [nxS, h0]; rfl
      rw [h0] at hsp
      have hsp' : sp = 0 := hsp
      rw [e]
      have hx := (hE k (by omega)).rs
      have hN' := hN.step h0 hx rfl
      have hnb : x.2.1 = n0 + x.1.1 := by
        rcases hN.2.2.2.2 with ⟨-, z⟩ | ⟨z, -⟩
        · exact z
        · rw [h0] at z; exact absurd z Bool.false_ne_true
      have h03 := hN.2.2.1
      have r1 : rd 6001 lies (nI (f + k)) = some (lN (pk (E k).1 15)) := rdn (by omega) (by omega) (hl k (by omega))
      obtain ⟨b, bt2, bm2, bg2, nb2, codes2, e1, e2, e3⟩ := begun8 hB hbk (by omega) (pk_CX hW hx.1)
      have e1' : FX8_isBegun bt bm (nI bk) (nI x.2.1) bg (lN (pk (E k).1 15)) = some (b, bt2, bm2, nI nb2, bg2) := e1
      have memI : (∃ j, j < x.2.1 ∧ pk (x.2.2 j).1 15 = pk (E k).1 15) ↔ memS x.2.2 (kyS (rsS (E k))) x.2.1 = true := by
        rw [memS_iff]
        constructor
        · rintro ⟨j, j1, j2⟩
          exact ⟨j, j1, Prod.ext j2 (hN.2.1 j j1).2⟩
        · rintro ⟨j, j1, j2⟩
          exact ⟨j, j1, congrArg (fun z : Nat × Nat => z.1) j2⟩
      rcases e3 with ⟨rfl, rfl, rfl, e4⟩ | ⟨rfl, rfl, rfl, e4⟩
      · have hm := memI.mp e4
        have eb : begS f' x (rsS (E k)) = x := if_pos hm
        rw [eb]
        obtain ⟨l3, mt3, yt3, ym3, bt3, bm3, bg3, sp3, z1, z2⟩ := ih (k + 1) x lies mt yt ym bt2 bm2 bg2 sp (by omega) hN hl hM e2
        refine ⟨l3, mt3, yt3, ym3, bt3, bm3, bg3, sp3, (loopC_inl ?_).trans z1, z2⟩
        show FX8_nextYear_b30 (nI f') (nI m1) (nI bk) (nI (f + k)) lies mt yt ym bt bm (nI (f' + x.1.1)) (nI x.2.1) bg sp = _
        unfold FX8_nextYear_b30 FX8_nextYear_j66
        rw [if_neg nn, if_pos hsp', r1, bd1_s, e1', bd5_s, if_pos (by decide), show nI (f + k) + 1 = nI (f + (k + 1)) from n_add (f + k) 1]
      · have hm : ¬ memS x.2.2 (kyS (rsS (E k))) x.2.1 = true := fun z => by
          obtain ⟨j, j1, j2⟩ := memI.mpr z
          exact e4 j j1 j2
        have eb : begS f' x (rsS (E k)) = (addS f' x.1 (rsS (E k)), x.2.1 + 1, up x.2.2 x.2.1 (rsS (E k))) := if_neg hm
        rw [eb] at hN'
        rw [eb]
        obtain ⟨l2, mt2, yt2, ym2, sp2, t1, t2, t3⟩ := addM hM hW hx hmk
        have t1' : FX8_takes lies mt yt ym (nI (f' + x.1.1)) (nI (m1 + 1)) sp (lN (pk (E k).1 15)) 0 = some (l2, mt2, yt2, ym2, nI (f' + (addS f' x.1 (rsS (E k))).1), sp2) := t1
        have e2' : BT bt2 bm2 bg2 bk (x.2.1 + 1) (fun j => pk (up x.2.2 x.2.1 (rsS (E k)) j).1 15) := by
          have : up (fun j => pk (x.2.2 j).1 15) x.2.1 (pk (rsS (E k)).1 15) = fun j => pk (up x.2.2 x.2.1 (rsS (E k)) j).1 15 := by
            funext j
            by_cases c : j = x.2.1
            · rw [upn_t c, upn_t c]
            · rw [upn_f c, upn_f c]
          rw [this] at e2
          exact e2
        obtain ⟨l3, mt3, yt3, ym3, bt3, bm3, bg3, sp3, z1, y1, y2, y3, y4⟩ := ih (k + 1) (addS f' x.1 (rsS (E k)), x.2.1 + 1, up x.2.2 x.2.1 (rsS (E k))) l2 mt2 yt2 ym2 bt2 bm2 bg2 sp2 (by omega) hN' (fun j hj => by rw [(t3 (f + j) (by omega)).1]; exact hl j hj) t2 e2'
        refine ⟨l3, mt3, yt3, ym3, bt3, bm3, bg3, sp3, (loopC_inl ?_).trans z1, y1, y2, y3, KP.tr t3 y4⟩
        show FX8_nextYear_b30 (nI f') (nI m1) (nI bk) (nI (f + k)) lies mt yt ym bt bm (nI (f' + x.1.1)) (nI x.2.1) bg sp = _
        unfold FX8_nextYear_b30 FX8_nextYear_j66
        rw [if_neg nn, if_pos hsp', r1, bd1_s, e1', bd5_s, if_neg (by decide), bd1_s, show nI m1 + 1 = nI (m1 + 1) from n_add m1 1, t1', bd6_s, show nI (f + k) + 1 = nI (f + (k + 1)) from n_add (f + k) 1]
end P56
