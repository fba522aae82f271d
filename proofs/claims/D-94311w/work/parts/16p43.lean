set_option maxRecDepth 100000
theorem n_sub' {a b : Nat} (h : b ≤ a) : nI a - nI b = nI (a - b) := (Int32.ofNat_sub a b h).symm
theorem nz_n {c : Nat} (h : 1 ≤ c) (h2 : c < 2147483648) : nzI (nI c) = some () := by
  unfold nzI
  rw [if_neg (by rw [show (0 : Int32) = nI 0 from rfl, eq_f (by omega) h2 (by omega)]; exact id)]
section P43
variable {rsort rmany rowSort rowMany : Nat → Int32} {nums : Nat → Nat → Int64} {numbers : Nat → Int64}
/-- what stands in the ring of x, t on from x's place backwards -/
theorem ring_law {n m : Nat} {w0 w8 wb : Nat → Int32} {W : Nat → Nat} (hn : n ≤ 40) (hI : WantI n w0 w8 wb m n W) {x t : Nat} (hx : x < n) (ht : t < 2) (rg : Nat → Int32) : ∃ v rg', v < n ∧ FX0_inRing w0 rg (nI x) (nI (t + 1)) = some (if v = x then -1 else nI v, rg') ∧ (W x = x → v = x) ∧ ∃ xm c d e, loopC (fun (s : Int32 × Int32) => FX8_partner_b113 (nI x) w8 s.1 s.2) (nI x, nI (W x)) = some (nI xm) ∧ xm < n ∧ loopC (fun (s : Int32 × Int32 × Int32) => FX8_partner_b163 (nI x) w8 (nI xm) s.1 s.2.1 s.2.2) (1, 0, nI (W xm)) = some (nI c, nI d) ∧ d < c ∧ c ≤ 40 ∧ e = (t + c - d) % c ∧ FX8_partner_j233 (nI x) w8 (nI xm) (nI e) = some (if v = x then -1 else nI v, w8) := by
  have hW : ∀ i, i < n → W i < n := fun i hi => (hI.1 i hi).1
  have hJ : ∀ i j, i < n → j < n → W i = W j → i = j := by
    intro i j hi hj e
    rcases Nat.lt_trichotomy i j with c | c | c
    · exact absurd e (hI.2.1 i j c hj)
    · exact c
    · exact absurd e.symm (hI.2.1 j i c hi)
  obtain ⟨c, c1, cn, cW, cmin⟩ := ring hW hJ hx
  have lt : ∀ k y, y < n → itN W k y < n := fun k y hy => itN_lt hW k y hy
  have r0 : ∀ y, y < n → rd 40 w0 (nI y) = some (nI (W y)) := fun y hy => rdn (by omega) (by omega) (hI.1 y hy).2.1
  have r8 : ∀ y, y < n → rd 40 w8 (nI y) = some (nI (W y)) := fun y hy => rdn (by omega) (by omega) (hI.1 y hy).2.2
  have ne : ∀ {a b : Nat}, a ≠ b → a < n → b < n → ¬ nI a = nI b := fun h ha hb => by rw [eq_f h (by omega) (by omega)]; exact id
  -- the least one
  have key := loop2 (B1 := fun (s : Int32 × Int32) => FX0_inRing_b10 w0 (nI x) s.1 s.2) (B2 := fun (s : Int32 × Int32) => FX8_partner_b113 (nI x) w8 s.1 s.2)
    (fun f s1 s2 => ∃ j i, j + f = c ∧ 1 ≤ j ∧ i < j ∧ s1 = (nI (itN W i x), nI (itN W j x)) ∧ s2 = (nI (itN W i x), nI (itN W j x))) (fun q1 q2 => ∃ i, i < c ∧ q1 = nI (itN W i x) ∧ q2 = nI (itN W i x)) (by
    rintro f _ _ ⟨j, i, hj, j1, hi, rfl, rfl⟩
    have e1 := cmin j (by omega) (by omega)
    have la := lt i x hx
    have lb := lt j x hx
    have es := itN_s W j x
    have n1 := ne e1 lb hx
    generalize hb : itN W j x = b at *
    by_cases h : itN W i x ≤ b
    · refine Or.inl ⟨(nI (itN W i x), nI (W b)), (nI (itN W i x), nI (W b)), ?_, ?_, j + 1, i, by omega, by omega, by omega, by rw [es], by rw [es]⟩
      · show FX0_inRing_b10 w0 (nI x) (nI _) (nI b) = _
        unfold FX0_inRing_b10 mnI
        rw [if_neg n1, r0 b lb, bd1_s, if_neg (by rw [lt_f h (by omega)]; exact id)]
      · show FX8_partner_b113 (nI x) w8 (nI _) (nI b) = _
        unfold FX8_partner_b113 FX8_partner_j134
        rw [if_neg n1, if_pos (by rw [le_t h (by omega)]; trivial), r8 b lb, bd1_s]
    · refine Or.inl ⟨(nI b, nI (W b)), (nI b, nI (W b)), ?_, ?_, j + 1, j, by omega, by omega, by omega, ?_, ?_⟩
      · show FX0_inRing_b10 w0 (nI x) (nI _) (nI b) = _
        unfold FX0_inRing_b10 mnI
        rw [if_neg n1, r0 b lb, bd1_s, if_pos (by rw [lt_t (by omega) (by omega)]; trivial)]
      · show FX8_partner_b113 (nI x) w8 (nI _) (nI b) = _
        unfold FX8_partner_b113 FX8_partner_j134
        rw [if_neg n1, if_neg (by rw [le_f (by omega) (by omega)]; exact id), r8 b lb, bd1_s]
      all_goals rw [hb, es]) (by
    rintro _ _ ⟨j, i, hj, j1, hi, rfl, rfl⟩
    obtain rfl : j = c := by omega
    rw [cW]
    refine ⟨nI (itN W i x), nI (itN W i x), ?_, ?_, i, hi, rfl, rfl⟩
    · show FX0_inRing_b10 w0 (nI x) (nI _) (nI x) = _
      unfold FX0_inRing_b10
      exact if_pos rfl
    · show FX8_partner_b113 (nI x) w8 (nI _) (nI x) = _
      unfold FX8_partner_b113
      exact if_pos rfl)
  obtain ⟨_, _, l1, l2, i, hi, rfl, rfl⟩ := key (c - 1) (nI x, nI (W x)) (nI x, nI (W x)) ⟨1, 0, by omega, by omega, by omega, rfl, rfl⟩
  have hxm := lt i x hx
  have hd : ∃ d, d < c ∧ itN W d (itN W i x) = x := by
    by_cases h : i = 0
    · exact ⟨0, by omega, by rw [h]; rfl⟩
    · exact ⟨c - i, by omega, by rw [← itN_add, show c - i + i = c by omega, cW]⟩
  have cWm : itN W c (itN W i x) = itN W i x := by rw [← itN_add, Nat.add_comm, itN_add, cW]
  have cmm : ∀ j, 0 < j → j < c → itN W j (itN W i x) ≠ itN W i x := by
    intro j j1 j2 e
    rw [← itN_add, Nat.add_comm, itN_add] at e
    exact cmin j j1 j2 (itN_inj hW hJ i _ _ (lt j x hx) hx e)
  have hWx : W x = x → ∀ k, itN W k x = x := by
    intro h k
    induction k with
    | zero => rfl
    | succ k ih => rw [itN_s, ih, h]
  have hfix : W x = x → itN W i x = x := fun h => hWx h i
  obtain ⟨d, hd1, hd2⟩ := hd
  generalize itN W i x = xm at *
  have one : ∀ j, j < c → itN W j xm = x → j = d := by
    intro j hj e
    rcases Nat.lt_trichotomy j d with h | h | h
    · exfalso
      refine cmm (d - j) (by omega) (by omega) (itN_inj hW hJ j _ _ (lt _ xm hxm) hxm ?_)
      rw [← itN_add, show j + (d - j) = d by omega, hd2, e]
    · exact h
    · exfalso
      refine cmm (j - d) (by omega) (by omega) (itN_inj hW hJ d _ _ (lt _ xm hxm) hxm ?_)
      rw [← itN_add, show d + (j - d) = j by omega, hd2, e]
  -- the ring, laid out
  obtain ⟨⟨q1, q2, rg2⟩, k1, k2, k3, k4⟩ := up_rule (B := fun (s : Int32 × Int32 × Int32 × (Nat → Int32)) => FX0_inRing_b44 w0 (nI x) (nI xm) s.1 s.2.1 s.2.2.1 s.2.2.2) (fun j (a : Nat → Int32) => (nI j, nI (if d < j then d else 0), nI (itN W j xm), a)) (fun j a => ∀ l, l < j → a l = nI (itN W l xm)) (fun r => r.1 = nI c ∧ r.2.1 = nI d ∧ ∀ l, l < c → r.2.2 l = nI (itN W l xm)) (c - 1) (by
    intro j a hj ha
    have lj := lt j xm hxm
    have es := itN_s W j xm
    have e1 : ¬ nI (W (itN W j xm)) = nI xm := ne (by rw [← es]; exact cmm (j + 1) (by omega) (by omega)) (hW _ lj) hxm
    have ej : ∀ q, FX0_inRing_j63 w0 (nI xm) (nI j) (nI (itN W j xm)) (upd a j (nI (itN W j xm))) q = some (.inl (nI (j + 1), q, nI (itN W (j + 1) xm), upd a j (nI (itN W j xm)))) := by
      intro q
      unfold FX0_inRing_j63
      rw [r0 _ lj, bd1_s, if_neg e1, es, show nI j + 1 = nI (j + 1) from n_add j 1]
    refine Or.inl ⟨upd a j (nI (itN W j xm)), ?_, fun l hl => ?_⟩
    · show FX0_inRing_b44 w0 (nI x) (nI xm) (nI j) (nI (if d < j then d else 0)) (nI (itN W j xm)) a = _
      unfold FX0_inRing_b44
      rw [wr_n (by omega) (by omega), bd1_s, ej, ej]
      by_cases h : itN W j xm = x
      · have := one j (by omega) h
        rw [if_pos (by rw [h]), if_pos (show d < j + 1 by omega), this]
      · have hdj : d ≠ j := fun z => h (by rw [← z]; exact hd2)
        rw [if_neg (ne h lj hx)]
        by_cases h2 : d < j
        · rw [if_pos h2, if_pos (by omega)]
        · rw [if_neg h2, if_neg (by omega)]
    · by_cases h : l = j
      · rw [up_t h, h]
      · rw [up_f h]; exact ha l (by omega)) (by
    intro a ha
    have lj := lt (c - 1) xm hxm
    have es := itN_s W (c - 1) xm
    rw [show c - 1 + 1 = c by omega, cWm] at es
    have ej : ∀ q, FX0_inRing_j63 w0 (nI xm) (nI (c - 1)) (nI (itN W (c - 1) xm)) (upd a (c - 1) (nI (itN W (c - 1) xm))) q = some (.inr (nI c, q, upd a (c - 1) (nI (itN W (c - 1) xm)))) := by
      intro q
      unfold FX0_inRing_j63
      rw [r0 _ lj, bd1_s, if_pos (by rw [← es]), show nI (c - 1) + 1 = nI (c - 1 + 1) from n_add (c - 1) 1, show c - 1 + 1 = c by omega]
    refine ⟨(nI c, nI d, upd a (c - 1) (nI (itN W (c - 1) xm))), ?_, rfl, rfl, fun l hl => ?_⟩
    · show FX0_inRing_b44 w0 (nI x) (nI xm) (nI (c - 1)) (nI (if d < c - 1 then d else 0)) (nI (itN W (c - 1) xm)) a = _
      unfold FX0_inRing_b44
      rw [wr_n (by omega) (by omega), bd1_s, ej, ej]
      by_cases h : itN W (c - 1) xm = x
      · have := one (c - 1) (by omega) h
        rw [if_pos (by rw [h]), this]
      · have hdj : d ≠ c - 1 := fun z => h (by rw [← z]; exact hd2)
        rw [if_neg (ne h lj hx), if_pos (by omega)]
    · show upd a (c - 1) _ l = _
      by_cases h : l = c - 1
      · rw [up_t h, h]
      · rw [up_f h]; exact ha l (by omega)) 0 rg (by omega) (fun l hl => absurd hl (Nat.not_lt_zero l))
  dsimp only at k2 k3 k4
  subst k2 k3
  -- on the other side
  obtain ⟨q8, p1, p2⟩ := up_rule (B := fun (s : Int32 × Int32 × Int32) => FX8_partner_b163 (nI x) w8 (nI xm) s.1 s.2.1 s.2.2) (fun j (_ : Unit) => (nI j, nI (if d < j then d else 0), nI (itN W j xm))) (fun j _ => 1 ≤ j) (fun r => r = (nI c, nI d)) c (by
    intro j _ hj j1
    have lj := lt j xm hxm
    have es := itN_s W j xm
    have e1 : ¬ nI (itN W j xm) = nI xm := ne (cmm j (by omega) hj) lj hxm
    refine Or.inl ⟨(), ?_, by omega⟩
    show FX8_partner_b163 (nI x) w8 (nI xm) (nI j) (nI (if d < j then d else 0)) (nI (itN W j xm)) = _
    have ej : ∀ q, FX8_partner_j184 w8 (nI j) (nI (itN W j xm)) q = some (.inl (nI (j + 1), q, nI (itN W (j + 1) xm))) := by
      intro q
      unfold FX8_partner_j184
      rw [r8 _ lj, bd1_s, es, show nI j + 1 = nI (j + 1) from n_add j 1]
    unfold FX8_partner_b163
    rw [if_neg e1, ej, ej]
    by_cases h : itN W j xm = x
    · have := one j hj h
      rw [if_pos (by rw [h]), if_pos (show d < j + 1 by omega), this]
    · have hdj : d ≠ j := fun z => h (by rw [← z]; exact hd2)
      rw [if_neg (ne h lj hx)]
      by_cases h2 : d < j
      · rw [if_pos h2, if_pos (by omega)]
      · rw [if_neg h2, if_neg (by omega)]) (by
    intro _ _
    refine ⟨(nI c, nI d), ?_, rfl⟩
    show FX8_partner_b163 (nI x) w8 (nI xm) (nI c) (nI (if d < c then d else 0)) (nI (itN W c xm)) = _
    unfold FX8_partner_b163
    rw [cWm, if_pos rfl, if_pos hd1]) 1 () (by omega) (by omega)
  subst p2
  have he : (t + c - d) % c < c := Nat.mod_lt _ (by omega)
  have hv := lt ((t + c - d) % c) xm hxm
  have fin : ∀ e, e < 100 → FX8_partner_j233 (nI x) w8 (nI xm) (nI e) = some (if itN W e xm = x then -1 else nI (itN W e xm), w8) := by
    intro e he
    have z := up_eq (B := fun (s : Int32 × Int32) => FX8_partner_b242 w8 (nI e) s.1 s.2) (fun k (a : Int32) => (a, nI k)) (fun k => nI (itN W k xm)) e (r := nI (itN W e xm)) (fun k hk => by
      show FX8_partner_b242 w8 (nI e) (nI _) (nI k) = _
      unfold FX8_partner_b242
      rw [if_neg (by rw [le_f hk (by omega)]; exact id), r8 _ (lt k xm hxm), bd1_s, itN_s, show nI k + 1 = nI (k + 1) from n_add k 1]) (by
      show FX8_partner_b242 w8 (nI e) (nI _) (nI e) = _
      unfold FX8_partner_b242
      exact if_pos (Int32.le_refl _)) 0 (by omega)
    have z' : loopC (fun (s : Int32 × Int32) => FX8_partner_b242 w8 (nI e) s.1 s.2) (nI xm, (0 : Int32)) = some (nI (itN W e xm)) := z
    unfold FX8_partner_j233
    rw [z', bd1_s]
    by_cases h : itN W e xm = x
    · rw [if_pos (by rw [h]), if_pos h]
    · rw [if_neg (ne h (lt e xm hxm) hx), if_neg h]
  refine ⟨itN W ((t + c - d) % c) xm, rg2, hv, ?_, fun h => ?_, xm, c, d, _, l2, hxm, ?_, hd1, by omega, rfl, fin _ (by omega)⟩
  · have e1 : rd 40 rg2 (nI ((t + c - d) % c)) = some (nI (itN W ((t + c - d) % c) xm)) := rdn (by omega) (by omega) (k4 _ he)
    have e2 := fm_n t ht c (by omega) d hd1
    have ej : FX0_inRing_j95 (nI x) (nI c) (nI d) rg2 (nI t) = some (if itN W ((t + c - d) % c) xm = x then -1 else nI (itN W ((t + c - d) % c) xm), rg2) := by
      unfold FX0_inRing_j95
      rw [nz_n (by omega) (by omega), bd0_s, e2, e1, bd1_s]
      by_cases h : itN W ((t + c - d) % c) xm = x
      · rw [if_pos (by rw [h]), if_pos h]
      · rw [if_neg (ne h hv hx), if_neg h]
    unfold FX0_inRing
    rw [r0 x hx, bd1_s, l1, bd1_s, show ((0 : Int32), (0 : Int32), nI xm, rg) = (nI 0, nI (if d < 0 then d else 0), nI (itN W 0 xm), rg) from rfl, k1, bd3_s, ← ej]
    have h2 : t = 0 ∨ t = 1 := by omega
    rcases h2 with rfl | rfl
    · rw [if_pos (by decide)]; rfl
    · rw [if_neg (by decide)]; rfl
  · rw [hfix h]
    exact hWx h _
  · have z : ((1 : Int32), (0 : Int32), nI (W xm)) = (nI 1, nI (if d < 1 then d else 0), nI (itN W 1 xm)) := by
      rw [show (if d < 1 then d else 0) = 0 by split <;> omega]
      rfl
    rw [z]
    exact p1
theorem partner_law (hN : NumC rsort rmany nums rowSort rowMany numbers) (p1 p2 p3 p4 : Int32) (w0 wb w8 rg : Nat → Int32) : ∃ ans w0' wb' rg' w8', FX0_partner w0 wb rg rsort rmany nums p1 p2 p3 p4 = some (ans, w0', wb', rg') ∧ FX8_partner w8 rowSort rowMany numbers p1 p2 p3 p4 = some (ans, w8') := by
  have e8 : FX8_within p1.toInt64 0 3 = some (decide (0 ≤ p1.toInt ∧ p1.toInt ≤ 3)) := wiL (by decide) (by decide)
  have e0 : FX0_isNumbers p1 = some (decide (0 ≤ p1.toInt ∧ p1.toInt ≤ 3)) := by
    unfold FX0_isNumbers
    rw [inL (a := 0) (b := 3) (by decide) (by decide), bd1_s]
  have f8 : FX8_within p3.toInt64 1 2 = some (decide (1 ≤ p3.toInt ∧ p3.toInt ≤ 2)) := wiL (by decide) (by decide)
  have f0 : FX0_in p3.toInt64 1 2 = some (decide (1 ≤ p3.toInt ∧ p3.toInt ≤ 2)) := inL (by decide) (by decide)
  rcases rng p1 (n := 4) (by omega) with ⟨r, hr, rfl⟩ | hp
  · have ht : decide (0 ≤ (nI r).toInt ∧ (nI r).toInt ≤ 3) = true := decide_eq_true (by rw [toN (by omega)]; omega)
    rw [ht] at e0 e8
    by_cases h3 : 1 ≤ p3.toInt ∧ p3.toInt ≤ 2
    · rw [decide_eq_true h3] at f0 f8
      by_cases h4 : p4 < 0
      · refine ⟨-2, w0, wb, rg, w8, ?_, ?_⟩
        · unfold FX0_partner
          rw [e0, bd1_s, if_neg (by decide), if_pos h4]
        · unfold FX8_partner
          rw [e8, bd1_s, if_neg (by decide), f8, bd1_s, if_neg (by decide), if_pos h4]
      · by_cases h5 : p4 < p2
        · have h5' : ¬ p2 ≤ p4 := Int32.not_le.mpr h5
          obtain ⟨ans, a0, ab, a8, g0, g8, g⟩ := fault_wall hN hr p2 w0 wb w8
          by_cases c : ans = 0
          · obtain ⟨n, m, W, hn, rfl, hI⟩ := g c
            obtain ⟨y, y1, y2⟩ := wallYears_law hn hI
            obtain ⟨x, hx, rfl⟩ : ∃ x, x < n ∧ p4 = nI x := by
              rw [lt_iff] at h4 h5
              rw [toN (by omega)] at h5
              have z0 : (0 : Int32).toInt = 0 := by decide
              exact ⟨p4.toInt.toNat, by omega, e_i (by rw [toN (by omega)]; omega)⟩
            obtain ⟨t, ht2, rfl⟩ : ∃ t, t < 2 ∧ p3 = nI (t + 1) := ⟨p3.toInt.toNat - 1, by omega, e_i (by rw [toN (by omega)]; omega)⟩
            obtain ⟨x1, x2, x3⟩ := hI.1 x hx
            have r0 : rd 40 a0 (nI x) = some (nI (W x)) := rdn (by omega) (by omega) x2
            have r8 : rd 40 a8 (nI x) = some (nI (W x)) := rdn (by omega) (by omega) x3
            have go0 : ∀ z, (if nI (t + 1) ≤ y then
                if y = 1 then
                  bd1 (rd 40 a0 (nI x)) fun x_71 =>
                  if x_71 = nI x then
                    some ((-1), a0, ab, rg)
                  else
                    bd1 (rd 40 a0 (nI x)) fun x_73 =>
                    some (x_73, a0, ab, rg)
                else
                  bd2 (FX0_inRing a0 rg (nI x) (nI (t + 1))) fun x_74 a_ring_75 =>
                  some (x_74, a0, ab, a_ring_75)
              else
                some ((-1), a0, ab, rg)) = z → FX0_partner w0 wb rg rsort rmany nums (nI r) (nI n) (nI (t + 1)) (nI x) = z := by
              intro z hz
              unfold FX0_partner
              rw [e0, bd1_s, if_neg (by decide), if_neg h4, if_neg h5', f0, bd1_s, if_neg (by decide), g0, bd3_s, if_pos c, y1, bd1_s]
              exact hz
            have pre8 : ∀ z, (if y < nI (t + 1) then
                some ((-1), a8)
              else
                bd1 (rd 40 a8 (nI x)) fun x_60 =>
                if x_60 = nI x then
                  some ((-1), a8)
                else
                  if y = 1 then
                    bd1 (rd 40 a8 (nI x)) fun x_63 =>
                    some (x_63, a8)
                  else
                    bd1 (rd 40 a8 (nI x)) fun x_64 =>
                    bd1 (loopC (fun s => FX8_partner_b113 (nI x) a8 s.1 s.2) (nI x, x_64)) fun x_75 =>
                      bd1 (rd 40 a8 x_75) fun x_76 =>
                      bd2 (loopC (fun s => FX8_partner_b163 (nI x) a8 x_75 s.1 s.2.1 s.2.2) (1, 0, x_76)) fun x_88 x_89 =>
                        if nI (t + 1) = 1 then
                          if x_89 = 0 then
                            FX8_partner_j233 (nI x) a8 x_75 0
                          else
                            FX8_partner_j233 (nI x) a8 x_75 (x_88 - x_89)
                        else
                          bd0 (nzI x_88) <|
                          FX8_partner_j233 (nI x) a8 x_75 (((1 - x_89) + x_88) - ((1 - x_89) + x_88) / x_88 * x_88)) = z → FX8_partner w8 rowSort rowMany numbers (nI r) (nI n) (nI (t + 1)) (nI x) = z := by
              intro z hz
              unfold FX8_partner
              rw [e8, bd1_s, if_neg (by decide), f8, bd1_s, if_neg (by decide), if_neg h4, if_pos h5, g8, bd2_s, if_pos c, y2, bd1_s]
              exact hz
            by_cases h6 : nI (t + 1) ≤ y
            · have h6' : ¬ y < nI (t + 1) := Int32.not_lt.mpr h6
              by_cases h7 : y = 1
              · by_cases h8 : nI (W x) = nI x
                · exact ⟨-1, _, _, _, _, go0 _ (by rw [if_pos h6, if_pos h7, r0, bd1_s, if_pos h8]), pre8 _ (by rw [if_neg h6', r8, bd1_s, if_pos h8])⟩
                · exact ⟨nI (W x), _, _, _, _, go0 _ (by rw [if_pos h6, if_pos h7, r0, bd1_s, if_neg h8, bd1_s]), pre8 _ (by rw [if_neg h6', r8, bd1_s, if_neg h8, if_pos h7, bd1_s])⟩
              · obtain ⟨v, rg', hv, q0, hfix, xm, cc, d, e, q1, hxm, q2, hd, hc40, rfl, q3⟩ := ring_law hn hI hx ht2 rg
                by_cases h8 : W x = x
                · rw [if_pos (hfix h8)] at q0
                  exact ⟨-1, _, _, _, _, go0 _ (by rw [if_pos h6, if_neg h7, q0, bd2_s]), pre8 _ (by rw [if_neg h6', r8, bd1_s, if_pos (by rw [h8])])⟩
                · have rm : rd 40 a8 (nI xm) = some (nI (W xm)) := rdn (by omega) (by omega) (hI.1 xm hxm).2.2
                  have h8' : ¬ nI (W x) = nI x := by rw [eq_f h8 (by omega) (by omega)]; exact id
                  refine ⟨if v = x then -1 else nI v, a0, ab, rg', a8, go0 _ (by rw [if_pos h6, if_neg h7, q0, bd2_s]), pre8 _ ?_⟩
                  rw [if_neg h6', r8, bd1_s, if_neg h8', if_neg h7, bd1_s, q1, bd1_s, rm, bd1_s, q2, bd2_s, ← q3]
                  have h2 : t = 0 ∨ t = 1 := by omega
                  rcases h2 with rfl | rfl
                  · rw [if_pos (by decide)]
                    by_cases h9 : d = 0
                    · rw [if_pos (by rw [h9]; rfl), h9, Nat.zero_add, Nat.sub_zero, Nat.mod_self]; rfl
                    · rw [if_neg (by rw [show (0 : Int32) = nI 0 from rfl, eq_f h9 (by omega) (by omega)]; exact id), n_sub' (by omega), Nat.zero_add, Nat.mod_eq_of_lt (by omega)]
                  · rw [if_neg (by decide), nz_n (by omega) (by omega), bd0_s, mod_n cc (by omega) d hd]
            · have h6' : y < nI (t + 1) := Int32.not_le.mp h6
              exact ⟨-1, _, _, _, _, go0 _ (by rw [if_neg h6]), pre8 _ (by rw [if_pos h6'])⟩
          · refine ⟨ans, a0, ab, rg, a8, ?_, ?_⟩
            · unfold FX0_partner
              rw [e0, bd1_s, if_neg (by decide), if_neg h4, if_neg h5', f0, bd1_s, if_neg (by decide), g0, bd3_s, if_neg c]
            · unfold FX8_partner
              rw [e8, bd1_s, if_neg (by decide), f8, bd1_s, if_neg (by decide), if_neg h4, if_pos h5, g8, bd2_s, if_neg c]
        · refine ⟨-2, w0, wb, rg, w8, ?_, ?_⟩
          · unfold FX0_partner
            rw [e0, bd1_s, if_neg (by decide), if_neg h4, if_pos (Int32.not_lt.mp h5)]
          · unfold FX8_partner
            rw [e8, bd1_s, if_neg (by decide), f8, bd1_s, if_neg (by decide), if_neg h4, if_neg h5]
    · rw [decide_eq_false h3] at f0 f8
      have k8 : FX8_partner w8 rowSort rowMany numbers (nI r) p2 p3 p4 = some (-2, w8) := by
        unfold FX8_partner
        rw [e8, bd1_s, if_neg (by decide), f8, bd1_s, if_pos (by decide)]
      refine ⟨-2, w0, wb, rg, w8, ?_, k8⟩
      unfold FX0_partner
      rw [e0, bd1_s, if_neg (by decide)]
      by_cases h4 : p4 < 0
      · rw [if_pos h4]
      · rw [if_neg h4]
        by_cases h5 : p2 ≤ p4
        · rw [if_pos h5]
        · rw [if_neg h5, f0, bd1_s, if_pos (by decide)]
  · have hp' : ¬ (0 ≤ p1.toInt ∧ p1.toInt ≤ 3) := fun z => hp (by omega)
    rw [decide_eq_false hp'] at e0 e8
    refine ⟨-2, w0, wb, rg, w8, ?_, ?_⟩
    · unfold FX0_partner
      rw [e0, bd1_s, if_pos (by decide)]
    · unfold FX8_partner
      rw [e8, bd1_s, if_pos (by decide)]
end P43
