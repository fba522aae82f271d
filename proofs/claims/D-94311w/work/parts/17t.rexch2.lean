set_option maxRecDepth 100000
theorem algN {n k : Nat} (h : k < n) (hn : n < 2147483648) : alg (nI n) (nI k) = some () := by
  unfold alg
  rw [if_neg]
  rintro (c | c)
  · have := Int32.lt_iff_toInt_lt.mp c
    rw [toN (by omega)] at this
    simp at this
    omega
  · rw [le_f h hn] at c
    exact c
section XLP
variable {p : Program} {l : Launch} {e : Env} {R : Room} {s : State} {m : MethodId} {args : Array Value} {below : List Frame} {meth : Method} {c : Code} {H : Heap} {locs : List Loc} {cells slots : Nat} {Q : State → Prop}
variable {D : va_G} {A : Nat → Prop} {H0 : Heap} {pc : Nat} {ls : Array Slot} {rest : List Value} {cc : ByteArray} {nL : Nat} {own : String} {lv : List (Nat × Value)}
variable {cA : Nat → ClassId} {fw : va_W} {qt q1 q3 q5 : Nat} {e1 e3 e5 n1 n3 n5 : Nat} {r1 r3 r5 : Nat → Nat} {X : va_W} {ov mo ri : Int32} {E : EvT} {mi : Nat} {t : Nat → Int32} {ta : Nat → Nat} {x0 y0 : Nat} {p1 p2 : Int32} {pl : va_W}
set_option maxHeartbeats 4000000 in
theorem xl_stones (hE : EvL E mi) (hX : CallFix p m c cX0_exchanged 5 s args lw_all RX0) (hK : va_K D vwA (cT cA) s) (hNW : NW s) (hE0 : E A s H0) (hT : TownAt cA pl ta t) (hpf : ∀ q ∈ pl, q ∈ fw) (h0 : ∃ fs : List Value, ((x0, .inr (0, .ref y0 :: fs)) : Nat × va_E) ∈ fw) (h1 : ∃ fs : List Value, ((y0, .inr (1, .ref (ta 0) :: fs)) : Nat × va_E) ∈ fw) (hR : 13 ≤ R.frames ∧ 500 ≤ R.locals) {n : Nat} (hn : n ≤ 8) (e0 : t 6 = nI n) : ∀ (dd k : Nat) (Y : va_W) (rr : Nat → Nat) (ee : Nat) (H : Heap) (locs : List Loc) (ls : Array Slot) (cells slots : Nat), k + dd = n → RHG (XW cA fw qt q1 q3 q5 e1 ee e5 n1 k n5 r1 rr r5 Y ov mo ri) D A H0 H locs → (∀ i, i < k → rr i = ta (30 + i)) → lv_has ls 5 [(4, .int (nI k)), (3, .ref qt), (0, .ref x0), (1, .int p1), (2, .int p2)] → cells + dd ≤ R.cells → slots + 20 * dd ≤ R.slots →
    (∀ (Y' : va_W) (rr' : Nat → Nat) (ee' : Nat) (H : Heap) (locs : List Loc) (ls : Array Slot), (∀ q ∈ Y, q ∈ Y') → RHG (XW cA fw qt q1 q3 q5 e1 ee' e5 n1 n n5 r1 rr' r5 Y' ov mo ri) D A H0 H locs → (∀ i, i < n → rr' i = ta (30 + i)) → lv_has ls 5 [(4, .int (nI n)), (3, .ref qt), (0, .ref x0), (1, .int p1), (2, .int p2)] → W p l e R s m args below meth c H locs (cells + dd) (slots + 20 * dd) Q (F0 m 154 ls [])) → W p l e R s m args below meth c H locs cells slots Q (F0 m 104 ls []) := by
  have hx := hX.1
  have hb := hX.2.1
  have hown := hX.2.2.2.1
  have hts := hX.2.2.2.2
  have hEv := hE.1.1
  have elx : ∀ (Y : va_W) (i : Nat), i < n → ElX (Y ++ fw) (ta (30 + i)) := fun Y i hi => by
    have hi' : i < (t 6).toNatClampNeg := by rw [e0, nI_clamp (by omega)]; exact hi
    exact ⟨11, _, by decide, by decide, List.mem_append_right Y (hpf _ (hT.stone hi'))⟩
  intro dd
  induction dd with
  | zero =>
    intro k Y rr ee H locs ls cells slots hk hH hr hl hc hs kk
    obtain rfl : k = n := by omega
    refine lv_iload hx hb dX0_exchanged_104 (lv_at hl 0 rfl) ?_
    refine lv_aload_n hx hb dX0_exchanged_106 rfl (lv_at hl 2 rfl) ?_
    obtain ⟨w, hw, hm⟩ := hH
    refine xg_st h0 h1 hw.fw hX hK hNW hm dX0_exchanged_107 dX0_exchanged_110 ?_
    refine cg_Y_town_stones hT (hw.pl hpf) hX hK hNW hm dX0_exchanged_113 ?_
    refine mxV hX hK hEv hE0 hm (met_J2_size hEv hT.stones (hw.pl hpf)) (precv (hw.pl hpf) hK hm 17 rfl hT.stones.obj) (lw_V q954 q423 q424 q134 q425) (n := 0) ⟨rfl, by decide, by decide, by decide +kernel⟩ ⟨Nat.le_trans (m := 13) (Nat.le_of_ble_eq_true rfl) hR.1, Nat.le_trans (m := 500) (Nat.le_of_ble_eq_true rfl) hR.2⟩ rfl rfl hl (Nat.le_of_ble_eq_true rfl) dX0_exchanged_116 ⟨by show cells + 0 ≤ _; omega, by show slots + 0 ≤ _; omega⟩ (fun w2 H locs hw2 hm => ?_)
    rw [hw2] at hm
    refine lv_icmp_ge (tgt := 154) hx hb dX0_exchanged_119 rfl (fun c9 => ?_) (fun c9 => ?_)
    · exact kk Y rr ee H locs ls (fun q hq => hq) ⟨w, hw, hm⟩ hr hl
    · rw [e0] at c9
      exact absurd (Int32.le_refl _) c9
  | succ dd ih =>
    intro k Y rr ee H locs ls cells slots hk hH hr hl hc hs kk
    have hi9 : k < (t 6).toNatClampNeg := by rw [e0, nI_clamp (by omega)]; omega
    refine lv_iload hx hb dX0_exchanged_104 (lv_at hl 0 rfl) ?_
    refine lv_aload_n hx hb dX0_exchanged_106 rfl (lv_at hl 2 rfl) ?_
    obtain ⟨w, hw, hm⟩ := hH
    refine xg_st h0 h1 hw.fw hX hK hNW hm dX0_exchanged_107 dX0_exchanged_110 ?_
    refine cg_Y_town_stones hT (hw.pl hpf) hX hK hNW hm dX0_exchanged_113 ?_
    refine mxV hX hK hEv hE0 hm (met_J2_size hEv hT.stones (hw.pl hpf)) (precv (hw.pl hpf) hK hm 17 rfl hT.stones.obj) (lw_V q954 q423 q424 q134 q425) (n := 0) ⟨rfl, by decide, by decide, by decide +kernel⟩ ⟨Nat.le_trans (m := 13) (Nat.le_of_ble_eq_true rfl) hR.1, Nat.le_trans (m := 500) (Nat.le_of_ble_eq_true rfl) hR.2⟩ rfl rfl hl (Nat.le_of_ble_eq_true rfl) dX0_exchanged_116 ⟨by show cells + 0 ≤ _; omega, by show slots + 0 ≤ _; omega⟩ (fun w2 H locs hw2 hm => ?_)
    rw [hw2] at hm
    refine lv_icmp_ge (tgt := 154) hx hb dX0_exchanged_119 rfl (fun c9 => ?_) (fun c9 => ?_)
    · rw [e0, le_f (by omega) (by omega)] at c9
      exact c9.elim
    · refine lv_aload_n hx hb dX0_exchanged_122 rfl (lv_at hl 1 rfl) ?_
      refine xw_get_stones hX hK hNW ⟨w, hw, hm⟩ dX0_exchanged_123 ?_
      refine lv_aload_n hx hb dX0_exchanged_126 rfl (lv_at hl 2 rfl) ?_
      refine xg_st h0 h1 hw.fw hX hK hNW hm dX0_exchanged_127 dX0_exchanged_130 ?_
      refine cg_Y_town_stones hT (hw.pl hpf) hX hK hNW hm dX0_exchanged_133 ?_
      refine lv_iload hx hb dX0_exchanged_136 (lv_at hl 0 rfl) ?_
      refine mxV hX hK hEv hE0 hm (met_J2_get hEv rfl hT.stones (i := nI k) (by rw [e0]; exact algN (by omega) (by omega)) (hw.pl hpf)) (precv (hw.pl hpf) hK hm 17 rfl hT.stones.obj) (lw_V q968 q427 q428 q134 q429) (n := 1) ⟨rfl, by decide, by decide, by decide +kernel⟩ ⟨Nat.le_trans (m := 13) (Nat.le_of_ble_eq_true rfl) hR.1, Nat.le_trans (m := 500) (Nat.le_of_ble_eq_true rfl) hR.2⟩ rfl rfl hl (Nat.le_of_ble_eq_true rfl) dX0_exchanged_138 ⟨by show cells + 0 ≤ _; omega, by show slots + 0 ≤ _; omega⟩ (fun w2 H locs hw2 hm => ?_)
      rw [hw2] at hm
      rw [nI_clamp (by omega)]
      refine va_castE hx hb hown (hts _ q969) (precv (hw.pl hpf) hK hm 11 rfl ⟨_, hT.stone hi9⟩) dX0_exchanged_141 ?_
      refine xw_add_stones hE hX hK hE0 ⟨w, hw, hm⟩ (by omega) (elx Y k (by omega)) (fun i hi => by rw [hr i hi]; exact elx Y i (by omega)) hl hR ⟨by show cells + 0 + 0 + 1 ≤ _; omega, by show slots + 0 + 0 + 20 ≤ _; omega⟩ dX0_exchanged_144 (fun xs e9 H locs hH => ?_)
      refine lv_pop hx hb dX0_exchanged_147 rfl ?_
      refine lv_iinc (v := (nI k + 1)) (lv' := [(4, .int (nI k + 1)), (3, .ref qt), (0, .ref x0), (1, .int p1), (2, .int p2)]) hx hb dX0_exchanged_148 hl (k := 0) rfl (syc kyi_1) (by decide) rfl (fun ls hl => ?_)
      refine lv_goto (tgt := 104) hx hb dX0_exchanged_151 rfl ?_
      rw [show nI k + 1 = nI (k + 1) from n_add k 1] at hl
      refine W.widen (k := cells + 1) (n := slots + 20) (Nat.le_refl _) (Nat.le_refl _) ?_
      refine ih (k + 1) (xs ++ Y) _ e9 H locs ls (cells + 1) (slots + 20) (by omega) hH (fun i hi => ?_) hl (by omega) (by omega) (fun Y' rr' ee' H locs ls hY hH hr' hl => ?_)
      · show (if i = k then ta (30 + k) else rr i) = _
        by_cases c : i = k
        · rw [if_pos c, c]
        · rw [if_neg c]
          exact hr i (by omega)
      · exact W.widen (k := cells + (dd + 1)) (n := slots + 20 * (dd + 1)) (by omega) (by omega) (kk Y' rr' ee' H locs ls (fun q hq => hY q (List.mem_append_right _ hq)) hH hr' hl)
set_option maxHeartbeats 4000000 in
theorem xl_musts (hE : EvL E mi) (hX : CallFix p m c cX0_exchanged 5 s args lw_all RX0) (hK : va_K D vwA (cT cA) s) (hNW : NW s) (hE0 : E A s H0) (hT : TownAt cA pl ta t) (hpf : ∀ q ∈ pl, q ∈ fw) (h0 : ∃ fs : List Value, ((x0, .inr (0, .ref y0 :: fs)) : Nat × va_E) ∈ fw) (h1 : ∃ fs : List Value, ((y0, .inr (1, .ref (ta 0) :: fs)) : Nat × va_E) ∈ fw) (hR : 13 ≤ R.frames ∧ 500 ≤ R.locals) {n : Nat} (hn : n ≤ 8) (e0 : t 56 = nI n) : ∀ (dd k : Nat) (Y : va_W) (rr : Nat → Nat) (ee : Nat) (H : Heap) (locs : List Loc) (ls : Array Slot) (cells slots : Nat), k + dd = n → RHG (XW cA fw qt q1 q3 q5 e1 e3 ee n1 n3 k r1 r3 rr Y ov mo ri) D A H0 H locs → (∀ i, i < k → rr i = ta (40 + i)) → lv_has ls 5 [(4, .int (nI k)), (3, .ref qt), (0, .ref x0), (1, .int p1), (2, .int p2)] → cells + dd ≤ R.cells → slots + 20 * dd ≤ R.slots →
    (∀ (Y' : va_W) (rr' : Nat → Nat) (ee' : Nat) (H : Heap) (locs : List Loc) (ls : Array Slot), (∀ q ∈ Y, q ∈ Y') → RHG (XW cA fw qt q1 q3 q5 e1 e3 ee' n1 n3 n r1 r3 rr' Y' ov mo ri) D A H0 H locs → (∀ i, i < n → rr' i = ta (40 + i)) → lv_has ls 5 [(4, .int (nI n)), (3, .ref qt), (0, .ref x0), (1, .int p1), (2, .int p2)] → W p l e R s m args below meth c H locs (cells + dd) (slots + 20 * dd) Q (F0 m 207 ls [])) → W p l e R s m args below meth c H locs cells slots Q (F0 m 157 ls []) := by
  have hx := hX.1
  have hb := hX.2.1
  have hown := hX.2.2.2.1
  have hts := hX.2.2.2.2
  have hEv := hE.1.1
  have elx : ∀ (Y : va_W) (i : Nat), i < n → ElX (Y ++ fw) (ta (40 + i)) := fun Y i hi => by
    have hi' : i < (t 56).toNatClampNeg := by rw [e0, nI_clamp (by omega)]; exact hi
    have hm9 := hT.must hi'
    by_cases c : t (57 + i) = 0
    · rw [if_pos c] at hm9
      exact ⟨12, _, by decide, by decide, List.mem_append_right Y (hpf _ hm9)⟩
    · rw [if_neg c] at hm9
      exact ⟨13, _, by decide, by decide, List.mem_append_right Y (hpf _ hm9)⟩
  intro dd
  induction dd with
  | zero =>
    intro k Y rr ee H locs ls cells slots hk hH hr hl hc hs kk
    obtain rfl : k = n := by omega
    refine lv_iload hx hb dX0_exchanged_157 (lv_at hl 0 rfl) ?_
    refine lv_aload_n hx hb dX0_exchanged_159 rfl (lv_at hl 2 rfl) ?_
    obtain ⟨w, hw, hm⟩ := hH
    refine xg_st h0 h1 hw.fw hX hK hNW hm dX0_exchanged_160 dX0_exchanged_163 ?_
    refine cg_Y_town_musts hT (hw.pl hpf) hX hK hNW hm dX0_exchanged_166 ?_
    refine mxV hX hK hEv hE0 hm (met_J2_size hEv hT.musts (hw.pl hpf)) (precv (hw.pl hpf) hK hm 17 rfl hT.musts.obj) (lw_V q954 q423 q424 q134 q425) (n := 0) ⟨rfl, by decide, by decide, by decide +kernel⟩ ⟨Nat.le_trans (m := 13) (Nat.le_of_ble_eq_true rfl) hR.1, Nat.le_trans (m := 500) (Nat.le_of_ble_eq_true rfl) hR.2⟩ rfl rfl hl (Nat.le_of_ble_eq_true rfl) dX0_exchanged_169 ⟨by show cells + 0 ≤ _; omega, by show slots + 0 ≤ _; omega⟩ (fun w2 H locs hw2 hm => ?_)
    rw [hw2] at hm
    refine lv_icmp_ge (tgt := 207) hx hb dX0_exchanged_172 rfl (fun c9 => ?_) (fun c9 => ?_)
    · exact kk Y rr ee H locs ls (fun q hq => hq) ⟨w, hw, hm⟩ hr hl
    · rw [e0] at c9
      exact absurd (Int32.le_refl _) c9
  | succ dd ih =>
    intro k Y rr ee H locs ls cells slots hk hH hr hl hc hs kk
    have hi9 : k < (t 56).toNatClampNeg := by rw [e0, nI_clamp (by omega)]; omega
    refine lv_iload hx hb dX0_exchanged_157 (lv_at hl 0 rfl) ?_
    refine lv_aload_n hx hb dX0_exchanged_159 rfl (lv_at hl 2 rfl) ?_
    obtain ⟨w, hw, hm⟩ := hH
    refine xg_st h0 h1 hw.fw hX hK hNW hm dX0_exchanged_160 dX0_exchanged_163 ?_
    refine cg_Y_town_musts hT (hw.pl hpf) hX hK hNW hm dX0_exchanged_166 ?_
    refine mxV hX hK hEv hE0 hm (met_J2_size hEv hT.musts (hw.pl hpf)) (precv (hw.pl hpf) hK hm 17 rfl hT.musts.obj) (lw_V q954 q423 q424 q134 q425) (n := 0) ⟨rfl, by decide, by decide, by decide +kernel⟩ ⟨Nat.le_trans (m := 13) (Nat.le_of_ble_eq_true rfl) hR.1, Nat.le_trans (m := 500) (Nat.le_of_ble_eq_true rfl) hR.2⟩ rfl rfl hl (Nat.le_of_ble_eq_true rfl) dX0_exchanged_169 ⟨by show cells + 0 ≤ _; omega, by show slots + 0 ≤ _; omega⟩ (fun w2 H locs hw2 hm => ?_)
    rw [hw2] at hm
    refine lv_icmp_ge (tgt := 207) hx hb dX0_exchanged_172 rfl (fun c9 => ?_) (fun c9 => ?_)
    · rw [e0, le_f (by omega) (by omega)] at c9
      exact c9.elim
    · refine lv_aload_n hx hb dX0_exchanged_175 rfl (lv_at hl 1 rfl) ?_
      refine xw_get_musts hX hK hNW ⟨w, hw, hm⟩ dX0_exchanged_176 ?_
      refine lv_aload_n hx hb dX0_exchanged_179 rfl (lv_at hl 2 rfl) ?_
      refine xg_st h0 h1 hw.fw hX hK hNW hm dX0_exchanged_180 dX0_exchanged_183 ?_
      refine cg_Y_town_musts hT (hw.pl hpf) hX hK hNW hm dX0_exchanged_186 ?_
      refine lv_iload hx hb dX0_exchanged_189 (lv_at hl 0 rfl) ?_
      refine mxV hX hK hEv hE0 hm (met_J2_get hEv rfl hT.musts (i := nI k) (by rw [e0]; exact algN (by omega) (by omega)) (hw.pl hpf)) (precv (hw.pl hpf) hK hm 17 rfl hT.musts.obj) (lw_V q968 q427 q428 q134 q429) (n := 1) ⟨rfl, by decide, by decide, by decide +kernel⟩ ⟨Nat.le_trans (m := 13) (Nat.le_of_ble_eq_true rfl) hR.1, Nat.le_trans (m := 500) (Nat.le_of_ble_eq_true rfl) hR.2⟩ rfl rfl hl (Nat.le_of_ble_eq_true rfl) dX0_exchanged_191 ⟨by show cells + 0 ≤ _; omega, by show slots + 0 ≤ _; omega⟩ (fun w2 H locs hw2 hm => ?_)
      rw [hw2] at hm
      rw [nI_clamp (by omega)]
      refine cc_must hT hi9 (hw.pl hpf) hX hK hNW hm (hts _ q1389) dX0_exchanged_194 ?_
      refine xw_add_musts hE hX hK hE0 ⟨w, hw, hm⟩ (by omega) (elx Y k (by omega)) (fun i hi => by rw [hr i hi]; exact elx Y i (by omega)) hl hR ⟨by show cells + 0 + 0 + 1 ≤ _; omega, by show slots + 0 + 0 + 20 ≤ _; omega⟩ dX0_exchanged_197 (fun xs e9 H locs hH => ?_)
      refine lv_pop hx hb dX0_exchanged_200 rfl ?_
      refine lv_iinc (v := (nI k + 1)) (lv' := [(4, .int (nI k + 1)), (3, .ref qt), (0, .ref x0), (1, .int p1), (2, .int p2)]) hx hb dX0_exchanged_201 hl (k := 0) rfl (syc kyi_1) (by decide) rfl (fun ls hl => ?_)
      refine lv_goto (tgt := 157) hx hb dX0_exchanged_204 rfl ?_
      rw [show nI k + 1 = nI (k + 1) from n_add k 1] at hl
      refine W.widen (k := cells + 1) (n := slots + 20) (Nat.le_refl _) (Nat.le_refl _) ?_
      refine ih (k + 1) (xs ++ Y) _ e9 H locs ls (cells + 1) (slots + 20) (by omega) hH (fun i hi => ?_) hl (by omega) (by omega) (fun Y' rr' ee' H locs ls hY hH hr' hl => ?_)
      · show (if i = k then ta (40 + k) else rr i) = _
        by_cases c : i = k
        · rw [if_pos c, c]
        · rw [if_neg c]
          exact hr i (by omega)
      · exact W.widen (k := cells + (dd + 1)) (n := slots + 20 * (dd + 1)) (by omega) (by omega) (kk Y' rr' ee' H locs ls (fun q hq => hY q (List.mem_append_right _ hq)) hH hr' hl)
/-- what is known of the rows so far -/
def XR (cA : Nat → ClassId) (pl : va_W) (t : Nat → Int32) (a b : Nat) (rr wb : Nat → Nat) (Y : va_W) (k : Nat) : Prop :=
  (∀ j, j < k → ((rr j, .inr (10, [.int (t (1 + j)), .ref (wb j), .int (t (31 + j)), .int (t (36 + j)), .int (if j = a ∨ j = b then 0 else t (210 + j))])) : Nat × va_E) ∈ Y ++ pl ∧ ∃ g : Nat → Int32, ((wb j, .inl (cA 45, 3, .inl g)) : Nat × va_E) ∈ (if j = a ∨ j = b then Y else pl) ∧ ∀ i, i < 3 → g i = t (41 + 3 * j + i)) ∧ ∀ j, j < k → ∀ i, i < k → (j = a ∨ j = b) → (i = a ∨ i = b) → wb j = wb i → j = i
theorem xr_mem {cA : Nat → ClassId} {pl : va_W} {t : Nat → Int32} {a b : Nat} {rr wb : Nat → Nat} {Y : va_W} {k : Nat} (h : XR cA pl t a b rr wb Y k) (xs : va_W) {x y : Nat} {g : Nat → Int32} (h1 : ((x, .inr (10, [.int (t (1 + k)), .ref y, .int (t (31 + k)), .int (t (36 + k)), .int (if k = a ∨ k = b then 0 else t (210 + k))])) : Nat × va_E) ∈ (xs ++ Y) ++ pl) (h2 : ((y, .inl (cA 45, 3, .inl g)) : Nat × va_E) ∈ (if k = a ∨ k = b then xs ++ Y else pl)) (h3 : ∀ i, i < 3 → g i = t (41 + 3 * k + i)) (h4 : (k = a ∨ k = b) → ∀ i, i < k → (i = a ∨ i = b) → wb i ≠ y) : XR cA pl t a b (fun j => if j = k then x else rr j) (fun j => if j = k then y else wb j) (xs ++ Y) (k + 1) := by
  refine ⟨fun j hj => ?_, fun j hj i hi hcj hci hw => ?_⟩
  · show ((if j = k then x else rr j, .inr (10, [.int (t (1 + j)), .ref (if j = k then y else wb j), .int (t (31 + j)), .int (t (36 + j)), .int (if j = a ∨ j = b then 0 else t (210 + j))])) : Nat × va_E) ∈ _ ∧ ∃ g : Nat → Int32, ((if j = k then y else wb j, .inl (cA 45, 3, .inl g)) : Nat × va_E) ∈ _ ∧ _
    by_cases c : j = k
    · subst c
      rw [if_pos rfl, if_pos rfl]
      exact ⟨h1, g, h2, h3⟩
    · rw [if_neg c, if_neg c]
      obtain ⟨k1, g0, k2, k3⟩ := h.1 j (by omega)
      refine ⟨?_, g0, ?_, k3⟩
      · rw [List.append_assoc]
        exact List.mem_append_right _ k1
      · by_cases c2 : j = a ∨ j = b
        · rw [if_pos c2] at k2 ⊢
          exact List.mem_append_right _ k2
        · rw [if_neg c2] at k2 ⊢
          exact k2
  · replace hw : (if j = k then y else wb j) = (if i = k then y else wb i) := hw
    by_cases c : j = k
    · by_cases c2 : i = k
      · omega
      · rw [if_pos c, if_neg c2] at hw
        exact absurd hw.symm (h4 (c ▸ hcj) i (by omega) hci)
    · by_cases c2 : i = k
      · rw [if_neg c, if_pos c2] at hw
        exact absurd hw (h4 (c2 ▸ hci) j (by omega) hcj)
      · rw [if_neg c, if_neg c2] at hw
        exact h.2 j (by omega) i (by omega) hcj hci hw
set_option maxHeartbeats 8000000 in
theorem xl_rows (hE : EvL E mi) (hX : CallFix p m c cX0_exchanged 5 s args lw_all RX0) (hK : va_K D vwA (cT cA) s) (hNW : NW s) (hE0 : E A s H0) (hT : TownAt cA pl ta t) (hpf : ∀ q ∈ pl, q ∈ fw) (h0 : ∃ fs : List Value, ((x0, .inr (0, .ref y0 :: fs)) : Nat × va_E) ∈ fw) (h1 : ∃ fs : List Value, ((y0, .inr (1, .ref (ta 0) :: fs)) : Nat × va_E) ∈ fw) (hR : 13 ≤ R.frames ∧ 500 ≤ R.locals) {n a b : Nat} (hn : n ≤ 8) (e0 : t 0 = nI n) (ha : p1 / 3 = nI a) (hb2 : p2 / 3 = nI b) (han : a < n) (hbn : b < n) : ∀ (dd k : Nat) (Y : va_W) (rr wb : Nat → Nat) (ee : Nat) (H : Heap) (locs : List Loc) (ls : Array Slot) (cells slots : Nat), k + dd = n → RHG (XW cA fw qt q1 q3 q5 ee e3 e5 k n3 n5 rr r3 r5 Y ov mo ri) D A H0 H locs → XR cA pl t a b rr wb Y k → lv_has ls 5 [(4, .int (nI k)), (3, .ref qt), (0, .ref x0), (1, .int p1), (2, .int p2)] → cells + 3 * dd ≤ R.cells → slots + 28 * dd ≤ R.slots →
    (∀ (Y' : va_W) (rr' wb' : Nat → Nat) (ee' : Nat) (H : Heap) (locs : List Loc) (ls : Array Slot), RHG (XW cA fw qt q1 q3 q5 ee' e3 e5 n n3 n5 rr' r3 r5 Y' ov mo ri) D A H0 H locs → XR cA pl t a b rr' wb' Y' n → lv_has ls 5 [(4, .int (nI n)), (3, .ref qt), (0, .ref x0), (1, .int p1), (2, .int p2)] → W p l e R s m args below meth c H locs (cells + 3 * dd) (slots + 28 * dd) Q (F0 m 101 ls [])) → W p l e R s m args below meth c H locs cells slots Q (F0 m 11 ls []) := by
  have hx := hX.1
  have hb := hX.2.1
  have hown := hX.2.2.2.1
  have hts := hX.2.2.2.2
  have hEv := hE.1.1
  intro dd
  induction dd with
  | zero =>
    intro k Y rr wb ee H locs ls cells slots hk hH hr hl hc hs kk
    obtain rfl : k = n := by omega
    refine lv_iload hx hb dX0_exchanged_11 (lv_at hl 0 rfl) ?_
    refine lv_aload_n hx hb dX0_exchanged_13 rfl (lv_at hl 2 rfl) ?_
    obtain ⟨w, hw, hm⟩ := hH
    refine xg_st h0 h1 hw.fw hX hK hNW hm dX0_exchanged_14 dX0_exchanged_17 ?_
    refine cg_Y_town_rows hT (hw.pl hpf) hX hK hNW hm dX0_exchanged_20 ?_
    refine mxV hX hK hEv hE0 hm (met_J2_size hEv hT.rows (hw.pl hpf)) (precv (hw.pl hpf) hK hm 17 rfl hT.rows.obj) (lw_V q954 q423 q424 q134 q425) (n := 0) ⟨rfl, by decide, by decide, by decide +kernel⟩ ⟨Nat.le_trans (m := 13) (Nat.le_of_ble_eq_true rfl) hR.1, Nat.le_trans (m := 500) (Nat.le_of_ble_eq_true rfl) hR.2⟩ rfl rfl hl (Nat.le_of_ble_eq_true rfl) dX0_exchanged_23 ⟨by show cells + 0 ≤ _; omega, by show slots + 0 ≤ _; omega⟩ (fun w2 H locs hw2 hm => ?_)
    rw [hw2] at hm
    refine lv_icmp_ge (tgt := 101) hx hb dX0_exchanged_26 rfl (fun c9 => ?_) (fun c9 => ?_)
    · exact kk Y rr wb ee H locs ls ⟨w, hw, hm⟩ hr hl
    · rw [e0] at c9
      exact absurd (Int32.le_refl _) c9
  | succ dd ih =>
    intro k Y rr wb ee H locs ls cells slots hk hH hr hl hc hs kk
    have hi9 : k < (t 0).toNatClampNeg := by rw [e0, nI_clamp (by omega)]; omega
    have apf : ∀ (Z : va_W) {q : Nat × va_E}, q ∈ Z ++ pl → q ∈ Z ++ fw := fun Z q h => (List.mem_append.mp h).elim (fun h => List.mem_append_left _ h) (fun h => List.mem_append_right _ (hpf _ h))
    have elr : ∀ (Y : va_W) (rr wb : Nat → Nat), XR cA pl t a b rr wb Y k → ∀ i, i < k → ElX (Y ++ fw) (rr i) := fun Y rr wb hr i hi => ⟨10, _, by decide, by decide, apf Y (hr.1 i hi).1⟩
    -- behind the row that is added
    have tail : ∀ (xs : va_W) (x y : Nat) (g : Nat → Int32) (H : Heap) (locs : List Loc) (ls : Array Slot), RHG (XW cA fw qt q1 q3 q5 ee e3 e5 k n3 n5 rr r3 r5 (xs ++ Y) ov mo ri) D A H0 H locs → XR cA pl t a b (fun j => if j = k then x else rr j) (fun j => if j = k then y else wb j) (xs ++ Y) (k + 1) → lv_has ls 5 [(4, .int (nI k)), (3, .ref qt), (0, .ref x0), (1, .int p1), (2, .int p2)] → W p l e R s m args below meth c H locs (cells + 2) (slots + 8) Q (F0 m 91 ls [.ref x, .ref q1]) := by
      intro xs x y g H locs ls hH hxr hl
      have hxk := (hxr.1 k (by omega)).1
      simp only [↓reduceIte] at hxk
      refine xw_add_rows hE hX hK hE0 hH (by omega) ⟨10, _, by decide, by decide, apf (xs ++ Y) hxk⟩ (fun i hi => ?_) hl hR ⟨by omega, by omega⟩ dX0_exchanged_91 (fun xs2 e9 H locs hH => ?_)
      · have h9 := (hxr.1 i (by omega)).1
        simp only [if_neg (show ¬ i = k by omega)] at h9
        exact ⟨10, _, by decide, by decide, apf (xs ++ Y) h9⟩
      refine lv_pop hx hb dX0_exchanged_94 rfl ?_
      refine lv_iinc (v := (nI k + 1)) (lv' := [(4, .int (nI k + 1)), (3, .ref qt), (0, .ref x0), (1, .int p1), (2, .int p2)]) hx hb dX0_exchanged_95 hl (k := 0) rfl (syc kyi_1) (by decide) rfl (fun ls hl => ?_)
      refine lv_goto (tgt := 11) hx hb dX0_exchanged_98 rfl ?_
      rw [show nI k + 1 = nI (k + 1) from n_add k 1] at hl
      refine W.widen (k := cells + 3) (n := slots + 28) (by omega) (by omega) ?_
      refine ih (k + 1) (xs2 ++ (xs ++ Y)) (fun j => if j = k then x else rr j) (fun j => if j = k then y else wb j) e9 H locs ls (cells + 3) (slots + 28) (by omega) hH ?_ hl (by omega) (by omega) (fun Y' rr' wb' ee' H locs ls hH hr' hl => ?_)
      · refine ⟨fun j hj => ?_, hxr.2⟩
        obtain ⟨k1, g0, k2, k3⟩ := hxr.1 j hj
        refine ⟨?_, g0, ?_, k3⟩
        · rw [List.append_assoc xs2]
          exact List.mem_append_right _ k1
        · by_cases c2 : j = a ∨ j = b
          · rw [if_pos c2] at k2 ⊢
            exact List.mem_append_right _ k2
          · rw [if_neg c2] at k2 ⊢
            exact k2
      · exact W.widen (k := cells + 3 * (dd + 1)) (n := slots + 28 * (dd + 1)) (by omega) (by omega) (kk Y' rr' wb' ee' H locs ls hH hr' hl)
    refine lv_iload hx hb dX0_exchanged_11 (lv_at hl 0 rfl) ?_
    refine lv_aload_n hx hb dX0_exchanged_13 rfl (lv_at hl 2 rfl) ?_
    obtain ⟨w, hw, hm⟩ := hH
    refine xg_st h0 h1 hw.fw hX hK hNW hm dX0_exchanged_14 dX0_exchanged_17 ?_
    refine cg_Y_town_rows hT (hw.pl hpf) hX hK hNW hm dX0_exchanged_20 ?_
    refine mxV hX hK hEv hE0 hm (met_J2_size hEv hT.rows (hw.pl hpf)) (precv (hw.pl hpf) hK hm 17 rfl hT.rows.obj) (lw_V q954 q423 q424 q134 q425) (n := 0) ⟨rfl, by decide, by decide, by decide +kernel⟩ ⟨Nat.le_trans (m := 13) (Nat.le_of_ble_eq_true rfl) hR.1, Nat.le_trans (m := 500) (Nat.le_of_ble_eq_true rfl) hR.2⟩ rfl rfl hl (Nat.le_of_ble_eq_true rfl) dX0_exchanged_23 ⟨by show cells + 0 ≤ _; omega, by show slots + 0 ≤ _; omega⟩ (fun w2 H locs hw2 hm => ?_)
    rw [hw2] at hm
    have hgk : alg (t 0) (nI k) = some () := by rw [e0]; exact algN (by omega) (by omega)
    have hck : (nI k).toNatClampNeg = k := nI_clamp (by omega)
    -- a copy of the row
    have cpy : ∀ (H : Heap) (locs : List Loc), (k = a ∨ k = b) → MH D vwA A H0 w H locs → W p l e R s m args below meth c H locs (cells + 0) (slots + 0) Q (F0 m 49 ls [.ref q1]) := by
      intro H locs hab hm
      refine lv_aload_n hx hb dX0_exchanged_49 rfl (lv_at hl 2 rfl) ?_
      refine xg_st h0 h1 hw.fw hX hK hNW hm dX0_exchanged_50 dX0_exchanged_53 ?_
      refine cg_Y_town_rows hT (hw.pl hpf) hX hK hNW hm dX0_exchanged_56 ?_
      refine lv_iload hx hb dX0_exchanged_59 (lv_at hl 0 rfl) ?_
      refine mxV hX hK hEv hE0 hm (met_J2_get hEv rfl hT.rows (i := nI k) hgk (hw.pl hpf)) (precv (hw.pl hpf) hK hm 17 rfl hT.rows.obj) (lw_V q968 q427 q428 q134 q429) (n := 1) ⟨rfl, by decide, by decide, by decide +kernel⟩ ⟨Nat.le_trans (m := 13) (Nat.le_of_ble_eq_true rfl) hR.1, Nat.le_trans (m := 500) (Nat.le_of_ble_eq_true rfl) hR.2⟩ rfl rfl hl (Nat.le_of_ble_eq_true rfl) dX0_exchanged_61 ⟨by show cells + 0 + 0 ≤ _; omega, by show slots + 0 + 0 ≤ _; omega⟩ (fun w2 H locs hw2 hm => ?_)
      rw [hw2] at hm
      refine va_castE hx hb hown (hts _ q997) (precv (hw.pl hpf) hK hm 10 rfl ⟨_, hT.row (i := (nI k).toNatClampNeg) (by rw [hck]; exact hi9)⟩) dX0_exchanged_64 ?_
      obtain ⟨r0, hF0, hr0⟩ := copy10 t (nI k)
      rw [hck] at hr0
      have hm : MH D vwA A H0 ([] ++ w) H locs := hm
      refine mrV hX hK hEv hE0 hm (met_X10_copy (i0 := 0) hE.1 hT (hw.pl hpf) hgk hF0) (precv ((hw.pl hpf).up []) hK hm 10 rfl ⟨_, hT.row (i := (nI k).toNatClampNeg) (by rw [hck]; exact hi9)⟩) (lw_V q1411 q1412 q1413 q147 q1414) (n := 0) ⟨rfl, by decide, by decide, by decide +kernel⟩ ⟨Nat.le_trans (m := 13) (Nat.le_of_ble_eq_true rfl) hR.1, Nat.le_trans (m := 500) (Nat.le_of_ble_eq_true rfl) hR.2⟩ rfl rfl hl (Nat.le_of_ble_eq_true rfl) dX0_exchanged_67 ⟨by show cells + 0 + 0 + 2 ≤ _; omega, by show slots + 0 + 0 + 8 ≤ _; omega⟩ (fun vo w2 H locs hw2 hm => ?_)
      obtain ⟨z0, z1, rfl, rfl⟩ := hw2
      rw [hck] at hm
      refine lv_goto (tgt := 91) hx hb dX0_exchanged_70 rfl ?_
      have hd := hm.2.1.1
      obtain ⟨m1, m3, m5, c1, c3, c5, f1, f3, f5, rfl, hL1, hL3, hL5⟩ := hw
      have hz : ∀ i, i < k → (i = a ∨ i = b) → wb i ≠ z1 := fun i hi hab2 e9 => by
        obtain ⟨g0, k2, -⟩ := (hr.1 i hi).2
        rw [if_pos hab2] at k2
        obtain ⟨k9, hk9⟩ := List.getElem?_of_mem (List.mem_append_right [(qt, .inr (2, [.ref q1, .ref q3, .ref q5, .int ov, .int mo, .int 0, .int ri, .int 0])), LC q1 m1 ee (nI k), QA cA ee c1 f1, LC q3 m3 e3 (nI n3), QA cA e3 c3 f3, LC q5 m5 e5 (nI n5), QA cA e5 c5 f5] (List.mem_append_left fw k2))
        have := hd 1 (2 + k9) _ _ rfl (by rw [show 2 + k9 = k9 + 1 + 1 by omega]; exact hk9) e9.symm
        omega
      have hm2 := hm.perm (xw_p1 [((z0, .inr (10, [.int (t (1 + k)), .ref z1, .int (t (31 + k)), .int (t (36 + k)), .int 0])) : Nat × va_E), (z1, .inl (cA 45, 3, .inl r0))] [(qt, .inr (2, [.ref q1, .ref q3, .ref q5, .int ov, .int mo, .int 0, .int ri, .int 0])), LC q1 m1 ee (nI k), QA cA ee c1 f1, LC q3 m3 e3 (nI n3), QA cA e3 c3 f3, LC q5 m5 e5 (nI n5), QA cA e5 c5 f5] Y fw)
      refine tail [((z0, .inr (10, [.int (t (1 + k)), .ref z1, .int (t (31 + k)), .int (t (36 + k)), .int 0])) : Nat × va_E), (z1, .inl (cA 45, 3, .inl r0))] z0 z1 r0 H locs ls ⟨_, ⟨m1, m3, m5, c1, c3, c5, f1, f3, f5, rfl, hL1, hL3, hL5⟩, hm2⟩ (xr_mem hr _ (g := r0) ?_ ?_ hr0 (fun _ => hz)) hl
      · rw [if_pos hab]
        exact List.mem_append_left _ (List.mem_append_left _ (List.mem_of_getElem? (i := 0) rfl))
      · rw [if_pos hab]
        exact List.mem_append_left _ (List.mem_of_getElem? (i := 1) rfl)
    refine lv_icmp_ge (tgt := 101) hx hb dX0_exchanged_26 rfl (fun c9 => ?_) (fun c9 => ?_)
    · rw [e0, le_f (by omega) (by omega)] at c9
      exact c9.elim
    · refine lv_aload_n hx hb dX0_exchanged_29 rfl (lv_at hl 1 rfl) ?_
      refine xw_get_rows hX hK hNW ⟨w, hw, hm⟩ dX0_exchanged_30 ?_
      refine lv_iload hx hb dX0_exchanged_33 (lv_at hl 0 rfl) ?_
      refine lv_iload_n hx hb dX0_exchanged_35 rfl (lv_at hl 3 rfl) ?_
      refine lv_iconst (v := 3) hx hb dX0_exchanged_36 kyi_3 ?_
      refine lv_idiv hx hb dX0_exchanged_37 (by decide) ?_
      refine lv_icmp_eq (tgt := 49) hx hb dX0_exchanged_38 rfl (fun c1 => ?_) (fun c1 => ?_)
      · rw [ha] at c1
        exact cpy H locs (Or.inl ((nI_eq (by omega) (by omega)).mp c1)) hm
      · refine lv_iload hx hb dX0_exchanged_41 (lv_at hl 0 rfl) ?_
        refine lv_iload_n hx hb dX0_exchanged_43 rfl (lv_at hl 4 rfl) ?_
        refine lv_iconst (v := 3) hx hb dX0_exchanged_44 kyi_3 ?_
        refine lv_idiv hx hb dX0_exchanged_45 (by decide) ?_
        refine lv_icmp_ne (tgt := 73) hx hb dX0_exchanged_46 rfl (fun c2 => ?_) (fun c2 => ?_)
        · have hab : ¬ (k = a ∨ k = b) := fun h => by
            rcases h with h | h
            · exact c1 (by rw [ha, h])
            · exact c2 (by rw [hb2, h])
          refine lv_aload_n hx hb dX0_exchanged_73 rfl (lv_at hl 2 rfl) ?_
          refine xg_st h0 h1 hw.fw hX hK hNW hm dX0_exchanged_74 dX0_exchanged_77 ?_
          refine cg_Y_town_rows hT (hw.pl hpf) hX hK hNW hm dX0_exchanged_80 ?_
          refine lv_iload hx hb dX0_exchanged_83 (lv_at hl 0 rfl) ?_
          refine mxV hX hK hEv hE0 hm (met_J2_get hEv rfl hT.rows (i := nI k) hgk (hw.pl hpf)) (precv (hw.pl hpf) hK hm 17 rfl hT.rows.obj) (lw_V q968 q427 q428 q134 q429) (n := 1) ⟨rfl, by decide, by decide, by decide +kernel⟩ ⟨Nat.le_trans (m := 13) (Nat.le_of_ble_eq_true rfl) hR.1, Nat.le_trans (m := 500) (Nat.le_of_ble_eq_true rfl) hR.2⟩ rfl rfl hl (Nat.le_of_ble_eq_true rfl) dX0_exchanged_85 ⟨by show cells + 0 + 0 ≤ _; omega, by show slots + 0 + 0 ≤ _; omega⟩ (fun w2 H locs hw2 hm => ?_)
          rw [hw2] at hm
          refine va_castE hx hb hown (hts _ q997) (precv (hw.pl hpf) hK hm 10 rfl ⟨_, hT.row (i := (nI k).toNatClampNeg) (by rw [hck]; exact hi9)⟩) dX0_exchanged_88 ?_
          rw [hck]
          refine W.widen (k := cells + 2) (n := slots + 8) (by show cells + 0 + 0 ≤ _; omega) (by show slots + 0 + 0 ≤ _; omega) ?_
          obtain ⟨g0, k2, k3⟩ := hT.wish hi9
          refine tail [] (ta (10 + k)) (ta (20 + k)) g0 H locs ls ⟨w, hw, hm⟩ (xr_mem hr [] (g := g0) ?_ ?_ k3 (fun h => absurd h hab)) hl
          · rw [if_neg hab]
            exact List.mem_append_right _ (hT.row hi9)
          · rw [if_neg hab]
            exact k2
        · rw [hb2] at c2
          exact cpy H locs (Or.inr ((nI_eq (by omega) (by omega)).mp c2)) hm
end XLP