set_option maxRecDepth 100000
/-- the town that is exchanged, before its wishes are written -/
def exT (t : Nat → Int32) (a b : Nat) : Nat → Int32 := fun k => if k = 378 ∨ k = 379 then 0 else if k = 210 + a ∨ k = 210 + b then 0 else t k
theorem exT_o {t : Nat → Int32} {a b k : Nat} (h : k < 200) : exT t a b k = t k := by
  unfold exT
  rw [if_neg (by omega), if_neg (by omega)]
def XT (cA : Nat → ClassId) (pl : va_W) (u : Nat → Int32) (a b : Nat) (rr wb : Nat → Nat) (Y : va_W) (n : Nat) : Prop :=
  (∀ j, j < n → ((rr j, .inr (10, [.int (u (1 + j)), .ref (wb j), .int (u (31 + j)), .int (u (36 + j)), .int (u (210 + j))])) : Nat × va_E) ∈ Y ++ pl ∧ ∃ g : Nat → Int32, ((wb j, .inl (cA 45, 3, .inl g)) : Nat × va_E) ∈ (if j = a ∨ j = b then Y else pl) ∧ ∀ i, i < 3 → g i = u (41 + 3 * j + i)) ∧ ∀ j, j < n → ∀ i, i < n → (j = a ∨ j = b) → (i = a ∨ i = b) → wb j = wb i → j = i
theorem XR.toT {cA : Nat → ClassId} {pl : va_W} {t : Nat → Int32} {a b : Nat} {rr wb : Nat → Nat} {Y : va_W} {n : Nat} (h : XR cA pl t a b rr wb Y n) (hn : n ≤ 5) : XT cA pl (exT t a b) a b rr wb Y n := by
  refine ⟨fun j hj => ?_, h.2⟩
  obtain ⟨h1, g, h2, h3⟩ := h.1 j hj
  refine ⟨?_, g, h2, fun i hi => by rw [exT_o (by omega)]; exact h3 i hi⟩
  have e : exT t a b (210 + j) = if j = a ∨ j = b then 0 else t (210 + j) := by
    unfold exT
    rw [if_neg (by omega)]
    by_cases c : j = a ∨ j = b
    · rw [if_pos c, if_pos (by omega)]
    · rw [if_neg c, if_neg (by omega)]
  rw [exT_o (by omega), exT_o (by omega), exT_o (by omega), e]
  exact h1
theorem mem_swap {α : Type} {l1 l2 fw : List α} {c c' x : α} (h : x ∈ (l1 ++ c :: l2) ++ fw) (hx : x ≠ c) : x ∈ (l1 ++ c' :: l2) ++ fw := by
  rcases List.mem_append.mp h with h | h
  · refine List.mem_append_left _ ?_
    rcases List.mem_append.mp h with h | h
    · exact List.mem_append_left _ h
    · rcases List.mem_cons.mp h with h | h
      · exact absurd h hx
      · exact List.mem_append_right _ (List.mem_cons_of_mem _ h)
  · exact List.mem_append_right _ h
theorem mem_swap0 {α : Type} {l1 l2 : List α} {c c' x : α} (h : x ∈ l1 ++ c :: l2) (hx : x ≠ c) : x ∈ l1 ++ c' :: l2 := by
  have := mem_swap (c' := c') (fw := []) (show x ∈ (l1 ++ c :: l2) ++ [] by rw [List.append_nil]; exact h) hx
  rw [List.append_nil] at this
  exact this
section XE
variable {p : Program} {l : Launch} {e : Env} {R : Room} {s : State} {m : MethodId} {args : Array Value} {below : List Frame} {meth : Method} {c : Code} {H : Heap} {locs : List Loc} {cells slots : Nat} {Q : State → Prop}
variable {D : va_G} {A : Nat → Prop} {H0 : Heap} {pc : Nat} {ls : Array Slot} {rest : List Value} {cc : ByteArray} {nL : Nat} {own : String} {lv : List (Nat × Value)}
variable {cA : Nat → ClassId} {fw : va_W} {qt q1 q3 q5 : Nat} {e1 e3 e5 n1 n3 n5 : Nat} {r1 r3 r5 : Nat → Nat} {X : va_W} {ov mo ri : Int32} {E : EvT} {mi : Nat} {pl : va_W}
theorem xw_store {a b k n : Nat} {u u' : Nat → Int32} {wb : Nat → Nat} {i z : Int32} (hn : n ≤ 5) (hc : k = a ∨ k = b) (hcn : k < n) (hxt : XT cA pl u a b r1 wb X n) (hX : CallFix p m c cc nL s args lw_all own) (hK : va_K D vwA (cT cA) s) (hH : RHG (XW cA fw qt q1 q3 q5 e1 e3 e5 n1 n3 n5 r1 r3 r5 X ov mo ri) D A H0 H locs) (hi : vp_in i 3) (hu : u' = upd u (41 + 3 * k + i.toNatClampNeg) z) (hdg : decode cc pc = .ok (.iastore, 1)) (kk : ∀ (X' : va_W) (H1 : Heap) (locs1 : List Loc), RHG (XW cA fw qt q1 q3 q5 e1 e3 e5 n1 n3 n5 r1 r3 r5 X' ov mo ri) D A H0 H1 locs1 → XT cA pl u' a b r1 wb X' n → W p l e R s m args below meth c H1 locs1 cells slots Q (F0 m (pc + 1) ls rest)) : W p l e R s m args below meth c H locs cells slots Q (F0 m pc ls (.int z :: .int i :: .ref (wb k) :: rest)) := by
  obtain ⟨g, hg, hgv⟩ := (hxt.1 k hcn).2
  rw [if_pos hc] at hg
  obtain ⟨l1, l2, rfl⟩ := List.append_of_mem hg
  obtain ⟨w, ⟨m1, m3, m5, c1, c3, c5, f1, f3, f5, rfl, hL1, hL3, hL5⟩, hm⟩ := hH
  have hi3 : i.toNatClampNeg < 3 := Nat.not_le.mp fun q => hi (Or.inr q)
  have ee : ∀ x : Nat × va_E, [(qt, .inr (2, [.ref q1, .ref q3, .ref q5, .int ov, .int mo, .int 0, .int ri, .int 0])), LC q1 m1 e1 (nI n1), QA cA e1 c1 f1, LC q3 m3 e3 (nI n3), QA cA e3 c3 f3, LC q5 m5 e5 (nI n5), QA cA e5 c5 f5] ++ ((l1 ++ x :: l2) ++ fw) = ([(qt, .inr (2, [.ref q1, .ref q3, .ref q5, .int ov, .int mo, .int 0, .int ri, .int 0])), LC q1 m1 e1 (nI n1), QA cA e1 c1 f1, LC q3 m3 e3 (nI n3), QA cA e3 c3 f3, LC q5 m5 e5 (nI n5), QA cA e5 c5 f5] ++ l1) ++ x :: (l2 ++ fw) := fun x => by
    rw [List.append_assoc l1, ← List.append_assoc]
    rfl
  rw [ee] at hm
  refine va_iast hX.1 hX.2.1 hK hm.1 hm.2.1 hm.2.2.1 ([(qt, .inr (2, [.ref q1, .ref q3, .ref q5, .int ov, .int mo, .int 0, .int ri, .int 0])), LC q1 m1 e1 (nI n1), QA cA e1 c1 f1, LC q3 m3 e3 (nI n3), QA cA e3 c3 f3, LC q5 m5 e5 (nI n5), QA cA e5 c5 f5] ++ l1).length 29 (rr_at _ _ _) rfl hi hdg (fun H1 locs1 hP hD hS => ?_)
  rw [rr_set, ← ee] at hP hD
  refine kk (l1 ++ (wb k, .inl (cA 45, 3, .inl (upd g i.toNatClampNeg z))) :: l2) H1 locs1 ⟨_, ⟨m1, m3, m5, c1, c3, c5, f1, f3, f5, rfl, hL1, hL3, hL5⟩, ⟨hP, hD, hS, hm.2.2.2⟩⟩ ?_
  generalize i.toNatClampNeg = i at *
  subst hu
  refine ⟨fun j hj => ?_, hxt.2⟩
  obtain ⟨h1, g0, h2, h3⟩ := hxt.1 j hj
  have o1 : ∀ k2, k2 < 41 ∨ 56 ≤ k2 → upd u (41 + 3 * k + i) z k2 = u k2 := fun k2 h => if_neg (by omega)
  refine ⟨?_, ?_⟩
  · rw [o1 _ (by omega), o1 _ (by omega), o1 _ (by omega), o1 _ (by omega)]
    exact mem_swap h1 (by intro h; have := congrArg Prod.snd h; cases this)
  · by_cases c : j = k
    · subst c
      refine ⟨upd g i z, ?_, fun i2 hi2 => ?_⟩
      · rw [if_pos hc]
        exact List.mem_append_right _ List.mem_cons_self
      · show (if i2 = i then z else g i2) = (if 41 + 3 * j + i2 = 41 + 3 * j + i then z else u (41 + 3 * j + i2))
        by_cases c2 : i2 = i
        · rw [if_pos c2, if_pos (by omega)]
        · rw [if_neg c2, if_neg (by omega)]
          exact hgv i2 hi2
    · refine ⟨g0, ?_, fun i2 hi2 => ?_⟩
      · by_cases c2 : j = a ∨ j = b
        · rw [if_pos c2] at h2 ⊢
          exact mem_swap0 h2 (by
            intro h
            exact c (hxt.2 j hj k hcn c2 hc (congrArg Prod.fst h)))
        · rw [if_neg c2] at h2 ⊢
          exact h2
      · rw [show upd u (41 + 3 * k + i) z (41 + 3 * j + i2) = u (41 + 3 * j + i2) from if_neg (by omega)]
        exact h3 i2 hi2
theorem xw_put_over {z : Int32} (hX : CallFix p m c cc nL s args lw_all RX0) (hK : va_K D vwA (cT cA) s) (hNW : NW s) (hH : RHG (XW cA fw qt q1 q3 q5 e1 e3 e5 n1 n3 n5 r1 r3 r5 X ov mo ri) D A H0 H locs) (hdg : decode cc pc = .ok (.putfield 463, 3)) (kk : ∀ (H1 : Heap) (locs1 : List Loc), RHG (XW cA fw qt q1 q3 q5 e1 e3 e5 n1 n3 n5 r1 r3 r5 X z mo ri) D A H0 H1 locs1 → W p l e R s m args below meth c H1 locs1 cells slots Q (F0 m (pc + 3) ls rest)) : W p l e R s m args below meth c H locs cells slots Q (F0 m pc ls (.int z :: .ref qt :: rest)) := by
  obtain ⟨w, ⟨m1, m3, m5, c1, c3, c5, f1, f3, f5, rfl, hL1, hL3, hL5⟩, hm⟩ := hH
  exact va_putN (C := RX2) (T := TX2) (N := 8) (ty := .int) hX.1 hX.2.1 hX.2.2.2.2 in_X2 tyX2 tyX2_ok nmX2 hX.2.2.2.1 hK hm.1 hm.2.1 hm.2.2.1 0 rfl rfl 3 (by decide) (va_Nw.use rfl (hNW _ nw_q233)) (fun _ h9 => h9) rfl (by decide +kernel) rfl rfl (Nat.le_of_ble_eq_true rfl) hdg (fun H1 locs1 hP hD hS => kk H1 locs1 ⟨_, ⟨m1, m3, m5, c1, c3, c5, f1, f3, f5, rfl, hL1, hL3, hL5⟩, hP, hD, hS, hm.2.2.2⟩)
theorem xw_put_most {z : Int32} (hX : CallFix p m c cc nL s args lw_all RX0) (hK : va_K D vwA (cT cA) s) (hNW : NW s) (hH : RHG (XW cA fw qt q1 q3 q5 e1 e3 e5 n1 n3 n5 r1 r3 r5 X ov mo ri) D A H0 H locs) (hdg : decode cc pc = .ok (.putfield 466, 3)) (kk : ∀ (H1 : Heap) (locs1 : List Loc), RHG (XW cA fw qt q1 q3 q5 e1 e3 e5 n1 n3 n5 r1 r3 r5 X ov z ri) D A H0 H1 locs1 → W p l e R s m args below meth c H1 locs1 cells slots Q (F0 m (pc + 3) ls rest)) : W p l e R s m args below meth c H locs cells slots Q (F0 m pc ls (.int z :: .ref qt :: rest)) := by
  obtain ⟨w, ⟨m1, m3, m5, c1, c3, c5, f1, f3, f5, rfl, hL1, hL3, hL5⟩, hm⟩ := hH
  exact va_putN (C := RX2) (T := TX2) (N := 8) (ty := .int) hX.1 hX.2.1 hX.2.2.2.2 in_X2 tyX2 tyX2_ok nmX2 hX.2.2.2.1 hK hm.1 hm.2.1 hm.2.2.1 0 rfl rfl 4 (by decide) (va_Nw.use rfl (hNW _ nw_q237)) (fun _ h9 => h9) rfl (by decide +kernel) rfl rfl (Nat.le_of_ble_eq_true rfl) hdg (fun H1 locs1 hP hD hS => kk H1 locs1 ⟨_, ⟨m1, m3, m5, c1, c3, c5, f1, f3, f5, rfl, hL1, hL3, hL5⟩, hP, hD, hS, hm.2.2.2⟩)
theorem xw_put_rings {z : Int32} (hn : narrow .boolean (.int z) = .int z ∧ fits .boolean (.int z) = true) (hX : CallFix p m c cc nL s args lw_all RX0) (hK : va_K D vwA (cT cA) s) (hNW : NW s) (hH : RHG (XW cA fw qt q1 q3 q5 e1 e3 e5 n1 n3 n5 r1 r3 r5 X ov mo ri) D A H0 H locs) (hdg : decode cc pc = .ok (.putfield 469, 3)) (kk : ∀ (H1 : Heap) (locs1 : List Loc), RHG (XW cA fw qt q1 q3 q5 e1 e3 e5 n1 n3 n5 r1 r3 r5 X ov mo z) D A H0 H1 locs1 → W p l e R s m args below meth c H1 locs1 cells slots Q (F0 m (pc + 3) ls rest)) : W p l e R s m args below meth c H locs cells slots Q (F0 m pc ls (.int z :: .ref qt :: rest)) := by
  obtain ⟨w, ⟨m1, m3, m5, c1, c3, c5, f1, f3, f5, rfl, hL1, hL3, hL5⟩, hm⟩ := hH
  exact va_putN (C := RX2) (T := TX2) (N := 8) (ty := .boolean) hX.1 hX.2.1 hX.2.2.2.2 in_X2 tyX2 tyX2_ok nmX2 hX.2.2.2.1 hK hm.1 hm.2.1 hm.2.2.1 0 rfl rfl 6 (by decide) (va_Nw.use rfl (hNW _ nw_q242)) (fun _ h9 => h9) rfl (by decide +kernel) hn.1 hn.2 (Nat.le_of_ble_eq_true rfl) hdg (fun H1 locs1 hP hD hS => kk H1 locs1 ⟨_, ⟨m1, m3, m5, c1, c3, c5, f1, f3, f5, rfl, hL1, hL3, hL5⟩, hP, hD, hS, hm.2.2.2⟩)
theorem xw_row {a b n k : Nat} {u : Nat → Int32} {wb : Nat → Nat} (hE : EvL E mi) (hX : CallFix p m c cc nL s args lw_all RX0) (hK : va_K D vwA (cT cA) s) (hNW : NW s) (hE0 : E A s H0) (hpf : ∀ q ∈ pl, q ∈ fw) (hH : RHG (XW cA fw qt q1 q3 q5 e1 e3 e5 n n3 n5 r1 r3 r5 X ov mo ri) D A H0 H locs) (hxt : XT cA pl u a b r1 wb X n) (hk : k < n) (hn : n ≤ 5) (hl : lv_has ls nL lv) (hR : 13 ≤ R.frames ∧ 500 ≤ R.locals) (hf : cells ≤ R.cells ∧ slots ≤ R.slots) (d1 : decode cc pc = .ok (.invokevirtual 170, 3)) (d2 : decode cc (pc + 3) = .ok (.checkcast 203, 3)) (d3 : decode cc (pc + 6) = .ok (.getfield 217, 3)) (kk : ∀ (H1 : Heap) (locs1 : List Loc), RHG (XW cA fw qt q1 q3 q5 e1 e3 e5 n n3 n5 r1 r3 r5 X ov mo ri) D A H0 H1 locs1 → W p l e R s m args below meth c H1 locs1 cells slots Q (F0 m (pc + 9) ls [.ref (wb k)])) : W p l e R s m args below meth c H locs cells slots Q (F0 m pc ls [.int (nI k), .ref q1]) := by
  obtain ⟨w, ⟨m1, m3, m5, c1, c3, c5, f1, f3, f5, rfl, hL1, hL3, hL5⟩, hm⟩ := hH
  have hEv := hE.1.1
  have hcl : (nI n).toNatClampNeg = n := nI_clamp (by omega)
  have hL : LsAt cA ([(qt, .inr (2, [.ref q1, .ref q3, .ref q5, .int ov, .int mo, .int 0, .int ri, .int 0])), LC q1 m1 e1 (nI n), QA cA e1 c1 f1, LC q3 m3 e3 (nI n3), QA cA e3 c3 f3, LC q5 m5 e5 (nI n5), QA cA e5 c5 f5] ++ (X ++ fw)) q1 e1 (nI n) r1 := ⟨m1, c1, f1, List.mem_append_left _ (List.mem_of_getElem? (i := 1) rfl), List.mem_append_left _ (List.mem_of_getElem? (i := 2) rfl), by rw [hcl]; exact hL1.2.2.1, by rw [hcl]; exact hL1.2.2.2⟩
  refine mxV hX hK hEv hE0 hm (met_J2_get hEv rfl hL (i := nI k) (algN hk (by omega)) (plin _)) (precv (plin _) hK hm 17 rfl hL.obj) (lw_V q968 q427 q428 q134 q429) (n := 1) ⟨rfl, by decide, by decide, by decide +kernel⟩ ⟨Nat.le_trans (m := 13) (Nat.le_of_ble_eq_true rfl) hR.1, Nat.le_trans (m := 500) (Nat.le_of_ble_eq_true rfl) hR.2⟩ rfl rfl hl (Nat.le_of_ble_eq_true rfl) d1 ⟨by have := hf.1; show cells + 0 ≤ _; omega, by have := hf.2; show slots + 0 ≤ _; omega⟩ (fun w2 H locs hw2 hm => ?_)
  rw [hw2] at hm
  rw [nI_clamp (by omega)]
  obtain ⟨h1, -⟩ := hxt.1 k hk
  have h1' : ((r1 k, .inr (10, [.int (u (1 + k)), .ref (wb k), .int (u (31 + k)), .int (u (36 + k)), .int (u (210 + k))])) : Nat × va_E) ∈ [(qt, .inr (2, [.ref q1, .ref q3, .ref q5, .int ov, .int mo, .int 0, .int ri, .int 0])), LC q1 m1 e1 (nI n), QA cA e1 c1 f1, LC q3 m3 e3 (nI n3), QA cA e3 c3 f3, LC q5 m5 e5 (nI n5), QA cA e5 c5 f5] ++ (X ++ fw) := List.mem_append_right _ ((List.mem_append.mp h1).elim (fun h => List.mem_append_left _ h) (fun h => List.mem_append_right _ (hpf _ h)))
  refine va_castE hX.1 hX.2.1 hX.2.2.2.1 (hX.2.2.2.2 _ q997) (precv (plin _) hK hm 10 rfl ⟨_, h1'⟩) d2 ?_
  obtain ⟨k9, hk9⟩ := List.getElem?_of_mem h1'
  refine va_getN (C := RX10) (T := TX10) (N := 5) hX.1 hX.2.1 hX.2.2.2.2 in_X10 hX.2.2.2.1 hK hm.1 k9 hk9 rfl 1 (by decide) (va_Nw.use rfl (hNW _ nw_q691)) (fun _ h9 => h9) rfl d3 ?_
  exact kk H locs ⟨_, ⟨m1, m3, m5, c1, c3, c5, f1, f3, f5, rfl, hL1, hL3, hL5⟩, hm⟩
theorem XW.town {a b : Nat} {t u : Nat → Int32} {ta wb : Nat → Nat} {w : va_W} (h : (XW cA fw qt q1 q3 q5 e1 e3 e5 n1 n3 n5 r1 r3 r5 X (u 75) (u 76) (u 77)) w) (hxt : XT cA pl u a b r1 wb X n1) (hT : TownAt cA pl ta t) (h3 : ∀ i, i < n3 → r3 i = ta (30 + i)) (h5 : ∀ i, i < n5 → r5 i = ta (40 + i)) (l1 : n1 ≤ 5) (l3 : n3 ≤ 8) (l5 : n5 ≤ 6) (e0 : t 0 = nI n1) (e6 : t 6 = nI n3) (e56 : t 56 = nI n5) (hu : ∀ k, k = 0 ∨ (6 ≤ k ∧ k < 31) ∨ (56 ≤ k ∧ k < 75) ∨ (200 ≤ k ∧ k < 208) → u k = t k) (hu8 : u 378 = 0) (hu9 : u 379 = 0) : ∃ (Z : va_W) (tb : Nat → Nat), tb 0 = qt ∧ w.Perm (fw ++ Z) ∧ TownAt cA (pl ++ Z) tb u := by
  obtain ⟨m1, m3, m5, c1, c3, c5, f1, f3, f5, rfl, hL1, hL3, hL5⟩ := h
  have k1 : (u 0).toNatClampNeg = n1 := by rw [hu 0 (by omega), e0]; exact nI_clamp (by omega)
  have k3 : (u 6).toNatClampNeg = n3 := by rw [hu 6 (by omega), e6]; exact nI_clamp (by omega)
  have k5 : (u 56).toNatClampNeg = n5 := by rw [hu 56 (by omega), e56]; exact nI_clamp (by omega)
  have j3 : (t 6).toNatClampNeg = n3 := by rw [e6]; exact nI_clamp (by omega)
  have j5 : (t 56).toNatClampNeg = n5 := by rw [e56]; exact nI_clamp (by omega)
  have sub : ∀ q, q ∈ X ++ pl → q ∈ pl ++ ([(qt, .inr (2, [.ref q1, .ref q3, .ref q5, .int (u 75), .int (u 76), .int 0, .int (u 77), .int 0])), LC q1 m1 e1 (nI n1), QA cA e1 c1 f1, LC q3 m3 e3 (nI n3), QA cA e3 c3 f3, LC q5 m5 e5 (nI n5), QA cA e5 c5 f5] ++ X) := fun q h => (List.mem_append.mp h).elim (fun h => List.mem_append_right _ (List.mem_append_right _ h)) (fun h => List.mem_append_left _ h)
  refine ⟨[(qt, .inr (2, [.ref q1, .ref q3, .ref q5, .int (u 75), .int (u 76), .int 0, .int (u 77), .int 0])), LC q1 m1 e1 (nI n1), QA cA e1 c1 f1, LC q3 m3 e3 (nI n3), QA cA e3 c3 f3, LC q5 m5 e5 (nI n5), QA cA e5 c5 f5] ++ X, fun k => if k = 0 then qt else if k = 1 then q1 else if k = 2 then e1 else if k = 3 then q3 else if k = 4 then e3 else if k = 5 then q5 else if k = 6 then e5 else if k < 20 then r1 (k - 10) else if k < 30 then wb (k - 20) else ta k, rfl, ?_, ?_⟩
  · rw [← List.append_assoc]
    exact List.perm_append_comm
  have f7 : ∀ (i : Nat) (q : Nat × va_E), [(qt, .inr (2, [.ref q1, .ref q3, .ref q5, .int (u 75), .int (u 76), .int 0, .int (u 77), .int 0])), LC q1 m1 e1 (nI n1), QA cA e1 c1 f1, LC q3 m3 e3 (nI n3), QA cA e3 c3 f3, LC q5 m5 e5 (nI n5), QA cA e5 c5 f5][i]? = some q → q ∈ pl ++ ([(qt, .inr (2, [.ref q1, .ref q3, .ref q5, .int (u 75), .int (u 76), .int 0, .int (u 77), .int 0])), LC q1 m1 e1 (nI n1), QA cA e1 c1 f1, LC q3 m3 e3 (nI n3), QA cA e3 c3 f3, LC q5 m5 e5 (nI n5), QA cA e5 c5 f5] ++ X) := fun i q h => List.mem_append_right _ (List.mem_append_left _ (List.mem_of_getElem? h))
  have g10 : ∀ i, i < n1 → (fun k => if k = 0 then qt else if k = 1 then q1 else if k = 2 then e1 else if k = 3 then q3 else if k = 4 then e3 else if k = 5 then q5 else if k = 6 then e5 else if k < 20 then r1 (k - 10) else if k < 30 then wb (k - 20) else ta k) (10 + i) = r1 i := fun i hi => by
    show (if 10 + i = 0 then qt else if 10 + i = 1 then q1 else if 10 + i = 2 then e1 else if 10 + i = 3 then q3 else if 10 + i = 4 then e3 else if 10 + i = 5 then q5 else if 10 + i = 6 then e5 else if 10 + i < 20 then r1 (10 + i - 10) else if 10 + i < 30 then wb (10 + i - 20) else ta (10 + i)) = r1 i
    rw [if_neg (by omega), if_neg (by omega), if_neg (by omega), if_neg (by omega), if_neg (by omega), if_neg (by omega), if_neg (by omega), if_pos (by omega), Nat.add_sub_cancel_left]
  have g20 : ∀ i, i < n1 → (fun k => if k = 0 then qt else if k = 1 then q1 else if k = 2 then e1 else if k = 3 then q3 else if k = 4 then e3 else if k = 5 then q5 else if k = 6 then e5 else if k < 20 then r1 (k - 10) else if k < 30 then wb (k - 20) else ta k) (20 + i) = wb i := fun i hi => by
    show (if 20 + i = 0 then qt else if 20 + i = 1 then q1 else if 20 + i = 2 then e1 else if 20 + i = 3 then q3 else if 20 + i = 4 then e3 else if 20 + i = 5 then q5 else if 20 + i = 6 then e5 else if 20 + i < 20 then r1 (20 + i - 10) else if 20 + i < 30 then wb (20 + i - 20) else ta (20 + i)) = wb i
    rw [if_neg (by omega), if_neg (by omega), if_neg (by omega), if_neg (by omega), if_neg (by omega), if_neg (by omega), if_neg (by omega), if_neg (by omega), if_pos (by omega), Nat.add_sub_cancel_left]
  have g30 : ∀ k, 30 ≤ k → (fun k => if k = 0 then qt else if k = 1 then q1 else if k = 2 then e1 else if k = 3 then q3 else if k = 4 then e3 else if k = 5 then q5 else if k = 6 then e5 else if k < 20 then r1 (k - 10) else if k < 30 then wb (k - 20) else ta k) k = ta k := fun k hk => by
    show (if k = 0 then qt else if k = 1 then q1 else if k = 2 then e1 else if k = 3 then q3 else if k = 4 then e3 else if k = 5 then q5 else if k = 6 then e5 else if k < 20 then r1 (k - 10) else if k < 30 then wb (k - 20) else ta k) = ta k
    rw [if_neg (by omega), if_neg (by omega), if_neg (by omega), if_neg (by omega), if_neg (by omega), if_neg (by omega), if_neg (by omega), if_neg (by omega), if_neg (by omega)]
  have g0 : ∀ F : Nat → Nat, (F 0 = qt ∧ F 1 = q1 ∧ F 2 = e1 ∧ F 3 = q3 ∧ F 4 = e3 ∧ F 5 = q5 ∧ F 6 = e5) → (∀ i, i < n1 → F (10 + i) = r1 i) → (∀ i, i < n1 → F (20 + i) = wb i) → (∀ k, 30 ≤ k → F k = ta k) → TownAt cA (pl ++ ([(qt, .inr (2, [.ref q1, .ref q3, .ref q5, .int (u 75), .int (u 76), .int 0, .int (u 77), .int 0])), LC q1 m1 e1 (nI n1), QA cA e1 c1 f1, LC q3 m3 e3 (nI n3), QA cA e3 c3 f3, LC q5 m5 e5 (nI n5), QA cA e5 c5 f5] ++ X)) F u := by
    rintro F ⟨a0, a1, a2, a3, a4, a5, a6⟩ b1 b2 b3
    refine ⟨by rw [a0, a1, a3, a5, hu8, hu9]; exact f7 0 _ rfl, ⟨m1, c1, f1, by rw [a1, a2, hu 0 (by omega), e0]; exact f7 1 _ rfl, by rw [a2]; exact f7 2 _ rfl, by rw [k1]; exact hL1.2.2.1, ?_⟩, ⟨m3, c3, f3, by rw [a3, a4, hu 6 (by omega), e6]; exact f7 3 _ rfl, by rw [a4]; exact f7 4 _ rfl, by rw [k3]; exact hL3.2.2.1, ?_⟩, ⟨m5, c5, f5, by rw [a5, a6, hu 56 (by omega), e56]; exact f7 5 _ rfl, by rw [a6]; exact f7 6 _ rfl, by rw [k5]; exact hL5.2.2.1, ?_⟩, ?_, ?_, ?_⟩
    · rw [k1]; intro i hi; show f1 i = some (F (10 + i)); rw [b1 i hi]; exact hL1.2.2.2 i hi
    · rw [k3]; intro i hi; show f3 i = some (F (30 + i)); rw [b3 (30 + i) (by omega), ← h3 i hi]; exact hL3.2.2.2 i hi
    · rw [k5]; intro i hi; show f5 i = some (F (40 + i)); rw [b3 (40 + i) (by omega), ← h5 i hi]; exact hL5.2.2.2 i hi
    · rw [k1]
      intro i hi
      obtain ⟨y1, g, y2, y3⟩ := hxt.1 i hi
      rw [b1 i hi, b2 i hi]
      refine ⟨sub _ y1, g, sub _ ?_, y3⟩
      by_cases c : i = a ∨ i = b
      · rw [if_pos c] at y2
        exact List.mem_append_left _ y2
      · rw [if_neg c] at y2
        exact List.mem_append_right _ y2
    · rw [k3]
      intro i hi
      rw [b3 _ (by omega), hu (7 + i) (by omega), hu (15 + i) (by omega), hu (200 + i) (by omega), hu (23 + i) (by omega)]
      exact List.mem_append_left _ (hT.stone (by rw [j3]; exact hi))
    · rw [k5]
      intro i hi
      rw [b3 _ (by omega), hu (57 + i) (by omega), hu (63 + i) (by omega), hu (69 + i) (by omega)]
      exact List.mem_append_left _ (hT.must (by rw [j5]; exact hi))
  exact g0 _ ⟨rfl, rfl, rfl, rfl, rfl, rfl, rfl⟩ g10 g20 g30
end XE