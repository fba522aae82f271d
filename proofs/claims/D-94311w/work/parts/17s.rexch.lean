set_option maxRecDepth 100000
/-! a town that is made from another one -/
def XW (cA : Nat → ClassId) (fw : va_W) (qt q1 q3 q5 : Nat) (e1 e3 e5 n1 n3 n5 : Nat) (r1 r3 r5 : Nat → Nat) (X : va_W) (ov mo ri : Int32) (w : va_W) : Prop :=
  ∃ (m1 m3 m5 : Int32) (c1 c3 c5 : Nat) (f1 f3 f5 : Nat → Option Nat), w = [(qt, .inr (2, [.ref q1, .ref q3, .ref q5, .int ov, .int mo, .int 0, .int ri, .int 0])), LC q1 m1 e1 (nI n1), QA cA e1 c1 f1, LC q3 m3 e3 (nI n3), QA cA e3 c3 f3, LC q5 m5 e5 (nI n5), QA cA e5 c5 f5] ++ (X ++ fw) ∧ LOk c1 n1 f1 r1 ∧ LOk c3 n3 f3 r3 ∧ LOk c5 n5 f5 r5
def ElX (V : va_W) (x : Nat) : Prop := ∃ (ci : Nat) (fs : List Value), 10 ≤ ci ∧ ci ≤ 16 ∧ ((x, .inr (ci, fs)) : Nat × va_E) ∈ V
theorem XW.fw {cA : Nat → ClassId} {fw : va_W} {qt q1 q3 q5 : Nat} {e1 e3 e5 n1 n3 n5 : Nat} {r1 r3 r5 : Nat → Nat} {X : va_W} {ov mo ri : Int32} {w : va_W} (h : (XW cA fw qt q1 q3 q5 e1 e3 e5 n1 n3 n5 r1 r3 r5 X ov mo ri) w) : PlIn fw w := by
  obtain ⟨m1, m3, m5, c1, c3, c5, f1, f3, f5, rfl, -⟩ := h
  exact fun q hq => List.getElem?_of_mem (List.mem_append_right _ (List.mem_append_right _ hq))
theorem XW.pl {cA : Nat → ClassId} {fw : va_W} {qt q1 q3 q5 : Nat} {e1 e3 e5 n1 n3 n5 : Nat} {r1 r3 r5 : Nat → Nat} {X : va_W} {ov mo ri : Int32} {w pl : va_W} (h : (XW cA fw qt q1 q3 q5 e1 e3 e5 n1 n3 n5 r1 r3 r5 X ov mo ri) w) (hf : ∀ q ∈ pl, q ∈ fw) : PlIn pl w := fun q hq => h.fw q (hf q hq)
theorem copy10 (u : Nat → Int32) (i : Int32) : ∃ r0 : Nat → Int32, FX10_copy u i = some r0 ∧ ∀ j, j < 3 → r0 j = u (41 + 3 * i.toNatClampNeg + j) := by
  have st : ∀ (x : Int32) (g : Nat → Int32), (x = 0 ∨ x = 1 ∨ x = 2) → FX10_copy_b30 u i x g = some (.inl (x + 1, upd g x.toNatClampNeg (u (41 + 3 * i.toNatClampNeg + x.toNatClampNeg)))) := by
    intro x g hx
    rcases hx with rfl | rfl | rfl <;> (unfold FX10_copy_b30; rfl)
  have en : ∀ (g : Nat → Int32), FX10_copy_b30 u i 3 g = some (.inr g) := fun g => by
    unfold FX10_copy_b30
    exact if_pos (Int32.le_refl _)
  unfold FX10_copy
  rw [loopC_inl (show (fun s : Int32 × (Nat → Int32) => FX10_copy_b30 u i s.1 s.2) (0, _) = _ from st 0 _ (Or.inl rfl)), loopC_inl (show (fun s : Int32 × (Nat → Int32) => FX10_copy_b30 u i s.1 s.2) (1, _) = _ from st 1 _ (Or.inr (Or.inl rfl))), loopC_inl (show (fun s : Int32 × (Nat → Int32) => FX10_copy_b30 u i s.1 s.2) (2, _) = _ from st 2 _ (Or.inr (Or.inr rfl))), loopC_inr (show (fun s : Int32 × (Nat → Int32) => FX10_copy_b30 u i s.1 s.2) (3, _) = _ from en _)]
  refine ⟨_, rfl, fun j hj => ?_⟩
  match j, hj with
  | 0, _ => rfl
  | 1, _ => rfl
  | 2, _ => rfl
theorem xw_p1 {α : Type} (xs h X fw : List α) : (xs ++ (h ++ (X ++ fw))).Perm (h ++ ((xs ++ X) ++ fw)) := by
  rw [List.append_assoc xs]
  exact List.perm_append_comm_assoc xs h (X ++ fw)
section XWS
variable {p : Program} {l : Launch} {e : Env} {R : Room} {s : State} {m : MethodId} {args : Array Value} {below : List Frame} {meth : Method} {c : Code} {H : Heap} {locs : List Loc} {cells slots : Nat} {Q : State → Prop}
variable {D : va_G} {A : Nat → Prop} {H0 : Heap} {pc : Nat} {ls : Array Slot} {rest : List Value} {cc : ByteArray} {nL : Nat} {own : String} {lv : List (Nat × Value)}
variable {cA : Nat → ClassId} {fw : va_W} {qt q1 q3 q5 : Nat} {e1 e3 e5 n1 n3 n5 : Nat} {r1 r3 r5 : Nat → Nat} {X : va_W} {ov mo ri : Int32} {E : EvT} {mi : Nat}
theorem xg_st {V : va_W} {x0 y0 t0 : Nat} (h0 : ∃ fs : List Value, ((x0, .inr (0, .ref y0 :: fs)) : Nat × va_E) ∈ V) (h1 : ∃ fs : List Value, ((y0, .inr (1, .ref t0 :: fs)) : Nat × va_E) ∈ V) {w : va_W} (hp : PlIn V w) (hX : CallFix p m c cc nL s args lw_all RX0) (hK : va_K D vwA (cT cA) s) (hNW : NW s) (hH : MH D vwA A H0 w H locs) (d1 : decode cc pc = .ok (.getfield 10, 3)) (d2 : decode cc (pc + 3) = .ok (.getfield 91, 3)) (kk : W p l e R s m args below meth c H locs cells slots Q (F0 m (pc + 6) ls (.ref t0 :: rest))) : W p l e R s m args below meth c H locs cells slots Q (F0 m pc ls (.ref x0 :: rest)) := by
  obtain ⟨fs0, h0⟩ := h0
  obtain ⟨fs1, h1⟩ := h1
  obtain ⟨k0, hk0⟩ := hp _ h0
  obtain ⟨k1, hk1⟩ := hp _ h1
  refine va_get (C := RX0) (T := TX0) (N := 23) hX.1 hX.2.1 hX.2.2.2.2 in_X0 hX.2.2.2.1 hK hH.1 k0 hk0 rfl 0 (by decide) (hX.2.2.2.2 _ q441) (fun _ h9 => h9) rfl d1 ?_
  exact va_getN (C := RX1) (T := TX1) (N := 6) hX.1 hX.2.1 hX.2.2.2.2 in_X1 hX.2.2.2.1 hK hH.1 k1 hk1 rfl 0 (by decide) (va_Nw.use rfl (hNW _ nw_q266)) (fun _ h9 => h9) rfl d2 kk
theorem xw_get_rows (hX : CallFix p m c cc nL s args lw_all RX0) (hK : va_K D vwA (cT cA) s) (hNW : NW s) (hH : RHG (XW cA fw qt q1 q3 q5 e1 e3 e5 n1 n3 n5 r1 r3 r5 X ov mo ri) D A H0 H locs) (hdg : decode cc pc = .ok (.getfield 201, 3)) (kk : W p l e R s m args below meth c H locs cells slots Q (F0 m (pc + 3) ls (.ref q1 :: rest))) : W p l e R s m args below meth c H locs cells slots Q (F0 m pc ls (.ref qt :: rest)) := by
  obtain ⟨w, ⟨m1, m3, m5, c1, c3, c5, f1, f3, f5, rfl, hL1, hL3, hL5⟩, hm⟩ := hH
  exact va_getN (C := RX2) (T := TX2) (N := 8) hX.1 hX.2.1 hX.2.2.2.2 in_X2 hX.2.2.2.1 hK hm.1 0 rfl rfl 0 (by decide) (va_Nw.use rfl (hNW _ nw_q218)) (fun _ h9 => h9) rfl hdg kk
theorem xw_add_rows (hE : EvL E mi) (hX : CallFix p m c cc nL s args lw_all RX0) (hK : va_K D vwA (cT cA) s) (hE0 : E A s H0) (hH : RHG (XW cA fw qt q1 q3 q5 e1 e3 e5 n1 n3 n5 r1 r3 r5 X ov mo ri) D A H0 H locs) (hn : n1 ≤ 8) {x : Nat} (hx : ElX (X ++ fw) x) (hr : ∀ i, i < n1 → ElX (X ++ fw) (r1 i)) (hl : lv_has ls nL lv) (hR : 13 ≤ R.frames ∧ 500 ≤ R.locals) (hf : cells + 1 ≤ R.cells ∧ slots + 20 ≤ R.slots) (hdg : decode cc pc = .ok (.invokevirtual 459, 3))
    (kk : ∀ (xs : va_W) (e9 : Nat) (H1 : Heap) (locs1 : List Loc), RHG (XW cA fw qt q1 q3 q5 e9 e3 e5 (n1 + 1) n3 n5 (fun k => if k = n1 then x else r1 k) r3 r5 (xs ++ X) ov mo ri) D A H0 H1 locs1 → W p l e R s m args below meth c H1 locs1 (cells + 1) (slots + 20) Q (F0 m (pc + 3) ls [.int 1])) : W p l e R s m args below meth c H locs cells slots Q (F0 m pc ls [.ref x, .ref q1]) := by
  obtain ⟨w, ⟨m1, m3, m5, c1, c3, c5, f1, f3, f5, rfl, hL1, hL3, hL5⟩, hm⟩ := hH
  have hEv := hE.1.1
  have hm : MH D vwA A H0 ([(qt, .inr (2, [.ref q1, .ref q3, .ref q5, .int ov, .int mo, .int 0, .int ri, .int 0])), LC q1 m1 e1 (nI n1), QA cA e1 c1 f1, LC q3 m3 e3 (nI n3), QA cA e3 c3 f3, LC q5 m5 e5 (nI n5), QA cA e5 c5 f5] ++ (X ++ fw)) H locs := hm
  have hm : MH D vwA A H0 ([LC q1 m1 e1 (nI n1), QA cA e1 c1 f1] ++ ([(qt, .inr (2, [.ref q1, .ref q3, .ref q5, .int ov, .int mo, .int 0, .int ri, .int 0])), LC q3 m3 e3 (nI n3), QA cA e3 c3 f3, LC q5 m5 e5 (nI n5), QA cA e5 c5 f5] ++ (X ++ fw))) H locs := MH.reorder [(qt, .inr (2, [.ref q1, .ref q3, .ref q5, .int ov, .int mo, .int 0, .int ri, .int 0])), LC q1 m1 e1 (nI n1), QA cA e1 c1 f1, LC q3 m3 e3 (nI n3), QA cA e3 c3 f3, LC q5 m5 e5 (nI n5), QA cA e5 c5 f5] [LC q1 m1 e1 (nI n1), QA cA e1 c1 f1, (qt, .inr (2, [.ref q1, .ref q3, .ref q5, .int ov, .int mo, .int 0, .int ri, .int 0])), LC q3 m3 e3 (nI n3), QA cA e3 c3 f3, LC q5 m5 e5 (nI n5), QA cA e5 c5 f5] [1, 2, 0, 3, 4, 5, 6] (n := 7) (by decide) rfl rfl hm
  have el : ∀ y : Nat, ElX (X ++ fw) y → ∃ (ci : Nat) (fs : List Value), 10 ≤ ci ∧ ci ≤ 16 ∧ ((y, .inr (ci, fs)) : Nat × va_E) ∈ [(qt, .inr (2, [.ref q1, .ref q3, .ref q5, .int ov, .int mo, .int 0, .int ri, .int 0])), LC q3 m3 e3 (nI n3), QA cA e3 c3 f3, LC q5 m5 e5 (nI n5), QA cA e5 c5 f5] ++ (X ++ fw) := fun y hy => by
    obtain ⟨ci, fs, k1, k2, k3⟩ := hy
    exact ⟨ci, fs, k1, k2, List.mem_append_right _ k3⟩
  refine mxV hX hK hEv hE0 hm (met_J2_add (o := some x) (n := n1) (cap := c1) hE hL1.1 hL1.2.1 hn hL1.2.2.1 (fun i hi y hy => by
    rw [hL1.2.2.2 i hi] at hy
    cases hy
    exact el _ (hr i hi)) (fun y hy => by
    cases hy
    exact el _ hx)) (crecv hK hm 0 17 rfl rfl) (lw_V q1417 q715 q716 q134 q717) (n := 1) ⟨rfl, by decide, by decide, by decide +kernel⟩ ⟨Nat.le_trans (m := 13) (Nat.le_of_ble_eq_true rfl) hR.1, Nat.le_trans (m := 500) (Nat.le_of_ble_eq_true rfl) hR.2⟩ rfl rfl hl (Nat.le_of_ble_eq_true rfl) hdg ⟨by have := hf.1; show cells + 1 ≤ R.cells; omega, by have := hf.2; show slots + 20 ≤ R.slots; omega⟩ (fun w3 H locs hw hm => ?_)
  obtain ⟨e9, cap1, g1, xs, k1, k2, k3, k4, k5, rfl⟩ := hw
  have hm := hm.perm (List.Perm.append_left [LC q1 (m1 + 1) e9 (nI (n1 + 1)), QA cA e9 cap1 g1] (xw_p1 xs [(qt, .inr (2, [.ref q1, .ref q3, .ref q5, .int ov, .int mo, .int 0, .int ri, .int 0])), LC q3 m3 e3 (nI n3), QA cA e3 c3 f3, LC q5 m5 e5 (nI n5), QA cA e5 c5 f5] X fw))
  have hm : MH D vwA A H0 ([LC q1 (m1 + 1) e9 (nI (n1 + 1)), QA cA e9 cap1 g1, (qt, .inr (2, [.ref q1, .ref q3, .ref q5, .int ov, .int mo, .int 0, .int ri, .int 0])), LC q3 m3 e3 (nI n3), QA cA e3 c3 f3, LC q5 m5 e5 (nI n5), QA cA e5 c5 f5] ++ ((xs ++ X) ++ fw)) H locs := hm
  have hm := MH.reorder [LC q1 (m1 + 1) e9 (nI (n1 + 1)), QA cA e9 cap1 g1, (qt, .inr (2, [.ref q1, .ref q3, .ref q5, .int ov, .int mo, .int 0, .int ri, .int 0])), LC q3 m3 e3 (nI n3), QA cA e3 c3 f3, LC q5 m5 e5 (nI n5), QA cA e5 c5 f5] [(qt, .inr (2, [.ref q1, .ref q3, .ref q5, .int ov, .int mo, .int 0, .int ri, .int 0])), LC q1 (m1 + 1) e9 (nI (n1 + 1)), QA cA e9 cap1 g1, LC q3 m3 e3 (nI n3), QA cA e3 c3 f3, LC q5 m5 e5 (nI n5), QA cA e5 c5 f5] [2, 0, 1, 3, 4, 5, 6] (n := 7) (by decide) rfl rfl hm
  refine kk xs e9 H locs ⟨_, ⟨m1 + 1, m3, m5, cap1, c3, c5, g1, f3, f5, rfl, ⟨k3, k1, k2, fun i hi => ?_⟩, hL3, hL5⟩, hm⟩
  show g1 i = some (if i = n1 then x else r1 i)
  by_cases c : i = n1
  · rw [if_pos c, c, k5]
  · rw [if_neg c, k4 i (by omega)]
    exact hL1.2.2.2 i (by omega)
theorem xw_get_stones (hX : CallFix p m c cc nL s args lw_all RX0) (hK : va_K D vwA (cT cA) s) (hNW : NW s) (hH : RHG (XW cA fw qt q1 q3 q5 e1 e3 e5 n1 n3 n5 r1 r3 r5 X ov mo ri) D A H0 H locs) (hdg : decode cc pc = .ok (.getfield 155, 3)) (kk : W p l e R s m args below meth c H locs cells slots Q (F0 m (pc + 3) ls (.ref q3 :: rest))) : W p l e R s m args below meth c H locs cells slots Q (F0 m pc ls (.ref qt :: rest)) := by
  obtain ⟨w, ⟨m1, m3, m5, c1, c3, c5, f1, f3, f5, rfl, hL1, hL3, hL5⟩, hm⟩ := hH
  exact va_getN (C := RX2) (T := TX2) (N := 8) hX.1 hX.2.1 hX.2.2.2.2 in_X2 hX.2.2.2.1 hK hm.1 0 rfl rfl 1 (by decide) (va_Nw.use rfl (hNW _ nw_q224)) (fun _ h9 => h9) rfl hdg kk
theorem xw_add_stones (hE : EvL E mi) (hX : CallFix p m c cc nL s args lw_all RX0) (hK : va_K D vwA (cT cA) s) (hE0 : E A s H0) (hH : RHG (XW cA fw qt q1 q3 q5 e1 e3 e5 n1 n3 n5 r1 r3 r5 X ov mo ri) D A H0 H locs) (hn : n3 ≤ 8) {x : Nat} (hx : ElX (X ++ fw) x) (hr : ∀ i, i < n3 → ElX (X ++ fw) (r3 i)) (hl : lv_has ls nL lv) (hR : 13 ≤ R.frames ∧ 500 ≤ R.locals) (hf : cells + 1 ≤ R.cells ∧ slots + 20 ≤ R.slots) (hdg : decode cc pc = .ok (.invokevirtual 459, 3))
    (kk : ∀ (xs : va_W) (e9 : Nat) (H1 : Heap) (locs1 : List Loc), RHG (XW cA fw qt q1 q3 q5 e1 e9 e5 n1 (n3 + 1) n5 r1 (fun k => if k = n3 then x else r3 k) r5 (xs ++ X) ov mo ri) D A H0 H1 locs1 → W p l e R s m args below meth c H1 locs1 (cells + 1) (slots + 20) Q (F0 m (pc + 3) ls [.int 1])) : W p l e R s m args below meth c H locs cells slots Q (F0 m pc ls [.ref x, .ref q3]) := by
  obtain ⟨w, ⟨m1, m3, m5, c1, c3, c5, f1, f3, f5, rfl, hL1, hL3, hL5⟩, hm⟩ := hH
  have hEv := hE.1.1
  have hm : MH D vwA A H0 ([(qt, .inr (2, [.ref q1, .ref q3, .ref q5, .int ov, .int mo, .int 0, .int ri, .int 0])), LC q1 m1 e1 (nI n1), QA cA e1 c1 f1, LC q3 m3 e3 (nI n3), QA cA e3 c3 f3, LC q5 m5 e5 (nI n5), QA cA e5 c5 f5] ++ (X ++ fw)) H locs := hm
  have hm : MH D vwA A H0 ([LC q3 m3 e3 (nI n3), QA cA e3 c3 f3] ++ ([(qt, .inr (2, [.ref q1, .ref q3, .ref q5, .int ov, .int mo, .int 0, .int ri, .int 0])), LC q1 m1 e1 (nI n1), QA cA e1 c1 f1, LC q5 m5 e5 (nI n5), QA cA e5 c5 f5] ++ (X ++ fw))) H locs := MH.reorder [(qt, .inr (2, [.ref q1, .ref q3, .ref q5, .int ov, .int mo, .int 0, .int ri, .int 0])), LC q1 m1 e1 (nI n1), QA cA e1 c1 f1, LC q3 m3 e3 (nI n3), QA cA e3 c3 f3, LC q5 m5 e5 (nI n5), QA cA e5 c5 f5] [LC q3 m3 e3 (nI n3), QA cA e3 c3 f3, (qt, .inr (2, [.ref q1, .ref q3, .ref q5, .int ov, .int mo, .int 0, .int ri, .int 0])), LC q1 m1 e1 (nI n1), QA cA e1 c1 f1, LC q5 m5 e5 (nI n5), QA cA e5 c5 f5] [3, 4, 0, 1, 2, 5, 6] (n := 7) (by decide) rfl rfl hm
  have el : ∀ y : Nat, ElX (X ++ fw) y → ∃ (ci : Nat) (fs : List Value), 10 ≤ ci ∧ ci ≤ 16 ∧ ((y, .inr (ci, fs)) : Nat × va_E) ∈ [(qt, .inr (2, [.ref q1, .ref q3, .ref q5, .int ov, .int mo, .int 0, .int ri, .int 0])), LC q1 m1 e1 (nI n1), QA cA e1 c1 f1, LC q5 m5 e5 (nI n5), QA cA e5 c5 f5] ++ (X ++ fw) := fun y hy => by
    obtain ⟨ci, fs, k1, k2, k3⟩ := hy
    exact ⟨ci, fs, k1, k2, List.mem_append_right _ k3⟩
  refine mxV hX hK hEv hE0 hm (met_J2_add (o := some x) (n := n3) (cap := c3) hE hL3.1 hL3.2.1 hn hL3.2.2.1 (fun i hi y hy => by
    rw [hL3.2.2.2 i hi] at hy
    cases hy
    exact el _ (hr i hi)) (fun y hy => by
    cases hy
    exact el _ hx)) (crecv hK hm 0 17 rfl rfl) (lw_V q1417 q715 q716 q134 q717) (n := 1) ⟨rfl, by decide, by decide, by decide +kernel⟩ ⟨Nat.le_trans (m := 13) (Nat.le_of_ble_eq_true rfl) hR.1, Nat.le_trans (m := 500) (Nat.le_of_ble_eq_true rfl) hR.2⟩ rfl rfl hl (Nat.le_of_ble_eq_true rfl) hdg ⟨by have := hf.1; show cells + 1 ≤ R.cells; omega, by have := hf.2; show slots + 20 ≤ R.slots; omega⟩ (fun w3 H locs hw hm => ?_)
  obtain ⟨e9, cap1, g1, xs, k1, k2, k3, k4, k5, rfl⟩ := hw
  have hm := hm.perm (List.Perm.append_left [LC q3 (m3 + 1) e9 (nI (n3 + 1)), QA cA e9 cap1 g1] (xw_p1 xs [(qt, .inr (2, [.ref q1, .ref q3, .ref q5, .int ov, .int mo, .int 0, .int ri, .int 0])), LC q1 m1 e1 (nI n1), QA cA e1 c1 f1, LC q5 m5 e5 (nI n5), QA cA e5 c5 f5] X fw))
  have hm : MH D vwA A H0 ([LC q3 (m3 + 1) e9 (nI (n3 + 1)), QA cA e9 cap1 g1, (qt, .inr (2, [.ref q1, .ref q3, .ref q5, .int ov, .int mo, .int 0, .int ri, .int 0])), LC q1 m1 e1 (nI n1), QA cA e1 c1 f1, LC q5 m5 e5 (nI n5), QA cA e5 c5 f5] ++ ((xs ++ X) ++ fw)) H locs := hm
  have hm := MH.reorder [LC q3 (m3 + 1) e9 (nI (n3 + 1)), QA cA e9 cap1 g1, (qt, .inr (2, [.ref q1, .ref q3, .ref q5, .int ov, .int mo, .int 0, .int ri, .int 0])), LC q1 m1 e1 (nI n1), QA cA e1 c1 f1, LC q5 m5 e5 (nI n5), QA cA e5 c5 f5] [(qt, .inr (2, [.ref q1, .ref q3, .ref q5, .int ov, .int mo, .int 0, .int ri, .int 0])), LC q1 m1 e1 (nI n1), QA cA e1 c1 f1, LC q3 (m3 + 1) e9 (nI (n3 + 1)), QA cA e9 cap1 g1, LC q5 m5 e5 (nI n5), QA cA e5 c5 f5] [2, 3, 4, 0, 1, 5, 6] (n := 7) (by decide) rfl rfl hm
  refine kk xs e9 H locs ⟨_, ⟨m1, m3 + 1, m5, c1, cap1, c5, f1, g1, f5, rfl, hL1, ⟨k3, k1, k2, fun i hi => ?_⟩, hL5⟩, hm⟩
  show g1 i = some (if i = n3 then x else r3 i)
  by_cases c : i = n3
  · rw [if_pos c, c, k5]
  · rw [if_neg c, k4 i (by omega)]
    exact hL3.2.2.2 i (by omega)
theorem xw_get_musts (hX : CallFix p m c cc nL s args lw_all RX0) (hK : va_K D vwA (cT cA) s) (hNW : NW s) (hH : RHG (XW cA fw qt q1 q3 q5 e1 e3 e5 n1 n3 n5 r1 r3 r5 X ov mo ri) D A H0 H locs) (hdg : decode cc pc = .ok (.getfield 425, 3)) (kk : W p l e R s m args below meth c H locs cells slots Q (F0 m (pc + 3) ls (.ref q5 :: rest))) : W p l e R s m args below meth c H locs cells slots Q (F0 m pc ls (.ref qt :: rest)) := by
  obtain ⟨w, ⟨m1, m3, m5, c1, c3, c5, f1, f3, f5, rfl, hL1, hL3, hL5⟩, hm⟩ := hH
  exact va_getN (C := RX2) (T := TX2) (N := 8) hX.1 hX.2.1 hX.2.2.2.2 in_X2 hX.2.2.2.1 hK hm.1 0 rfl rfl 2 (by decide) (va_Nw.use rfl (hNW _ nw_q229)) (fun _ h9 => h9) rfl hdg kk
theorem xw_add_musts (hE : EvL E mi) (hX : CallFix p m c cc nL s args lw_all RX0) (hK : va_K D vwA (cT cA) s) (hE0 : E A s H0) (hH : RHG (XW cA fw qt q1 q3 q5 e1 e3 e5 n1 n3 n5 r1 r3 r5 X ov mo ri) D A H0 H locs) (hn : n5 ≤ 8) {x : Nat} (hx : ElX (X ++ fw) x) (hr : ∀ i, i < n5 → ElX (X ++ fw) (r5 i)) (hl : lv_has ls nL lv) (hR : 13 ≤ R.frames ∧ 500 ≤ R.locals) (hf : cells + 1 ≤ R.cells ∧ slots + 20 ≤ R.slots) (hdg : decode cc pc = .ok (.invokevirtual 459, 3))
    (kk : ∀ (xs : va_W) (e9 : Nat) (H1 : Heap) (locs1 : List Loc), RHG (XW cA fw qt q1 q3 q5 e1 e3 e9 n1 n3 (n5 + 1) r1 r3 (fun k => if k = n5 then x else r5 k) (xs ++ X) ov mo ri) D A H0 H1 locs1 → W p l e R s m args below meth c H1 locs1 (cells + 1) (slots + 20) Q (F0 m (pc + 3) ls [.int 1])) : W p l e R s m args below meth c H locs cells slots Q (F0 m pc ls [.ref x, .ref q5]) := by
  obtain ⟨w, ⟨m1, m3, m5, c1, c3, c5, f1, f3, f5, rfl, hL1, hL3, hL5⟩, hm⟩ := hH
  have hEv := hE.1.1
  have hm : MH D vwA A H0 ([(qt, .inr (2, [.ref q1, .ref q3, .ref q5, .int ov, .int mo, .int 0, .int ri, .int 0])), LC q1 m1 e1 (nI n1), QA cA e1 c1 f1, LC q3 m3 e3 (nI n3), QA cA e3 c3 f3, LC q5 m5 e5 (nI n5), QA cA e5 c5 f5] ++ (X ++ fw)) H locs := hm
  have hm : MH D vwA A H0 ([LC q5 m5 e5 (nI n5), QA cA e5 c5 f5] ++ ([(qt, .inr (2, [.ref q1, .ref q3, .ref q5, .int ov, .int mo, .int 0, .int ri, .int 0])), LC q1 m1 e1 (nI n1), QA cA e1 c1 f1, LC q3 m3 e3 (nI n3), QA cA e3 c3 f3] ++ (X ++ fw))) H locs := MH.reorder [(qt, .inr (2, [.ref q1, .ref q3, .ref q5, .int ov, .int mo, .int 0, .int ri, .int 0])), LC q1 m1 e1 (nI n1), QA cA e1 c1 f1, LC q3 m3 e3 (nI n3), QA cA e3 c3 f3, LC q5 m5 e5 (nI n5), QA cA e5 c5 f5] [LC q5 m5 e5 (nI n5), QA cA e5 c5 f5, (qt, .inr (2, [.ref q1, .ref q3, .ref q5, .int ov, .int mo, .int 0, .int ri, .int 0])), LC q1 m1 e1 (nI n1), QA cA e1 c1 f1, LC q3 m3 e3 (nI n3), QA cA e3 c3 f3] [5, 6, 0, 1, 2, 3, 4] (n := 7) (by decide) rfl rfl hm
  have el : ∀ y : Nat, ElX (X ++ fw) y → ∃ (ci : Nat) (fs : List Value), 10 ≤ ci ∧ ci ≤ 16 ∧ ((y, .inr (ci, fs)) : Nat × va_E) ∈ [(qt, .inr (2, [.ref q1, .ref q3, .ref q5, .int ov, .int mo, .int 0, .int ri, .int 0])), LC q1 m1 e1 (nI n1), QA cA e1 c1 f1, LC q3 m3 e3 (nI n3), QA cA e3 c3 f3] ++ (X ++ fw) := fun y hy => by
    obtain ⟨ci, fs, k1, k2, k3⟩ := hy
    exact ⟨ci, fs, k1, k2, List.mem_append_right _ k3⟩
  refine mxV hX hK hEv hE0 hm (met_J2_add (o := some x) (n := n5) (cap := c5) hE hL5.1 hL5.2.1 hn hL5.2.2.1 (fun i hi y hy => by
    rw [hL5.2.2.2 i hi] at hy
    cases hy
    exact el _ (hr i hi)) (fun y hy => by
    cases hy
    exact el _ hx)) (crecv hK hm 0 17 rfl rfl) (lw_V q1417 q715 q716 q134 q717) (n := 1) ⟨rfl, by decide, by decide, by decide +kernel⟩ ⟨Nat.le_trans (m := 13) (Nat.le_of_ble_eq_true rfl) hR.1, Nat.le_trans (m := 500) (Nat.le_of_ble_eq_true rfl) hR.2⟩ rfl rfl hl (Nat.le_of_ble_eq_true rfl) hdg ⟨by have := hf.1; show cells + 1 ≤ R.cells; omega, by have := hf.2; show slots + 20 ≤ R.slots; omega⟩ (fun w3 H locs hw hm => ?_)
  obtain ⟨e9, cap1, g1, xs, k1, k2, k3, k4, k5, rfl⟩ := hw
  have hm := hm.perm (List.Perm.append_left [LC q5 (m5 + 1) e9 (nI (n5 + 1)), QA cA e9 cap1 g1] (xw_p1 xs [(qt, .inr (2, [.ref q1, .ref q3, .ref q5, .int ov, .int mo, .int 0, .int ri, .int 0])), LC q1 m1 e1 (nI n1), QA cA e1 c1 f1, LC q3 m3 e3 (nI n3), QA cA e3 c3 f3] X fw))
  have hm : MH D vwA A H0 ([LC q5 (m5 + 1) e9 (nI (n5 + 1)), QA cA e9 cap1 g1, (qt, .inr (2, [.ref q1, .ref q3, .ref q5, .int ov, .int mo, .int 0, .int ri, .int 0])), LC q1 m1 e1 (nI n1), QA cA e1 c1 f1, LC q3 m3 e3 (nI n3), QA cA e3 c3 f3] ++ ((xs ++ X) ++ fw)) H locs := hm
  have hm := MH.reorder [LC q5 (m5 + 1) e9 (nI (n5 + 1)), QA cA e9 cap1 g1, (qt, .inr (2, [.ref q1, .ref q3, .ref q5, .int ov, .int mo, .int 0, .int ri, .int 0])), LC q1 m1 e1 (nI n1), QA cA e1 c1 f1, LC q3 m3 e3 (nI n3), QA cA e3 c3 f3] [(qt, .inr (2, [.ref q1, .ref q3, .ref q5, .int ov, .int mo, .int 0, .int ri, .int 0])), LC q1 m1 e1 (nI n1), QA cA e1 c1 f1, LC q3 m3 e3 (nI n3), QA cA e3 c3 f3, LC q5 (m5 + 1) e9 (nI (n5 + 1)), QA cA e9 cap1 g1] [2, 3, 4, 5, 6, 0, 1] (n := 7) (by decide) rfl rfl hm
  refine kk xs e9 H locs ⟨_, ⟨m1, m3, m5 + 1, c1, c3, cap1, f1, f3, g1, rfl, hL1, hL3, ⟨k3, k1, k2, fun i hi => ?_⟩⟩, hm⟩
  show g1 i = some (if i = n5 then x else r5 i)
  by_cases c : i = n5
  · rw [if_pos c, c, k5]
  · rw [if_neg c, k4 i (by omega)]
    exact hL5.2.2.2 i (by omega)
end XWS