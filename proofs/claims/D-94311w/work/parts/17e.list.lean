set_option maxRecDepth 100000
/-- what copying a list's array asks: the class object of Object[] -/
def EvL (E : EvT) (mi : Nat) : Prop := EvN E ∧ ∀ (A : Nat → Prop) (U : State) (H : Heap), E A U H → va_Mi "[Ljava/lang/Object;" mi U
theorem castO {U : State} (h : NW U) {ci : Nat} (h1 : 10 ≤ ci) (h2 : ci ≤ 16) : ∃ r, vwA[ci]? = some r ∧ va_Nw (.castable r.1 "java/lang/Object") U := by
  have : ci = 10 ∨ ci = 11 ∨ ci = 12 ∨ ci = 13 ∨ ci = 14 ∨ ci = 15 ∨ ci = 16 := by omega
  rcases this with rfl | rfl | rfl | rfl | rfl | rfl | rfl
  · exact ⟨_, rfl, h _ nw_q2245⟩
  · exact ⟨_, rfl, h _ nw_q2246⟩
  · exact ⟨_, rfl, h _ nw_q2247⟩
  · exact ⟨_, rfl, h _ nw_q2248⟩
  · exact ⟨_, rfl, h _ nw_q2249⟩
  · exact ⟨_, rfl, h _ nw_q2250⟩
  · exact ⟨_, rfl, h _ nw_q2251⟩
section LL
variable {p : Program} {l : Launch} {e : Env} {R : Room} {s : State} {m : MethodId} {args : Array Value} {below : List Frame} {meth : Method} {c : Code} {H : Heap} {locs : List Loc} {cells slots : Nat} {Q : State → Prop}
variable {D : va_G} {A : Nat → Prop} {H0 : Heap} {tys : List (ClassId × FieldType)} {w : va_W} {pc : Nat} {ls : Array Slot} {rest st0 : List Value} {cc : ByteArray} {nL : Nat} {own : String} {lv : List (Nat × Value)} {index : Nat}
/-- System.arraycopy between two arrays of objects; the elements may be of several of our classes -/
theorem copyX (hX : CallFix p m c cc nL s args lw_all own) (hK : va_K D vwA tys s) (hNW : NW s) (hl : lv_has ls nL lv) (hlink : Cond.methodLink own index arraycopyName ∈ lw_all) (hH : MH D vwA A H0 w H locs) (q0 q1 t0 : Nat) {a0 a1 : Nat} {cK : ClassId} {n0 n1 : Nat} {f g : Nat → Option Nat}
    (ha0 : w[q0]? = some (a0, .inl (cK, n0, .inr (.inr (.inr (.inr f)))))) (ha1 : w[q1]? = some (a1, .inl (cK, n1, .inr (.inr (.inr (.inr g)))))) (ht : tys[t0]? = some (cK, .object "java/lang/Object"))
    {n : Int32} (h3 : ¬ n < 0) (h4 : n.toNatClampNeg ≤ n0) (h5 : n.toNatClampNeg ≤ n1) (hel : ∀ i : Nat, i < n.toNatClampNeg → ∀ y : Nat, f i = some y → ∃ (ci : Nat) (fs : List Value), 10 ≤ ci ∧ ci ≤ 16 ∧ ((y, .inr (ci, fs)) : Nat × va_E) ∈ w)
    (hframes : 1 ≤ R.frames) (hlocals : (rest.map fun v => v.category).sum + (nativeFrameWords "java/lang/System" "arraycopy" 5 + 11) ≤ R.locals) (hdg : decode cc pc = .ok (.invokestatic index, 3))
    (kk : ∀ (H1 : Heap) (locs1 : List Loc), MH D vwA A H0 (w.set q1 (a1, .inl (cK, n1, .inr (.inr (.inr (.inr (va_cpy f g 0 0 n.toNatClampNeg))))))) H1 locs1 → W p l e R s m args below meth c H1 locs1 cells slots Q (F0 m (pc + 3) ls rest)) : W p l e R s m args below meth c H locs cells slots Q (F0 m pc ls (.int n :: .int 0 :: .ref a1 :: .int 0 :: .ref a0 :: rest)) := by
  have hb : c.code = cc := hX.2.1
  have hml : c.maxLocals = ls.size := hX.2.2.1.trans hl.1.symm
  obtain ⟨hP, hD, hS, hA9⟩ := hH
  have nn : n.toInt = (n.toNatClampNeg : Int) := by
    have hz0 : (0 : Int) ≤ n.toInt := by
      have := Int32.not_lt.mp h3
      simpa using Int32.le_iff_toInt_le.mp this
    show n.toInt = ((n.toInt.toNat : Nat) : Int)
    omega
  intro T hT X
  have hc0 : H[a0]? = some (vp_cell cK (n0, .inr (.inr (.inr (.inr f))))) := hP q0 _ ha0
  have hc1 : H[a1]? = some (vp_cell cK (n1, .inr (.inr (.inr (.inr g))))) := hP q1 _ ha1
  obtain ⟨-, k0, hk0, cm0, hkk0⟩ := (hK.2 t0 _ ht).1 n0 (fun j => va_rf (f j))
  obtain ⟨-, k1, hk1, cm1, hkk1⟩ := (hK.2 t0 _ ht).1 n1 (fun j => va_rf (g j))
  obtain ⟨vm', X', step⟩ := X.arraycopy hX.1 hX.2.2.2.1 (hX.2.2.2.2 _ hlink) (hX.2.2.2.2 _ q780) (hX.2.2.2.2 _ q779) (hX.2.2.2.2 _ q151) (src := a0) (dst := a1) (cs := vp_cell cK (n0, .inr (.inr (.inr (.inr f))))) (cd := vp_cell cK (n1, .inr (.inr (.inr (.inr g))))) (srcPos := 0) (destPos := 0) (n := n) (by rw [hT]; exact hc0) (by rw [hT]; exact hc1)
    (fun _ h => by cases h) (fun _ h => by cases h) (fun h => by cases h) (fun h => by cases h) hk0 hk1 hkk0 hkk1 rfl (by decide) (by decide) h3
    (by rw [nn]; show ¬ _ > ((arrV cK n0 (fun j => va_rf (f j))).slots.size : Int); rw [arrV_size]; have : (0 : Int32).toInt = 0 := by decide
        omega)
    (by rw [nn]; show ¬ _ > ((arrV cK n1 (fun j => va_rf (g j))).slots.size : Int); rw [arrV_size]; have : (0 : Int32).toInt = 0 := by decide
        omega)
    (fun vm₁ hal i hi => by
      have z0 : (0 : Int32).toNatClampNeg = 0 := by decide
      rw [z0, Nat.zero_add]
      have e : (vp_cell cK (n0, .inr (.inr (.inr (.inr f))))).slots.getD i .null = va_rf (f i) := by
        show (arrV cK n0 (fun j => va_rf (f j))).slots.getD _ _ = _
        rw [Array.getD_eq_getD_getElem?, arrV_read _ _ (by omega)]
        rfl
      rw [e]
      cases hy : f i with
      | none => exact ⟨rfl, trivial⟩
      | some y =>
        obtain ⟨ci, fs, c1, c2, hm⟩ := hel i hi y hy
        obtain ⟨qk, hv⟩ := List.getElem?_of_mem hm
        obtain ⟨r, hr, hca⟩ := castO hNW c1 c2
        obtain ⟨r', hr', cellV, g1, g2, g3, -⟩ := hP qk _ hv
        have hcls := (hK.1 ci r hr).2
        obtain ⟨kA, comp, r1, r2, r3, -⟩ := (hK.2 t0 _ ht).2
        cases hk1.symm.trans r1
        cases hkk1.symm.trans r2
        obtain ⟨c0, t1, f1, f2, f3⟩ := Cond.castable_spec (va_Nw.use (A := args) rfl hca)
        cases hcls.1.symm.trans f1
        cases r3.symm.trans f2
        obtain ⟨kC, hkC, -⟩ := Vm.findClass_spec hcls.1
        obtain ⟨kE, hkE, -⟩ := Vm.findClass_spec r3
        obtain ⟨kC', hkC', -⟩ := hal.2.2 _ _ hkC
        obtain ⟨kE', hkE', -⟩ := hal.2.2 _ _ hkE
        refine ⟨rfl, cellV, (show T.heap[y]? = some cellV by rw [hT]; exact g1), (fun q h => by rw [h] at g3; cases g3), ⟨kC', by rw [g2]; exact hkC'⟩, ?_, ?_⟩
        · exact ⟨kE', hkE'⟩
        · show vm₁.assignable _ _ = true
          rw [hal.assignable, g2]
          exact f3)
    (g := F0 m pc ls (.int n :: .int 0 :: .ref a1 :: .int 0 :: .ref a0 :: rest)) rfl (by rw [hml]) (rest := rest) rfl (by rw [hb]; exact hdg) hframes (by show 2 * 0 + _ + _ ≤ _; omega)
  have z0 : (0 : Int32).toNatClampNeg = 0 := by decide
  have e1 : copied (vp_cell cK (n0, .inr (.inr (.inr (.inr f))))) (vp_cell cK (n1, .inr (.inr (.inr (.inr g))))) 0 0 n = vp_cell cK (n1, .inr (.inr (.inr (.inr (va_cpy f g 0 0 n.toNatClampNeg))))) := by
    rw [vp_cell_q, vp_cell_q, vp_cell_q]
    exact va_copied (fun z => va_rf z) cK cK f g (n0 := n0) (n1 := n1) (sp := 0) (dp := 0) (n := n.toNatClampNeg) (by rw [Nat.zero_add]; exact h4)
  rw [e1] at X' step
  have hlz : a1 < H.size := (Array.getElem?_eq_some_iff.mp hc1).1
  have hheap : ((T.setVm vm').setCell a1 (vp_cell cK (n1, .inr (.inr (.inr (.inr (va_cpy f g 0 0 n.toNatClampNeg))))))).heap = H.setIfInBounds a1 (vp_cell cK (n1, .inr (.inr (.inr (.inr (va_cpy f g 0 0 n.toNatClampNeg)))))) := by rw [← hT]; rfl
  have oq : ∀ q : Nat, q ≠ a1 → (H.setIfInBounds a1 (vp_cell cK (n1, .inr (.inr (.inr (.inr (va_cpy f g 0 0 n.toNatClampNeg)))))))[q]? = H[q]? := fun q hq => by simp [Array.getElem?_setIfInBounds, Ne.symm hq]
  obtain ⟨t, b1, b2⟩ := kk _ _ ⟨hP.set hD ha1 (show (H.setIfInBounds a1 _)[a1]? = some _ by simp [Array.getElem?_setIfInBounds, hlz]) oq, hD.set ha1, ⟨by simp; exact hS.1, fun q g1 g2 => by
      rw [oq q (fun e => g2 (by rw [e]; exact hD.2 q1 _ ha1))]
      exact hS.2.1 q g1 g2, fun q hq => by
      rcases List.mem_append.mp hq with h | h
      · exact hS.2.2 q h
      · obtain ⟨z, -, hz⟩ := List.mem_map.mp h
        rw [← hz]
        exact hD.2 q1 _ ha1⟩, hA9⟩ _ hheap X'
  exact ⟨t, step t b1, b2⟩
end LL
/-- a new array of objects, of a length that is a number of the run -/
theorem lenI {k : Nat} (hk : k < 2 ^ 31) : (nI k).toNatClampNeg = k := nI_clamp hk
def QA (cA : Nat → ClassId) (e n : Nat) (f : Nat → Option Nat) : Nat × va_E := (e, .inl (cA 44, n, .inr (.inr (.inr (.inr f)))))
def LC (a : Nat) (mc : Int32) (e : Nat) (n : Int32) : Nat × va_E := (a, .inr (17, [.int mc, .ref e, .int n]))
def ElIn (lo : va_W) (n : Nat) (f : Nat → Option Nat) : Prop := ∀ i : Nat, i < n → ∀ y : Nat, f i = some y → ∃ (ci : Nat) (fs : List Value), 10 ≤ ci ∧ ci ≤ 16 ∧ ((y, .inr (ci, fs)) : Nat × va_E) ∈ lo
abbrev rm_J10_copyOf_2 : Room := { frames := 2, cells := 1, slots := 20, locals := 120 }
set_option maxHeartbeats 4000000 in
theorem met_J10_copyOf_2 {l : Launch} {D : va_G} {cA : Nat → ClassId} {lo : va_W} {E : EvT} {mi e0 n k : Nat} {f : Nat → Option Nat} (hE : EvL E mi) (hn : n ≤ k) (hk : k ≤ 20) (hel : ElIn lo n f) : MR l yJ10_copyOf_2 (ws_ yJ10_copyOf_2 cJ10_copyOf_2 4 (Option.some (Jvm.ClassFile.FieldType.array (Jvm.ClassFile.FieldType.object "java/lang/Object")))) rm_J10_copyOf_2 D vwA (cT cA) E [.ref e0, .int (nI k), .ref mi] ([QA cA e0 n f] ++ lo) (fun v z => ∃ q : Nat, v = some (.ref q) ∧ z = ([QA cA e0 n f, QA cA q k (va_cpy f (fun _ => none) 0 0 n)] ++ lo)) := by
  refine MR.of (Or.inr ⟨_, rfl⟩) (by decide) (Nat.le_of_ble_eq_true rfl) ?_
  intro p e s m args below meth c Q A hX hK hE0 hname hret H locs ls hH hl
  have hX : CallFix p m c cJ10_copyOf_2 4 s args lw_all RJ10 := hX
  have hx := hX.1
  have hb := hX.2.1
  have hown := hX.2.2.2.1
  have hts := hX.2.2.2.2
  have hl : lv_has ls 4 [(0, .ref e0), (1, .int (nI k)), (2, .ref mi)] := hl
  have hEv := hE.1.1
  have hNW := hE.1.2.1 _ _ _ hE0
  have hAO := hE.1.2.2.2 _ _ _ hE0
  have hMi := hE.2 _ _ _ hE0
  refine lv_aload_n hx hb dJ10_copyOf_2_0 rfl (lv_at hl 2 rfl) ?_
  refine va_ldcM hx hb hown (hts _ q773) hMi dJ10_copyOf_2_1 ?_
  refine lv_acmp_ne (tgt := 13) (rx := some mi) (ry := some mi) hx hb dJ10_copyOf_2_3 rfl (fun h9 => absurd rfl h9) (fun _ => ?_)
  refine lv_iload_n hx hb dJ10_copyOf_2_6 rfl (lv_at hl 1 rfl) ?_
  have e3 : (nI k).toNatClampNeg = k := lenI (by omega)
  refine W.widen (k := 0) (n := 20 - k) (Nat.le_refl 0) (Nat.zero_le _) ?_
  refine mnewq (C := "java/lang/Object") (N' := k) hX q774 (hAO _ (List.mem_of_getElem? (i := 0) rfl)) hK hH 28 rfl (nI_pos (by omega)) e3 (by omega) (Nat.le_of_ble_eq_true rfl) (by show 20 - k + k ≤ 20; omega) dJ10_copyOf_2_7 (fun q H hH => ?_)
  have hH : MH D vwA A s.heap ([QA cA e0 n f, QA cA q k (fun _ => none)] ++ lo) H locs := MH.pull (xs := [QA cA e0 n f]) (c0 := QA cA q k (fun _ => none)) hH
  refine lv_goto (tgt := 24) hx hb dJ10_copyOf_2_10 rfl ?_
  refine lv_astore_n (lv' := [(3, .ref q), (0, .ref e0), (1, .int (nI k)), (2, .ref mi)]) hx hb dJ10_copyOf_2_24 rfl hl (by decide) rfl (fun ls hl => ?_)
  refine lv_aload_n hx hb dJ10_copyOf_2_25 rfl (lv_at hl 1 rfl) ?_
  refine lv_iconst (v := 0) hx hb dJ10_copyOf_2_26 kyi_0 ?_
  refine lv_aload_n hx hb dJ10_copyOf_2_27 rfl (lv_at hl 0 rfl) ?_
  refine lv_iconst (v := 0) hx hb dJ10_copyOf_2_28 kyi_0 ?_
  refine lv_aload_n hx hb dJ10_copyOf_2_29 rfl (lv_at hl 1 rfl) ?_
  refine va_alen hx hb hK hH.1 0 28 rfl rfl rfl dJ10_copyOf_2_30 ?_
  refine lv_iload_n hx hb dJ10_copyOf_2_31 rfl (lv_at hl 2 rfl) ?_
  refine cm_min hX hl (hts _ q775) dJ10_copyOf_2_32 (Nat.le_of_ble_eq_true rfl) (Nat.le_of_ble_eq_true rfl) (Nat.le_of_ble_eq_true rfl) (by show 20 - k + k ≤ 20; omega) ?_
  have e4 : mnI (Int32.ofNat n) (nI k) = nI n := if_neg (nI_nlt (by omega) (by omega))
  rw [e4]
  have e5 : (nI n).toNatClampNeg = n := lenI (by omega)
  refine copyX hX hK hNW hl q778 hH 0 1 28 rfl rfl rfl (nI_pos (by omega)) (by rw [e5]; exact Nat.le_refl _) (by rw [e5]; exact hn) (fun i hi y hy => by
    rw [e5] at hi
    obtain ⟨ci, fs, c1, c2, hm⟩ := hel i hi y hy
    exact ⟨ci, fs, c1, c2, List.mem_append_right _ hm⟩) (Nat.le_of_ble_eq_true rfl) (Nat.le_of_ble_eq_true rfl) dJ10_copyOf_2_35 (fun H locs hH => ?_)
  rw [e5] at hH
  refine lv_aload_n hx hb dJ10_copyOf_2_38 rfl (lv_at hl 0 rfl) ?_
  have e6 : 20 - k + k = 20 := by omega
  rw [e6]
  exact hret _ (Or.inr ⟨_, rfl⟩) _ _ _ _ _ ⟨_, rfl, rfl⟩ hH dJ10_copyOf_2_39
abbrev rm_J10_copyOf : Room := { frames := 4, cells := 1, slots := 20, locals := 180 }
set_option maxHeartbeats 4000000 in
theorem met_J10_copyOf {l : Launch} {D : va_G} {cA : Nat → ClassId} {lo : va_W} {E : EvT} {mi e0 n k : Nat} {f : Nat → Option Nat} (hE : EvL E mi) (hn : n ≤ k) (hk : k ≤ 20) (hel : ElIn lo n f) : MR l yJ10_copyOf (ws_ yJ10_copyOf cJ10_copyOf 2 (Option.some (Jvm.ClassFile.FieldType.array (Jvm.ClassFile.FieldType.object "java/lang/Object")))) rm_J10_copyOf D vwA (cT cA) E [.ref e0, .int (nI k)] ([QA cA e0 n f] ++ lo) (fun v z => ∃ q : Nat, v = some (.ref q) ∧ z = ([QA cA e0 n f, QA cA q k (va_cpy f (fun _ => none) 0 0 n)] ++ lo)) := by
  refine MR.of (Or.inr ⟨_, rfl⟩) (by decide) (Nat.le_of_ble_eq_true rfl) ?_
  intro p e s m args below meth c Q A hX hK hE0 hname hret H locs ls hH hl
  have hX : CallFix p m c cJ10_copyOf 2 s args lw_all RJ10 := hX
  have hx := hX.1
  have hb := hX.2.1
  have hown := hX.2.2.2.1
  have hts := hX.2.2.2.2
  have hl : lv_has ls 2 [(0, .ref e0), (1, .int (nI k))] := hl
  have hEv := hE.1.1
  have hNW := hE.1.2.1 _ _ _ hE0
  have hMi := hE.2 _ _ _ hE0
  refine lv_aload_n hx hb dJ10_copyOf_0 rfl (lv_at hl 0 rfl) ?_
  refine lv_iload_n hx hb dJ10_copyOf_1 rfl (lv_at hl 1 rfl) ?_
  refine lv_aload_n hx hb dJ10_copyOf_2 rfl (lv_at hl 0 rfl) ?_
  obtain ⟨r9, hr9, -⟩ := hMi
  refine va_getC hx hb (hX.2.2.1.trans hl.1.symm) hown (hts _ q745) (va_Nw.use rfl (hNW _ nw_q2259)) (hts _ q2258) (hts _ q746) (hts _ q769) (hE.2 _ _ _ hE0) ⟨_, hH.1 0 _ rfl, rfl, va_nmO (hK.2 28 _ rfl).2 rfl⟩ (Nat.le_of_ble_eq_true rfl) (Nat.le_of_ble_eq_true rfl) dJ10_copyOf_3 ?_
  refine mrS hX hK hEv hE0 hH (met_J10_copyOf_2 hE hn hk hel) (lw_S q770 q771 q150 q772) (n := 3) ⟨by decide, by decide, by decide +kernel⟩ ⟨Nat.le_of_ble_eq_true rfl, Nat.le_of_ble_eq_true rfl⟩ rfl rfl hl (Nat.le_of_ble_eq_true rfl) dJ10_copyOf_6 ⟨Nat.le_of_ble_eq_true rfl, Nat.le_of_ble_eq_true rfl⟩ (fun vo w2 H locs hw hH => ?_)
  obtain ⟨q, rfl, rfl⟩ := hw
  exact hret _ (Or.inr ⟨_, rfl⟩) _ _ _ _ _ ⟨_, rfl, rfl⟩ hH dJ10_copyOf_9
theorem newLen_eq : ∀ cap : Fin 13, 2 ≤ cap.val → FJ8_newLength (nI cap.val) (nI (cap.val + 1) - nI cap.val) (nI cap.val >>> ((1 : Int32) &&& 31)) = some (nI (cap.val + cap.val / 2)) := by decide +kernel
abbrev rm_J2_grow_2 : Room := { frames := 6, cells := 1, slots := 20, locals := 260 }
set_option maxHeartbeats 4000000 in
theorem met_J2_grow_2 {l : Launch} {D : va_G} {cA : Nat → ClassId} {lo : va_W} {E : EvT} {mi a e0 cap : Nat} {mc n0 : Int32} {f : Nat → Option Nat} (hE : EvL E mi) (h2 : 2 ≤ cap) (hk : cap ≤ 12) (hel : ElIn lo cap f) : MR l yJ2_grow_2 (ws_ yJ2_grow_2 cJ2_grow_2 4 (Option.some (Jvm.ClassFile.FieldType.array (Jvm.ClassFile.FieldType.object "java/lang/Object")))) rm_J2_grow_2 D vwA (cT cA) E [.ref a, .int (nI (cap + 1))] ([LC a mc e0 n0, QA cA e0 cap f] ++ lo) (fun v z => ∃ q : Nat, v = some (.ref q) ∧ z = ([LC a mc q n0, QA cA e0 cap f, QA cA q (cap + cap / 2) (va_cpy f (fun _ => none) 0 0 cap)] ++ lo)) := by
  refine MR.of (Or.inr ⟨_, rfl⟩) (by decide) (Nat.le_of_ble_eq_true rfl) ?_
  intro p e s m args below meth c Q A hX hK hE0 hname hret H locs ls hH hl
  have hX : CallFix p m c cJ2_grow_2 4 s args lw_all RJ2 := hX
  have hx := hX.1
  have hb := hX.2.1
  have hown := hX.2.2.2.1
  have hts := hX.2.2.2.2
  have hl : lv_has ls 4 [(0, .ref a), (1, .int (nI (cap + 1)))] := hl
  have hEv := hE.1.1
  have hNW := hE.1.2.1 _ _ _ hE0
  refine lv_aload_n hx hb dJ2_grow_2_0 rfl (lv_at hl 0 rfl) ?_
  refine va_get (C := RJ2) (T := TJ2) (N := 3) hX.1 hX.2.1 hX.2.2.2.2 in_J2 hX.2.2.2.1 hK hH.1 0 rfl rfl 1 (by decide) (hts _ q204) (fun _ h9 => h9) rfl dJ2_grow_2_1 ?_
  refine va_alen hx hb hK hH.1 1 28 rfl rfl (v := nI cap) rfl dJ2_grow_2_4 ?_
  refine lv_istore_n (lv' := [(2, .int (nI cap)), (0, .ref a), (1, .int (nI (cap + 1)))]) hx hb dJ2_grow_2_5 rfl hl (by decide) rfl (fun ls hl => ?_)
  refine lv_iload_n hx hb dJ2_grow_2_6 rfl (lv_at hl 0 rfl) ?_
  refine lv_if_gt (tgt := 20) hx hb dJ2_grow_2_7 rfl (fun _ => ?_) (fun c9 => absurd (nI_0 ▸ nI_lt (by omega) (by omega)) c9)
  refine lv_iload_n hx hb dJ2_grow_2_20 rfl (lv_at hl 0 rfl) ?_
  refine lv_iload_n hx hb dJ2_grow_2_21 rfl (lv_at hl 2 rfl) ?_
  refine lv_iload_n hx hb dJ2_grow_2_22 rfl (lv_at hl 0 rfl) ?_
  refine lv_isub hx hb dJ2_grow_2_23 ?_
  refine lv_iload_n hx hb dJ2_grow_2_24 rfl (lv_at hl 0 rfl) ?_
  refine lv_iconst (v := 1) hx hb dJ2_grow_2_25 kyi_1 ?_
  refine lv_ishr hx hb dJ2_grow_2_26 ?_
  have he := newLen_eq ⟨cap, by omega⟩ h2
  have hH : MH D vwA A s.heap ([] ++ ([LC a mc e0 n0, QA cA e0 cap f] ++ lo)) H locs := hH
  refine mxS hX hK hEv hE0 hH (met_J8_newLength hE.1 he) (lw_S q732 q733 q148 q734) (n := 3) ⟨by decide, by decide, by decide +kernel⟩ ⟨Nat.le_of_ble_eq_true rfl, Nat.le_of_ble_eq_true rfl⟩ rfl rfl hl (Nat.le_of_ble_eq_true rfl) dJ2_grow_2_27 ⟨Nat.le_of_ble_eq_true rfl, Nat.le_of_ble_eq_true rfl⟩ (fun w2 H locs hw hH => ?_)
  subst hw
  refine lv_istore_n (lv' := [(3, .int (nI (cap + cap / 2))), (2, .int (nI cap)), (0, .ref a), (1, .int (nI (cap + 1)))]) hx hb dJ2_grow_2_30 rfl hl (by decide) rfl (fun ls hl => ?_)
  refine lv_aload_n hx hb dJ2_grow_2_31 rfl (lv_at hl 2 rfl) ?_
  refine lv_aload_n hx hb dJ2_grow_2_32 rfl (lv_at hl 2 rfl) ?_
  have hH : MH D vwA A s.heap ([LC a mc e0 n0, QA cA e0 cap f] ++ lo) H locs := hH
  refine va_get (C := RJ2) (T := TJ2) (N := 3) hX.1 hX.2.1 hX.2.2.2.2 in_J2 hX.2.2.2.1 hK hH.1 0 rfl rfl 1 (by decide) (hts _ q204) (fun _ h9 => h9) rfl dJ2_grow_2_33 ?_
  refine lv_iload_n hx hb dJ2_grow_2_36 rfl (lv_at hl 0 rfl) ?_
  have hH : MH D vwA A s.heap ([QA cA e0 cap f] ++ ([LC a mc e0 n0] ++ lo)) H locs := MH.reorder [LC a mc e0 n0, QA cA e0 cap f] [QA cA e0 cap f, LC a mc e0 n0] [1, 0] (n := 2) (by decide) rfl rfl hH
  refine mrS hX hK hEv hE0 hH (met_J10_copyOf hE (n := cap) (k := cap + cap / 2) (by omega) (by omega) (fun i hi y hy => by
    obtain ⟨ci, fs, c1, c2, hm⟩ := hel i hi y hy
    exact ⟨ci, fs, c1, c2, List.mem_append_right _ hm⟩)) (lw_S q742 q743 q150 q744) (n := 2) ⟨by decide, by decide, by decide +kernel⟩ ⟨Nat.le_of_ble_eq_true rfl, Nat.le_of_ble_eq_true rfl⟩ rfl rfl hl (Nat.le_of_ble_eq_true rfl) dJ2_grow_2_37 ⟨Nat.le_of_ble_eq_true rfl, Nat.le_of_ble_eq_true rfl⟩ (fun vo w2 H locs hw hH => ?_)
  obtain ⟨q, rfl, rfl⟩ := hw
  have hH : MH D vwA A s.heap ([LC a mc e0 n0, QA cA e0 cap f, QA cA q (cap + cap / 2) (va_cpy f (fun _ => none) 0 0 cap)] ++ lo) H locs := MH.reorder [QA cA e0 cap f, QA cA q (cap + cap / 2) (va_cpy f (fun _ => none) 0 0 cap), LC a mc e0 n0] _ [2, 0, 1] (n := 3) (by decide) rfl rfl hH
  refine lv_dup_x1 hx hb dJ2_grow_2_40 rfl rfl ?_
  refine va_put (C := RJ2) (T := TJ2) (N := 3) (ty := (.array (.object "java/lang/Object"))) hX.1 hX.2.1 hX.2.2.2.2 in_J2 tyJ2 tyJ2_ok nmJ2 hX.2.2.2.1 hK hH.1 hH.2.1 hH.2.2.1 0 rfl rfl 1 (by decide) (hts _ q204) (fun _ h9 => h9) rfl (by decide +kernel) rfl rfl (Nat.le_of_ble_eq_true rfl) dJ2_grow_2_41 (fun H locs hP hD hS => ?_)
  have hH : MH D vwA A s.heap ([LC a mc q n0, QA cA e0 cap f, QA cA q (cap + cap / 2) (va_cpy f (fun _ => none) 0 0 cap)] ++ lo) H locs := ⟨hP, hD, hS, hH.2.2.2⟩
  exact hret _ (Or.inr ⟨_, rfl⟩) _ _ _ _ _ ⟨_, rfl, rfl⟩ hH dJ2_grow_2_44
abbrev rm_J2_grow : Room := { frames := 8, cells := 1, slots := 20, locals := 320 }
set_option maxHeartbeats 4000000 in
theorem met_J2_grow {l : Launch} {D : va_G} {cA : Nat → ClassId} {lo : va_W} {E : EvT} {mi a e0 cap : Nat} {mc : Int32} {f : Nat → Option Nat} (hE : EvL E mi) (h2 : 2 ≤ cap) (hk : cap ≤ 12) (hel : ElIn lo cap f) : MR l yJ2_grow (ws_ yJ2_grow cJ2_grow 1 (Option.some (Jvm.ClassFile.FieldType.array (Jvm.ClassFile.FieldType.object "java/lang/Object")))) rm_J2_grow D vwA (cT cA) E [.ref a] ([LC a mc e0 (nI cap), QA cA e0 cap f] ++ lo) (fun v z => ∃ q : Nat, v = some (.ref q) ∧ z = ([LC a mc q (nI cap), QA cA e0 cap f, QA cA q (cap + cap / 2) (va_cpy f (fun _ => none) 0 0 cap)] ++ lo)) := by
  refine MR.of (Or.inr ⟨_, rfl⟩) (by decide) (Nat.le_of_ble_eq_true rfl) ?_
  intro p e s m args below meth c Q A hX hK hE0 hname hret H locs ls hH hl
  have hX : CallFix p m c cJ2_grow 1 s args lw_all RJ2 := hX
  have hx := hX.1
  have hb := hX.2.1
  have hts := hX.2.2.2.2
  have hl : lv_has ls 1 [(0, .ref a)] := hl
  have hEv := hE.1.1
  refine lv_aload_n hx hb dJ2_grow_0 rfl (lv_at hl 0 rfl) ?_
  refine lv_aload_n hx hb dJ2_grow_1 rfl (lv_at hl 0 rfl) ?_
  refine va_get (C := RJ2) (T := TJ2) (N := 3) hX.1 hX.2.1 hX.2.2.2.2 in_J2 hX.2.2.2.1 hK hH.1 0 rfl rfl 2 (by decide) (hts _ q205) (fun _ h9 => h9) rfl dJ2_grow_2 ?_
  refine lv_iconst (v := 1) hx hb dJ2_grow_5 kyi_1 ?_
  refine lv_iadd hx hb dJ2_grow_6 ?_
  rw [nI_1 cap]
  refine mrV hX hK hEv hE0 hH (met_J2_grow_2 hE h2 hk hel) (crecv hK hH 0 17 rfl rfl) (lw_V q726 q728 qs14 q134 q729) (n := 1) ⟨rfl, by decide, by decide, by decide +kernel⟩ ⟨Nat.le_of_ble_eq_true rfl, Nat.le_of_ble_eq_true rfl⟩ rfl rfl hl (Nat.le_of_ble_eq_true rfl) dJ2_grow_7 ⟨Nat.le_of_ble_eq_true rfl, Nat.le_of_ble_eq_true rfl⟩ (fun vo w2 H locs hw hH => ?_)
  obtain ⟨q, rfl, rfl⟩ := hw
  exact hret _ (Or.inr ⟨_, rfl⟩) _ _ _ _ _ ⟨_, rfl, rfl⟩ hH dJ2_grow_10
def ElOk (lo : va_W) (o : Option Nat) : Prop := ∀ y : Nat, o = some y → ∃ (ci : Nat) (fs : List Value), 10 ≤ ci ∧ ci ≤ 16 ∧ ((y, .inr (ci, fs)) : Nat × va_E) ∈ lo
section LL2
variable {p : Program} {l : Launch} {e : Env} {R : Room} {s : State} {m : MethodId} {args : Array Value} {below : List Frame} {meth : Method} {c : Code} {H : Heap} {locs : List Loc} {cells slots : Nat} {Q : State → Prop}
variable {D : va_G} {A : Nat → Prop} {H0 : Heap} {cA : Nat → ClassId} {w : va_W} {pc : Nat} {ls : Array Slot} {rest st0 : List Value} {cc : ByteArray} {nL : Nat} {own : String} {lv : List (Nat × Value)} {index : Nat}
theorem astX (hX : CallFix p m c cc nL s args lw_all own) (hK : va_K D vwA (cT cA) s) (hNW : NW s) {x : Nat × va_E} {e0 n : Nat} {f : Nat → Option Nat} {lo : va_W} (hH : MH D vwA A H0 ([x, QA cA e0 n f] ++ lo) H locs) {o : Option Nat} (ho : ElOk ([x, QA cA e0 n f] ++ lo) o) {k : Nat} (hk : k < n) (hn : n < 2 ^ 31) (hdg : decode cc pc = .ok (.aastore, 1))
    (kk : ∀ (H1 : Heap) (locs1 : List Loc), MH D vwA A H0 ([x, QA cA e0 n (va_up f k o)] ++ lo) H1 locs1 → W p l e R s m args below meth c H1 locs1 cells slots Q (F0 m (pc + 1) ls rest)) : W p l e R s m args below meth c H locs cells slots Q (F0 m pc ls (va_rf o :: .int (nI k) :: .ref e0 :: rest)) := by
  have e3 : (nI k).toNatClampNeg = k := nI_clamp (by omega)
  have hin : vp_in (nI k) n := nI_in hk hn
  cases o with
  | none =>
    refine va_astqN hX.1 hX.2.1 hK hH.1 hH.2.1 hH.2.2.1 1 28 rfl rfl hin hdg (fun H locs hP hD hS => ?_)
    rw [e3] at hP hD
    exact kk _ _ ⟨hP, hD, hS, hH.2.2.2⟩
  | some y =>
    obtain ⟨ci, fs, c1, c2, hm⟩ := ho y rfl
    obtain ⟨qk, hv⟩ := List.getElem?_of_mem hm
    obtain ⟨r, hr, hca⟩ := castO hNW c1 c2
    refine va_astqO hX.1 hX.2.1 hK hH.1 hH.2.1 hH.2.2.1 1 28 qk ci rfl rfl hca hv hr hin hdg (fun H locs hP hD hS => ?_)
    rw [e3] at hP hD
    exact kk _ _ ⟨hP, hD, hS, hH.2.2.2⟩
end LL2
/-- a list after an element more -/
def Added (cA : Nat → ClassId) (lo : va_W) (a : Nat) (mc : Int32) (cap n : Nat) (f : Nat → Option Nat) (o : Option Nat) (z : va_W) : Prop := ∃ (e1 cap1 : Nat) (f1 : Nat → Option Nat) (xs : va_W), cap1 ≤ 12 ∧ n + 1 ≤ cap1 ∧ 2 ≤ cap1 ∧ (∀ i, i < n → f1 i = f i) ∧ f1 n = o ∧ z = ([LC a mc e1 (nI (n + 1)), QA cA e1 cap1 f1] ++ (xs ++ lo))
abbrev rm_J2_add_2 : Room := { frames := 10, cells := 1, slots := 20, locals := 380 }
set_option maxHeartbeats 4000000 in
theorem met_J2_add_2 {l : Launch} {D : va_G} {cA : Nat → ClassId} {lo : va_W} {E : EvT} {mi a e0 cap n : Nat} {mc : Int32} {f : Nat → Option Nat} {o : Option Nat} (hE : EvL E mi) (h2 : 2 ≤ cap) (hk : cap ≤ 12) (hn : n ≤ 8) (hnc : n ≤ cap) (hel : ElIn lo n f) (ho : ElOk lo o) : MX l yJ2_add_2 (ws_ yJ2_add_2 cJ2_add_2 4 (Option.none : Option Jvm.ClassFile.FieldType)) rm_J2_add_2 D vwA (cT cA) E [.ref a, va_rf o, .ref e0, .int (nI n)] ([LC a mc e0 (nI n), QA cA e0 cap f] ++ lo) (Added cA lo a mc cap n f o) none := by
  refine MX.ofV (by decide) (by cases o <;> exact (Nat.le_of_ble_eq_true rfl)) ?_
  intro p e s m args below meth c Q A hX hK hE0 hname hret H locs ls hH hl
  have hX : CallFix p m c cJ2_add_2 4 s args lw_all RJ2 := hX
  have hx := hX.1
  have hb := hX.2.1
  have hts := hX.2.2.2.2
  have hl : lv_has ls 4 [(0, .ref a), (1, va_rf o), (2, .ref e0), (3, .int (nI n))] := by cases o <;> exact hl
  have hEv := hE.1.1
  have hNW := hE.1.2.1 _ _ _ hE0
  have j : ∀ (e1 cap1 : Nat) (f1 : Nat → Option Nat) (xs : va_W) (H : Heap) (locs : List Loc) (ls : Array Slot), cap1 ≤ 12 → n + 1 ≤ cap1 → 2 ≤ cap1 → (∀ i, i < n → f1 i = f i) → lv_has ls 4 [(2, .ref e1), (0, .ref a), (1, va_rf o), (3, .int (nI n))] → MH D vwA A s.heap ([LC a mc e1 (nI n), QA cA e1 cap1 f1] ++ (xs ++ lo)) H locs → W p l e rm_J2_add_2 s m args below meth c H locs 1 20 Q (F0 m 11 ls []) := by
    intro e1 cap1 f1 xs H locs ls k1 k2 k3 k4 hl hH
    refine lv_aload_n hx hb dJ2_add_2_11 rfl (lv_at hl 0 rfl) ?_
    refine lv_iload_n hx hb dJ2_add_2_12 rfl (lv_at hl 3 rfl) ?_
    have ho2 : ElOk ([LC a mc e1 (nI n), QA cA e1 cap1 f1] ++ (xs ++ lo)) o := fun y hy => by
      obtain ⟨ci, fs, c1, c2, hm⟩ := ho y hy
      exact ⟨ci, fs, c1, c2, List.mem_append_right _ (List.mem_append_right _ hm)⟩
    have step : ∀ (H : Heap) (locs : List Loc), MH D vwA A s.heap ([LC a mc e1 (nI n), QA cA e1 cap1 (va_up f1 n o)] ++ (xs ++ lo)) H locs → W p l e rm_J2_add_2 s m args below meth c H locs 1 20 Q (F0 m 15 ls []) := by
      intro H locs hH
      refine lv_aload_n hx hb dJ2_add_2_15 rfl (lv_at hl 1 rfl) ?_
      refine lv_iload_n hx hb dJ2_add_2_16 rfl (lv_at hl 3 rfl) ?_
      refine lv_iconst (v := 1) hx hb dJ2_add_2_17 kyi_1 ?_
      refine lv_iadd hx hb dJ2_add_2_18 ?_
      rw [nI_1 n]
      refine va_put (C := RJ2) (T := TJ2) (N := 3) (ty := .int) hX.1 hX.2.1 hX.2.2.2.2 in_J2 tyJ2 tyJ2_ok nmJ2 hX.2.2.2.1 hK hH.1 hH.2.1 hH.2.2.1 0 rfl rfl 2 (by decide) (hts _ q205) (fun _ h9 => h9) rfl (by decide +kernel) rfl rfl (Nat.le_of_ble_eq_true rfl) dJ2_add_2_19 (fun H locs hP hD hS => ?_)
      have hH : MH D vwA A s.heap ([LC a mc e1 (nI (n + 1)), QA cA e1 cap1 (va_up f1 n o)] ++ (xs ++ lo)) H locs := ⟨hP, hD, hS, hH.2.2.2⟩
      refine hret _ _ _ _ _ ⟨e1, cap1, _, xs, k1, k2, k3, fun i hi => ?_, ?_, rfl⟩ hH dJ2_add_2_22
      · show (if i = n then o else f1 i) = f i
        rw [if_neg (by omega)]
        exact k4 i hi
      · show (if n = n then o else f1 n) = o
        rw [if_pos rfl]
    cases o with
    | none =>
      refine lv_aload_nN hx hb dJ2_add_2_13 rfl (lv_at hl 2 rfl) ?_
      exact astX (o := none) hX hK hNW hH ho2 (by omega) (by omega) dJ2_add_2_14 step
    | some y =>
      refine lv_aload_n hx hb dJ2_add_2_13 rfl (lv_at hl 2 rfl) ?_
      exact astX (o := some y) hX hK hNW hH ho2 (by omega) (by omega) dJ2_add_2_14 step
  refine lv_iload_n hx hb dJ2_add_2_0 rfl (lv_at hl 3 rfl) ?_
  refine lv_aload_n hx hb dJ2_add_2_1 rfl (lv_at hl 2 rfl) ?_
  refine va_alen hx hb hK hH.1 1 28 rfl rfl (v := nI cap) rfl dJ2_add_2_2 ?_
  refine lv_icmp_ne (tgt := 11) hx hb dJ2_add_2_3 rfl (fun h9 => ?_) (fun h9 => ?_)
  · refine W.widen (k := 1) (n := 20) (by omega) (by omega) ?_
    exact j e0 cap f [] H locs ls hk (by have : n ≠ cap := fun q => h9 (by rw [q]); omega) h2 (fun i _ => rfl) (lv_sub hl [2, 0, 1, 3] rfl) hH
  · have hnc2 : n = cap := (nI_eq (by omega) (by omega)).mp h9
    subst hnc2
    refine lv_aload_n hx hb dJ2_add_2_6 rfl (lv_at hl 0 rfl) ?_
    refine mrV hX hK hEv hE0 hH (met_J2_grow hE h2 hk hel) (crecv hK hH 0 17 rfl rfl) (lw_V q722 q724 qs13 q134 q725) (n := 0) ⟨rfl, by decide, by decide, by decide +kernel⟩ ⟨Nat.le_of_ble_eq_true rfl, Nat.le_of_ble_eq_true rfl⟩ rfl rfl hl (Nat.le_of_ble_eq_true rfl) dJ2_add_2_7 ⟨Nat.le_of_ble_eq_true rfl, Nat.le_of_ble_eq_true rfl⟩ (fun vo w2 H locs hw hH => ?_)
    obtain ⟨q, rfl, rfl⟩ := hw
    have hH : MH D vwA A s.heap ([LC a mc q (nI n), QA cA q (n + n / 2) (va_cpy f (fun _ => none) 0 0 n), QA cA e0 n f] ++ lo) H locs := MH.reorder [LC a mc q (nI n), QA cA e0 n f, QA cA q (n + n / 2) (va_cpy f (fun _ => none) 0 0 n)] _ [0, 2, 1] (n := 3) (by decide) rfl rfl hH
    refine lv_astore_n (lv' := [(2, .ref q), (0, .ref a), (1, va_rf o), (3, .int (nI n))]) hx hb dJ2_add_2_10 rfl hl (by decide) (by cases o <;> rfl) (fun ls hl => ?_)
    exact j q (n + n / 2) _ [QA cA e0 n f] H locs ls (by omega) (by omega) (by omega) (fun i hi => by
      show (if 0 ≤ i ∧ i < 0 + n then f (0 + (i - 0)) else none) = f i
      rw [if_pos ⟨Nat.zero_le _, by omega⟩]
      congr 1
      omega) hl hH
abbrev rm_J2_add : Room := { frames := 12, cells := 1, slots := 20, locals := 460 }
set_option maxHeartbeats 4000000 in
theorem met_J2_add {l : Launch} {D : va_G} {cA : Nat → ClassId} {lo : va_W} {E : EvT} {mi a e0 cap n : Nat} {mc : Int32} {f : Nat → Option Nat} {o : Option Nat} (hE : EvL E mi) (h2 : 2 ≤ cap) (hk : cap ≤ 12) (hn : n ≤ 8) (hnc : n ≤ cap) (hel : ElIn lo n f) (ho : ElOk lo o) : MX l yJ2_add (ws_ yJ2_add cJ2_add 2 (Option.some Jvm.ClassFile.FieldType.boolean)) rm_J2_add D vwA (cT cA) E [.ref a, va_rf o] ([LC a mc e0 (nI n), QA cA e0 cap f] ++ lo) (Added cA lo a (mc + 1) cap n f o) (some (.int (b2i true))) := by
  refine MX.ofZ (by decide) (by cases o <;> exact (Nat.le_of_ble_eq_true rfl)) ?_
  intro p e s m args below meth c Q A hX hK hE0 hname hret H locs ls hH hl
  have hX : CallFix p m c cJ2_add 2 s args lw_all RJ2 := hX
  have hx := hX.1
  have hb := hX.2.1
  have hts := hX.2.2.2.2
  have hl : lv_has ls 2 [(0, .ref a), (1, va_rf o)] := by cases o <;> exact hl
  have hEv := hE.1.1
  have hNW := hE.1.2.1 _ _ _ hE0
  refine lv_aload_n hx hb dJ2_add_0 rfl (lv_at hl 0 rfl) ?_
  refine lv_dup hx hb dJ2_add_1 rfl ?_
  refine va_get (C := RJ2) (T := TJ2) (N := 3) hX.1 hX.2.1 hX.2.2.2.2 in_J2 hX.2.2.2.1 hK hH.1 0 rfl rfl 0 (by decide) (hts _ q207) (fun x9 h9 => u_same (hts _ q208) x9 h9) rfl dJ2_add_2 ?_
  refine lv_iconst (v := 1) hx hb dJ2_add_5 kyi_1 ?_
  refine lv_iadd hx hb dJ2_add_6 ?_
  refine va_put (C := RJ2) (T := TJ2) (N := 3) (ty := .int) hX.1 hX.2.1 hX.2.2.2.2 in_J2 tyJ2 tyJ2_ok nmJ2 hX.2.2.2.1 hK hH.1 hH.2.1 hH.2.2.1 0 rfl rfl 0 (by decide) (hts _ q207) (fun x9 h9 => u_same (hts _ q208) x9 h9) rfl (by decide +kernel) rfl rfl (Nat.le_of_ble_eq_true rfl) dJ2_add_7 (fun H locs hP hD hS => ?_)
  have hH : MH D vwA A s.heap ([LC a (mc + 1) e0 (nI n), QA cA e0 cap f] ++ lo) H locs := ⟨hP, hD, hS, hH.2.2.2⟩
  refine lv_aload_n hx hb dJ2_add_10 rfl (lv_at hl 0 rfl) ?_
  have step : W p l e rm_J2_add s m args below meth c H locs 0 0 Q (F0 m 12 ls [va_rf o, .ref a]) := by
    refine lv_aload_n hx hb dJ2_add_12 rfl (lv_at hl 0 rfl) ?_
    refine va_get (C := RJ2) (T := TJ2) (N := 3) hX.1 hX.2.1 hX.2.2.2.2 in_J2 hX.2.2.2.1 hK hH.1 0 rfl rfl 1 (by decide) (hts _ q204) (fun _ h9 => h9) rfl dJ2_add_13 ?_
    refine lv_aload_n hx hb dJ2_add_16 rfl (lv_at hl 0 rfl) ?_
    refine va_get (C := RJ2) (T := TJ2) (N := 3) hX.1 hX.2.1 hX.2.2.2.2 in_J2 hX.2.2.2.1 hK hH.1 0 rfl rfl 2 (by decide) (hts _ q205) (fun _ h9 => h9) rfl dJ2_add_17 ?_
    refine mxV hX hK hEv hE0 hH (met_J2_add_2 hE h2 hk hn hnc hel ho) (crecv hK hH 0 17 rfl rfl) (lw_V q718 q720 qs12 q134 q721) (n := 3) ⟨rfl, by decide, by decide, by decide +kernel⟩ ⟨Nat.le_of_ble_eq_true rfl, Nat.le_of_ble_eq_true rfl⟩ rfl (by cases o <;> rfl) hl (Nat.le_of_ble_eq_true rfl) dJ2_add_20 ⟨Nat.le_of_ble_eq_true rfl, Nat.le_of_ble_eq_true rfl⟩ (fun w2 H locs hw hH => ?_)
    refine lv_iconst (v := 1) hx hb dJ2_add_23 kyi_1 ?_
    exact hret _ _ _ _ _ hw hH dJ2_add_24
  cases o with
  | none => exact lv_aload_nN hx hb dJ2_add_11 rfl (lv_at hl 1 rfl) step
  | some y => exact lv_aload_n hx hb dJ2_add_11 rfl (lv_at hl 1 rfl) step
