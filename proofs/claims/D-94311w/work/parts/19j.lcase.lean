set_option maxRecDepth 100000
theorem hdl_X0_steal : yX0_steal.cls = RX0 ∧ yX0_steal.cls ≠ "java/lang/invoke/MethodHandle" ∧ yX0_steal.cls ≠ "java/lang/invoke/VarHandle" ∧ (parseMethodDescriptor yX0_steal.desc).map (fun d => d.parameters.length) = some 1 := by decide +kernel
theorem hdl_X8_steal : yX8_steal.cls = RX8 ∧ yX8_steal.cls ≠ "java/lang/invoke/MethodHandle" ∧ yX8_steal.cls ≠ "java/lang/invoke/VarHandle" ∧ (parseMethodDescriptor yX8_steal.desc).map (fun d => d.parameters.length) = some 1 := by decide +kernel
set_option maxHeartbeats 4000000 in
theorem lawc_steal {p : Program} {l : Launch} {e : Env} {s : State} {m : MethodId} {b L i j : Nat} {xs : Nat → Int32} {below : List Frame} {meth : Method} {c : Code} {H : Heap} {locs : List Loc} {cells slots : Nat} {Q : State → Prop} {ls : Array Slot} {D : va_G} {E : EvT} {ks vs : Nat → Nat} {fo mi ak av fo8 : Nat} {ad ad8 : Nat → Nat} {cA cA8 : Nat → ClassId} {w0 w8 : va_W} (hX : CallFix p m c cL_law 4 s #[.ref b] lw_all R_law) (hXX : va_X b L xs s s.heap) (hbl : b < s.heap.size) (hV : EvAll l E ks vs fo mi ak av fo8) (hK0 : va_K D vwA (cT cA) s) (hK8 : va_K D vwA (mT cA8) s) (hE : E (fun q => s.heap.size ≤ q) s s.heap) (hI : InvW ad cA ad8 cA8 j w0 w8) (hj : j < 64) (hH : MH D vwA (fun q => s.heap.size ≤ q) s.heap (w0 ++ w8) H locs) (hl : lv_has ls 4 [(0, .ref b), (1, .ref (ad 0)), (2, .ref (ad8 0)), (3, .int (nI i))]) (hi : i + 6 ≤ L) (hL : L ≤ 384) (hc : cells + 12000 ≤ 1200384) (hs : slots + 48000 ≤ 5489322)
    (kk : ∀ (w0' w8' : va_W) (H1 : Heap) (locs1 : List Loc), InvW ad cA ad8 cA8 (j + 1) w0' w8' → MH D vwA (fun q => s.heap.size ≤ q) s.heap (w0' ++ w8') H1 locs1 → W p l e room_1 s m #[.ref b] below meth c H1 locs1 (cells + 12000) (slots + 48000) Q (F0 m 1342 ls [])) : W p l e room_1 s m #[.ref b] below meth c H locs cells slots Q (F0 m 603 ls []) := by
  obtain ⟨ans, w8', hM0, hM8⟩ := op_steal (l := l) (D := D) hV hI hj (xs (nI i + 1).toNatClampNeg)
  have hx := hX.1
  have hb := hX.2.1
  have hown := hX.2.2.2.1
  have hts := hX.2.2.2.2
  have hEv := hV.1.1.1
  have hbA : ¬ (fun q : Nat => s.heap.size ≤ q) b := Nat.not_le.mpr hbl
  refine lv_aload_n hx hb dL_law_603 rfl (lv_at hl 1 rfl) ?_
  refine lv_aload_n hx hb dL_law_604 rfl (lv_at hl 0 rfl) ?_
  refine lv_iload_n hx hb dL_law_605 rfl (lv_at hl 3 rfl) ?_
  refine lv_iconst (v := 1) hx hb dL_law_606 (by decide) ?_
  refine lv_iadd hx hb dL_law_607 ?_
  refine va_sld hx hb hXX hbl hbA hH.2.2.1 (vps (k := 1) (by omega) hL) dL_law_608 ?_
  refine mxVF hX hK0 hEv hE hH hM0 (rc0 hI hK0 hH) (lw_V q1142 q1143 q1144 q129 q1145) hdl_X0_steal ⟨Nat.le_of_ble_eq_true rfl, Nat.le_of_ble_eq_true rfl⟩ rfl rfl hl (Nat.le_of_ble_eq_true rfl) dL_law_609 ⟨(by show cells + 0 ≤ 1200384; omega), (by show slots + 0 ≤ 5489322; omega)⟩ (fun w0z H locs hI2 hH => ?_)
  refine lv_aload_n hx hb dL_law_612 rfl (lv_at hl 2 rfl) ?_
  refine lv_aload_n hx hb dL_law_613 rfl (lv_at hl 0 rfl) ?_
  refine lv_iload_n hx hb dL_law_614 rfl (lv_at hl 3 rfl) ?_
  refine lv_iconst (v := 1) hx hb dL_law_615 (by decide) ?_
  refine lv_iadd hx hb dL_law_616 ?_
  refine va_sld hx hb hXX hbl hbA hH.2.2.1 (vps (k := 1) (by omega) hL) dL_law_617 ?_
  have hH := hH.perm List.perm_append_comm
  refine mxVF hX hK8 hEv hE hH hM8 (rc8 hI hK8 hH) (lw_V q1988 q1989 q1990 q142 q1991) hdl_X8_steal ⟨Nat.le_of_ble_eq_true rfl, Nat.le_of_ble_eq_true rfl⟩ rfl rfl hl (Nat.le_of_ble_eq_true rfl) dL_law_618 ⟨(by show cells + 0 + 0 ≤ 1200384; omega), (by show slots + 0 + 0 ≤ 5489322; omega)⟩ (fun w8z H locs hw hH => ?_)
  subst hw
  have hH := hH.perm List.perm_append_comm
  refine lv_icmp_eq (tgt := 1342) hx hb dL_law_621 rfl (fun _ => ?_) (fun c9 => absurd rfl c9)
  exact W.widen (k := cells + 12000) (n := slots + 48000) (by show cells + 0 + 0 ≤ cells + 12000; omega) (by show slots + 0 + 0 ≤ slots + 48000; omega) (kk _ _ _ _ hI2 hH)
theorem hdl_X0_done : yX0_done.cls = RX0 ∧ yX0_done.cls ≠ "java/lang/invoke/MethodHandle" ∧ yX0_done.cls ≠ "java/lang/invoke/VarHandle" ∧ (parseMethodDescriptor yX0_done.desc).map (fun d => d.parameters.length) = some 1 := by decide +kernel
theorem hdl_X8_done : yX8_done.cls = RX8 ∧ yX8_done.cls ≠ "java/lang/invoke/MethodHandle" ∧ yX8_done.cls ≠ "java/lang/invoke/VarHandle" ∧ (parseMethodDescriptor yX8_done.desc).map (fun d => d.parameters.length) = some 1 := by decide +kernel
set_option maxHeartbeats 4000000 in
theorem lawc_done {p : Program} {l : Launch} {e : Env} {s : State} {m : MethodId} {b L i j : Nat} {xs : Nat → Int32} {below : List Frame} {meth : Method} {c : Code} {H : Heap} {locs : List Loc} {cells slots : Nat} {Q : State → Prop} {ls : Array Slot} {D : va_G} {E : EvT} {ks vs : Nat → Nat} {fo mi ak av fo8 : Nat} {ad ad8 : Nat → Nat} {cA cA8 : Nat → ClassId} {w0 w8 : va_W} (hX : CallFix p m c cL_law 4 s #[.ref b] lw_all R_law) (hXX : va_X b L xs s s.heap) (hbl : b < s.heap.size) (hV : EvAll l E ks vs fo mi ak av fo8) (hK0 : va_K D vwA (cT cA) s) (hK8 : va_K D vwA (mT cA8) s) (hE : E (fun q => s.heap.size ≤ q) s s.heap) (hI : InvW ad cA ad8 cA8 j w0 w8) (hj : j < 64) (hH : MH D vwA (fun q => s.heap.size ≤ q) s.heap (w0 ++ w8) H locs) (hl : lv_has ls 4 [(0, .ref b), (1, .ref (ad 0)), (2, .ref (ad8 0)), (3, .int (nI i))]) (hi : i + 6 ≤ L) (hL : L ≤ 384) (hc : cells + 12000 ≤ 1200384) (hs : slots + 48000 ≤ 5489322)
    (kk : ∀ (w0' w8' : va_W) (H1 : Heap) (locs1 : List Loc), InvW ad cA ad8 cA8 (j + 1) w0' w8' → MH D vwA (fun q => s.heap.size ≤ q) s.heap (w0' ++ w8') H1 locs1 → W p l e room_1 s m #[.ref b] below meth c H1 locs1 (cells + 12000) (slots + 48000) Q (F0 m 1342 ls [])) : W p l e room_1 s m #[.ref b] below meth c H locs cells slots Q (F0 m 626 ls []) := by
  obtain ⟨ans, w8', hM0, hM8⟩ := op_done (l := l) (D := D) hV hI hj (xs (nI i + 1).toNatClampNeg)
  have hx := hX.1
  have hb := hX.2.1
  have hown := hX.2.2.2.1
  have hts := hX.2.2.2.2
  have hEv := hV.1.1.1
  have hbA : ¬ (fun q : Nat => s.heap.size ≤ q) b := Nat.not_le.mpr hbl
  refine lv_aload_n hx hb dL_law_626 rfl (lv_at hl 1 rfl) ?_
  refine lv_aload_n hx hb dL_law_627 rfl (lv_at hl 0 rfl) ?_
  refine lv_iload_n hx hb dL_law_628 rfl (lv_at hl 3 rfl) ?_
  refine lv_iconst (v := 1) hx hb dL_law_629 (by decide) ?_
  refine lv_iadd hx hb dL_law_630 ?_
  refine va_sld hx hb hXX hbl hbA hH.2.2.1 (vps (k := 1) (by omega) hL) dL_law_631 ?_
  refine mxVF hX hK0 hEv hE hH hM0 (rc0 hI hK0 hH) (lw_V q1154 q1155 q1156 q129 q1157) hdl_X0_done ⟨Nat.le_of_ble_eq_true rfl, Nat.le_of_ble_eq_true rfl⟩ rfl rfl hl (Nat.le_of_ble_eq_true rfl) dL_law_632 ⟨(by show cells + 0 ≤ 1200384; omega), (by show slots + 0 ≤ 5489322; omega)⟩ (fun w0z H locs hI2 hH => ?_)
  refine lv_aload_n hx hb dL_law_635 rfl (lv_at hl 2 rfl) ?_
  refine lv_aload_n hx hb dL_law_636 rfl (lv_at hl 0 rfl) ?_
  refine lv_iload_n hx hb dL_law_637 rfl (lv_at hl 3 rfl) ?_
  refine lv_iconst (v := 1) hx hb dL_law_638 (by decide) ?_
  refine lv_iadd hx hb dL_law_639 ?_
  refine va_sld hx hb hXX hbl hbA hH.2.2.1 (vps (k := 1) (by omega) hL) dL_law_640 ?_
  have hH := hH.perm List.perm_append_comm
  refine mxVF hX hK8 hEv hE hH hM8 (rc8 hI hK8 hH) (lw_V q1996 q1997 q1998 q142 q1999) hdl_X8_done ⟨Nat.le_of_ble_eq_true rfl, Nat.le_of_ble_eq_true rfl⟩ rfl rfl hl (Nat.le_of_ble_eq_true rfl) dL_law_641 ⟨(by show cells + 0 + 0 ≤ 1200384; omega), (by show slots + 0 + 0 ≤ 5489322; omega)⟩ (fun w8z H locs hw hH => ?_)
  subst hw
  have hH := hH.perm List.perm_append_comm
  refine lv_icmp_eq (tgt := 1342) hx hb dL_law_644 rfl (fun _ => ?_) (fun c9 => absurd rfl c9)
  exact W.widen (k := cells + 12000) (n := slots + 48000) (by show cells + 0 + 0 ≤ cells + 12000; omega) (by show slots + 0 + 0 ≤ slots + 48000; omega) (kk _ _ _ _ hI2 hH)
theorem hdl_X0_right : yX0_right.cls = RX0 ∧ yX0_right.cls ≠ "java/lang/invoke/MethodHandle" ∧ yX0_right.cls ≠ "java/lang/invoke/VarHandle" ∧ (parseMethodDescriptor yX0_right.desc).map (fun d => d.parameters.length) = some 1 := by decide +kernel
theorem hdl_X8_right : yX8_right.cls = RX8 ∧ yX8_right.cls ≠ "java/lang/invoke/MethodHandle" ∧ yX8_right.cls ≠ "java/lang/invoke/VarHandle" ∧ (parseMethodDescriptor yX8_right.desc).map (fun d => d.parameters.length) = some 1 := by decide +kernel
set_option maxHeartbeats 4000000 in
theorem lawc_right {p : Program} {l : Launch} {e : Env} {s : State} {m : MethodId} {b L i j : Nat} {xs : Nat → Int32} {below : List Frame} {meth : Method} {c : Code} {H : Heap} {locs : List Loc} {cells slots : Nat} {Q : State → Prop} {ls : Array Slot} {D : va_G} {E : EvT} {ks vs : Nat → Nat} {fo mi ak av fo8 : Nat} {ad ad8 : Nat → Nat} {cA cA8 : Nat → ClassId} {w0 w8 : va_W} (hX : CallFix p m c cL_law 4 s #[.ref b] lw_all R_law) (hXX : va_X b L xs s s.heap) (hbl : b < s.heap.size) (hV : EvAll l E ks vs fo mi ak av fo8) (hK0 : va_K D vwA (cT cA) s) (hK8 : va_K D vwA (mT cA8) s) (hE : E (fun q => s.heap.size ≤ q) s s.heap) (hI : InvW ad cA ad8 cA8 j w0 w8) (hj : j < 64) (hH : MH D vwA (fun q => s.heap.size ≤ q) s.heap (w0 ++ w8) H locs) (hl : lv_has ls 4 [(0, .ref b), (1, .ref (ad 0)), (2, .ref (ad8 0)), (3, .int (nI i))]) (hi : i + 6 ≤ L) (hL : L ≤ 384) (hc : cells + 12000 ≤ 1200384) (hs : slots + 48000 ≤ 5489322)
    (kk : ∀ (w0' w8' : va_W) (H1 : Heap) (locs1 : List Loc), InvW ad cA ad8 cA8 (j + 1) w0' w8' → MH D vwA (fun q => s.heap.size ≤ q) s.heap (w0' ++ w8') H1 locs1 → W p l e room_1 s m #[.ref b] below meth c H1 locs1 (cells + 12000) (slots + 48000) Q (F0 m 1342 ls [])) : W p l e room_1 s m #[.ref b] below meth c H locs cells slots Q (F0 m 649 ls []) := by
  obtain ⟨ans, w8', hM0, hM8⟩ := op_right (l := l) (D := D) hV hI hj (xs (nI i + 1).toNatClampNeg)
  have hx := hX.1
  have hb := hX.2.1
  have hown := hX.2.2.2.1
  have hts := hX.2.2.2.2
  have hEv := hV.1.1.1
  have hbA : ¬ (fun q : Nat => s.heap.size ≤ q) b := Nat.not_le.mpr hbl
  refine lv_aload_n hx hb dL_law_649 rfl (lv_at hl 1 rfl) ?_
  refine lv_aload_n hx hb dL_law_650 rfl (lv_at hl 0 rfl) ?_
  refine lv_iload_n hx hb dL_law_651 rfl (lv_at hl 3 rfl) ?_
  refine lv_iconst (v := 1) hx hb dL_law_652 (by decide) ?_
  refine lv_iadd hx hb dL_law_653 ?_
  refine va_sld hx hb hXX hbl hbA hH.2.2.1 (vps (k := 1) (by omega) hL) dL_law_654 ?_
  refine mxVF hX hK0 hEv hE hH hM0 (rc0 hI hK0 hH) (lw_V q1170 q1171 q1172 q129 q1173) hdl_X0_right ⟨Nat.le_of_ble_eq_true rfl, Nat.le_of_ble_eq_true rfl⟩ rfl rfl hl (Nat.le_of_ble_eq_true rfl) dL_law_655 ⟨(by show cells + 0 ≤ 1200384; omega), (by show slots + 0 ≤ 5489322; omega)⟩ (fun w0z H locs hI2 hH => ?_)
  refine lv_aload_n hx hb dL_law_658 rfl (lv_at hl 2 rfl) ?_
  refine lv_aload_n hx hb dL_law_659 rfl (lv_at hl 0 rfl) ?_
  refine lv_iload_n hx hb dL_law_660 rfl (lv_at hl 3 rfl) ?_
  refine lv_iconst (v := 1) hx hb dL_law_661 (by decide) ?_
  refine lv_iadd hx hb dL_law_662 ?_
  refine va_sld hx hb hXX hbl hbA hH.2.2.1 (vps (k := 1) (by omega) hL) dL_law_663 ?_
  have hH := hH.perm List.perm_append_comm
  refine mxVF hX hK8 hEv hE hH hM8 (rc8 hI hK8 hH) (lw_V q2016 q2017 q2018 q142 q2019) hdl_X8_right ⟨Nat.le_of_ble_eq_true rfl, Nat.le_of_ble_eq_true rfl⟩ rfl rfl hl (Nat.le_of_ble_eq_true rfl) dL_law_664 ⟨(by show cells + 0 + 0 ≤ 1200384; omega), (by show slots + 0 + 0 ≤ 5489322; omega)⟩ (fun w8z H locs hw hH => ?_)
  subst hw
  have hH := hH.perm List.perm_append_comm
  refine lv_icmp_eq (tgt := 1342) hx hb dL_law_667 rfl (fun _ => ?_) (fun c9 => absurd rfl c9)
  exact W.widen (k := cells + 12000) (n := slots + 48000) (by show cells + 0 + 0 ≤ cells + 12000; omega) (by show slots + 0 + 0 ≤ slots + 48000; omega) (kk _ _ _ _ hI2 hH)
theorem hdl_X0_judge : yX0_judge.cls = RX0 ∧ yX0_judge.cls ≠ "java/lang/invoke/MethodHandle" ∧ yX0_judge.cls ≠ "java/lang/invoke/VarHandle" ∧ (parseMethodDescriptor yX0_judge.desc).map (fun d => d.parameters.length) = some 2 := by decide +kernel
theorem hdl_X8_judge : yX8_judge.cls = RX8 ∧ yX8_judge.cls ≠ "java/lang/invoke/MethodHandle" ∧ yX8_judge.cls ≠ "java/lang/invoke/VarHandle" ∧ (parseMethodDescriptor yX8_judge.desc).map (fun d => d.parameters.length) = some 2 := by decide +kernel
set_option maxHeartbeats 4000000 in
theorem lawc_judge {p : Program} {l : Launch} {e : Env} {s : State} {m : MethodId} {b L i j : Nat} {xs : Nat → Int32} {below : List Frame} {meth : Method} {c : Code} {H : Heap} {locs : List Loc} {cells slots : Nat} {Q : State → Prop} {ls : Array Slot} {D : va_G} {E : EvT} {ks vs : Nat → Nat} {fo mi ak av fo8 : Nat} {ad ad8 : Nat → Nat} {cA cA8 : Nat → ClassId} {w0 w8 : va_W} (hX : CallFix p m c cL_law 4 s #[.ref b] lw_all R_law) (hXX : va_X b L xs s s.heap) (hbl : b < s.heap.size) (hV : EvAll l E ks vs fo mi ak av fo8) (hK0 : va_K D vwA (cT cA) s) (hK8 : va_K D vwA (mT cA8) s) (hE : E (fun q => s.heap.size ≤ q) s s.heap) (hI : InvW ad cA ad8 cA8 j w0 w8) (hj : j < 64) (hH : MH D vwA (fun q => s.heap.size ≤ q) s.heap (w0 ++ w8) H locs) (hl : lv_has ls 4 [(0, .ref b), (1, .ref (ad 0)), (2, .ref (ad8 0)), (3, .int (nI i))]) (hi : i + 6 ≤ L) (hL : L ≤ 384) (hc : cells + 12000 ≤ 1200384) (hs : slots + 48000 ≤ 5489322)
    (kk : ∀ (w0' w8' : va_W) (H1 : Heap) (locs1 : List Loc), InvW ad cA ad8 cA8 (j + 1) w0' w8' → MH D vwA (fun q => s.heap.size ≤ q) s.heap (w0' ++ w8') H1 locs1 → W p l e room_1 s m #[.ref b] below meth c H1 locs1 (cells + 12000) (slots + 48000) Q (F0 m 1342 ls [])) : W p l e room_1 s m #[.ref b] below meth c H locs cells slots Q (F0 m 672 ls []) := by
  obtain ⟨ans, w8', hM0, hM8⟩ := op_judge (l := l) (D := D) hV hI hj (xs (nI i + 1).toNatClampNeg) (xs (nI i + 2).toNatClampNeg)
  have hx := hX.1
  have hb := hX.2.1
  have hown := hX.2.2.2.1
  have hts := hX.2.2.2.2
  have hEv := hV.1.1.1
  have hbA : ¬ (fun q : Nat => s.heap.size ≤ q) b := Nat.not_le.mpr hbl
  refine lv_aload_n hx hb dL_law_672 rfl (lv_at hl 1 rfl) ?_
  refine lv_aload_n hx hb dL_law_673 rfl (lv_at hl 0 rfl) ?_
  refine lv_iload_n hx hb dL_law_674 rfl (lv_at hl 3 rfl) ?_
  refine lv_iconst (v := 1) hx hb dL_law_675 (by decide) ?_
  refine lv_iadd hx hb dL_law_676 ?_
  refine va_sld hx hb hXX hbl hbA hH.2.2.1 (vps (k := 1) (by omega) hL) dL_law_677 ?_
  refine lv_aload_n hx hb dL_law_678 rfl (lv_at hl 0 rfl) ?_
  refine lv_iload_n hx hb dL_law_679 rfl (lv_at hl 3 rfl) ?_
  refine lv_iconst (v := 2) hx hb dL_law_680 (by decide) ?_
  refine lv_iadd hx hb dL_law_681 ?_
  refine va_sld hx hb hXX hbl hbA hH.2.2.1 (vps (k := 2) (by omega) hL) dL_law_682 ?_
  refine mxVF hX hK0 hEv hE hH hM0 (rc0 hI hK0 hH) (lw_V q1184 q1185 q1186 q129 q1187) hdl_X0_judge ⟨Nat.le_of_ble_eq_true rfl, Nat.le_of_ble_eq_true rfl⟩ rfl rfl hl (Nat.le_of_ble_eq_true rfl) dL_law_683 ⟨(by show cells + 0 ≤ 1200384; omega), (by show slots + 0 ≤ 5489322; omega)⟩ (fun w0z H locs hI2 hH => ?_)
  refine lv_aload_n hx hb dL_law_686 rfl (lv_at hl 2 rfl) ?_
  refine lv_aload_n hx hb dL_law_687 rfl (lv_at hl 0 rfl) ?_
  refine lv_iload_n hx hb dL_law_688 rfl (lv_at hl 3 rfl) ?_
  refine lv_iconst (v := 1) hx hb dL_law_689 (by decide) ?_
  refine lv_iadd hx hb dL_law_690 ?_
  refine va_sld hx hb hXX hbl hbA hH.2.2.1 (vps (k := 1) (by omega) hL) dL_law_691 ?_
  refine lv_aload_n hx hb dL_law_692 rfl (lv_at hl 0 rfl) ?_
  refine lv_iload_n hx hb dL_law_693 rfl (lv_at hl 3 rfl) ?_
  refine lv_iconst (v := 2) hx hb dL_law_694 (by decide) ?_
  refine lv_iadd hx hb dL_law_695 ?_
  refine va_sld hx hb hXX hbl hbA hH.2.2.1 (vps (k := 2) (by omega) hL) dL_law_696 ?_
  have hH := hH.perm List.perm_append_comm
  refine mxVF hX hK8 hEv hE hH hM8 (rc8 hI hK8 hH) (lw_V q2024 q2025 q2026 q142 q2027) hdl_X8_judge ⟨Nat.le_of_ble_eq_true rfl, Nat.le_of_ble_eq_true rfl⟩ rfl rfl hl (Nat.le_of_ble_eq_true rfl) dL_law_697 ⟨(by show cells + 0 + 0 ≤ 1200384; omega), (by show slots + 0 + 0 ≤ 5489322; omega)⟩ (fun w8z H locs hw hH => ?_)
  subst hw
  have hH := hH.perm List.perm_append_comm
  refine lv_icmp_eq (tgt := 1342) hx hb dL_law_700 rfl (fun _ => ?_) (fun c9 => absurd rfl c9)
  exact W.widen (k := cells + 12000) (n := slots + 48000) (by show cells + 0 + 0 ≤ cells + 12000; omega) (by show slots + 0 + 0 ≤ slots + 48000; omega) (kk _ _ _ _ hI2 hH)
theorem hdl_X0_perform : yX0_perform.cls = RX0 ∧ yX0_perform.cls ≠ "java/lang/invoke/MethodHandle" ∧ yX0_perform.cls ≠ "java/lang/invoke/VarHandle" ∧ (parseMethodDescriptor yX0_perform.desc).map (fun d => d.parameters.length) = some 1 := by decide +kernel
theorem hdl_X8_perform : yX8_perform.cls = RX8 ∧ yX8_perform.cls ≠ "java/lang/invoke/MethodHandle" ∧ yX8_perform.cls ≠ "java/lang/invoke/VarHandle" ∧ (parseMethodDescriptor yX8_perform.desc).map (fun d => d.parameters.length) = some 1 := by decide +kernel
set_option maxHeartbeats 4000000 in
theorem lawc_perform {p : Program} {l : Launch} {e : Env} {s : State} {m : MethodId} {b L i j : Nat} {xs : Nat → Int32} {below : List Frame} {meth : Method} {c : Code} {H : Heap} {locs : List Loc} {cells slots : Nat} {Q : State → Prop} {ls : Array Slot} {D : va_G} {E : EvT} {ks vs : Nat → Nat} {fo mi ak av fo8 : Nat} {ad ad8 : Nat → Nat} {cA cA8 : Nat → ClassId} {w0 w8 : va_W} (hX : CallFix p m c cL_law 4 s #[.ref b] lw_all R_law) (hXX : va_X b L xs s s.heap) (hbl : b < s.heap.size) (hV : EvAll l E ks vs fo mi ak av fo8) (hK0 : va_K D vwA (cT cA) s) (hK8 : va_K D vwA (mT cA8) s) (hE : E (fun q => s.heap.size ≤ q) s s.heap) (hI : InvW ad cA ad8 cA8 j w0 w8) (hj : j < 64) (hH : MH D vwA (fun q => s.heap.size ≤ q) s.heap (w0 ++ w8) H locs) (hl : lv_has ls 4 [(0, .ref b), (1, .ref (ad 0)), (2, .ref (ad8 0)), (3, .int (nI i))]) (hi : i + 6 ≤ L) (hL : L ≤ 384) (hc : cells + 12000 ≤ 1200384) (hs : slots + 48000 ≤ 5489322)
    (kk : ∀ (w0' w8' : va_W) (H1 : Heap) (locs1 : List Loc), InvW ad cA ad8 cA8 (j + 1) w0' w8' → MH D vwA (fun q => s.heap.size ≤ q) s.heap (w0' ++ w8') H1 locs1 → W p l e room_1 s m #[.ref b] below meth c H1 locs1 (cells + 12000) (slots + 48000) Q (F0 m 1342 ls [])) : W p l e room_1 s m #[.ref b] below meth c H locs cells slots Q (F0 m 705 ls []) := by
  obtain ⟨ans, w8', hM0, hM8⟩ := op_perform (l := l) (D := D) hV hI hj (xs (nI i + 1).toNatClampNeg)
  have hx := hX.1
  have hb := hX.2.1
  have hown := hX.2.2.2.1
  have hts := hX.2.2.2.2
  have hEv := hV.1.1.1
  have hbA : ¬ (fun q : Nat => s.heap.size ≤ q) b := Nat.not_le.mpr hbl
  refine lv_aload_n hx hb dL_law_705 rfl (lv_at hl 1 rfl) ?_
  refine lv_aload_n hx hb dL_law_706 rfl (lv_at hl 0 rfl) ?_
  refine lv_iload_n hx hb dL_law_707 rfl (lv_at hl 3 rfl) ?_
  refine lv_iconst (v := 1) hx hb dL_law_708 (by decide) ?_
  refine lv_iadd hx hb dL_law_709 ?_
  refine va_sld hx hb hXX hbl hbA hH.2.2.1 (vps (k := 1) (by omega) hL) dL_law_710 ?_
  refine mxVF hX hK0 hEv hE hH hM0 (rc0 hI hK0 hH) (lw_V q1213 q1214 q1215 q129 q1216) hdl_X0_perform ⟨Nat.le_of_ble_eq_true rfl, Nat.le_of_ble_eq_true rfl⟩ rfl rfl hl (Nat.le_of_ble_eq_true rfl) dL_law_711 ⟨(by show cells + 0 ≤ 1200384; omega), (by show slots + 0 ≤ 5489322; omega)⟩ (fun w0z H locs hI2 hH => ?_)
  refine lv_aload_n hx hb dL_law_714 rfl (lv_at hl 2 rfl) ?_
  refine lv_aload_n hx hb dL_law_715 rfl (lv_at hl 0 rfl) ?_
  refine lv_iload_n hx hb dL_law_716 rfl (lv_at hl 3 rfl) ?_
  refine lv_iconst (v := 1) hx hb dL_law_717 (by decide) ?_
  refine lv_iadd hx hb dL_law_718 ?_
  refine va_sld hx hb hXX hbl hbA hH.2.2.1 (vps (k := 1) (by omega) hL) dL_law_719 ?_
  have hH := hH.perm List.perm_append_comm
  refine mxVF hX hK8 hEv hE hH hM8 (rc8 hI hK8 hH) (lw_V q2039 q2040 q2041 q142 q2042) hdl_X8_perform ⟨Nat.le_of_ble_eq_true rfl, Nat.le_of_ble_eq_true rfl⟩ rfl rfl hl (Nat.le_of_ble_eq_true rfl) dL_law_720 ⟨(by show cells + 0 + 0 ≤ 1200384; omega), (by show slots + 0 + 0 ≤ 5489322; omega)⟩ (fun w8z H locs hw hH => ?_)
  subst hw
  have hH := hH.perm List.perm_append_comm
  refine lv_icmp_eq (tgt := 1342) hx hb dL_law_723 rfl (fun _ => ?_) (fun c9 => absurd rfl c9)
  exact W.widen (k := cells + 12000) (n := slots + 48000) (by show cells + 0 + 0 ≤ cells + 12000; omega) (by show slots + 0 + 0 ≤ slots + 48000; omega) (kk _ _ _ _ hI2 hH)
theorem hdl_X0_match : yX0_match.cls = RX0 ∧ yX0_match.cls ≠ "java/lang/invoke/MethodHandle" ∧ yX0_match.cls ≠ "java/lang/invoke/VarHandle" ∧ (parseMethodDescriptor yX0_match.desc).map (fun d => d.parameters.length) = some 1 := by decide +kernel
theorem hdl_X8_match : yX8_match.cls = RX8 ∧ yX8_match.cls ≠ "java/lang/invoke/MethodHandle" ∧ yX8_match.cls ≠ "java/lang/invoke/VarHandle" ∧ (parseMethodDescriptor yX8_match.desc).map (fun d => d.parameters.length) = some 1 := by decide +kernel
set_option maxHeartbeats 4000000 in
theorem lawc_match {p : Program} {l : Launch} {e : Env} {s : State} {m : MethodId} {b L i j : Nat} {xs : Nat → Int32} {below : List Frame} {meth : Method} {c : Code} {H : Heap} {locs : List Loc} {cells slots : Nat} {Q : State → Prop} {ls : Array Slot} {D : va_G} {E : EvT} {ks vs : Nat → Nat} {fo mi ak av fo8 : Nat} {ad ad8 : Nat → Nat} {cA cA8 : Nat → ClassId} {w0 w8 : va_W} (hX : CallFix p m c cL_law 4 s #[.ref b] lw_all R_law) (hXX : va_X b L xs s s.heap) (hbl : b < s.heap.size) (hV : EvAll l E ks vs fo mi ak av fo8) (hK0 : va_K D vwA (cT cA) s) (hK8 : va_K D vwA (mT cA8) s) (hE : E (fun q => s.heap.size ≤ q) s s.heap) (hI : InvW ad cA ad8 cA8 j w0 w8) (hj : j < 64) (hH : MH D vwA (fun q => s.heap.size ≤ q) s.heap (w0 ++ w8) H locs) (hl : lv_has ls 4 [(0, .ref b), (1, .ref (ad 0)), (2, .ref (ad8 0)), (3, .int (nI i))]) (hi : i + 6 ≤ L) (hL : L ≤ 384) (hc : cells + 12000 ≤ 1200384) (hs : slots + 48000 ≤ 5489322)
    (kk : ∀ (w0' w8' : va_W) (H1 : Heap) (locs1 : List Loc), InvW ad cA ad8 cA8 (j + 1) w0' w8' → MH D vwA (fun q => s.heap.size ≤ q) s.heap (w0' ++ w8') H1 locs1 → W p l e room_1 s m #[.ref b] below meth c H1 locs1 (cells + 12000) (slots + 48000) Q (F0 m 1342 ls [])) : W p l e room_1 s m #[.ref b] below meth c H locs cells slots Q (F0 m 728 ls []) := by
  obtain ⟨ans, w8', hM0, hM8⟩ := op_match (l := l) (D := D) hV hI hj (xs (nI i + 1).toNatClampNeg)
  have hx := hX.1
  have hb := hX.2.1
  have hown := hX.2.2.2.1
  have hts := hX.2.2.2.2
  have hEv := hV.1.1.1
  have hbA : ¬ (fun q : Nat => s.heap.size ≤ q) b := Nat.not_le.mpr hbl
  refine lv_aload_n hx hb dL_law_728 rfl (lv_at hl 1 rfl) ?_
  refine lv_aload_n hx hb dL_law_729 rfl (lv_at hl 0 rfl) ?_
  refine lv_iload_n hx hb dL_law_730 rfl (lv_at hl 3 rfl) ?_
  refine lv_iconst (v := 1) hx hb dL_law_731 (by decide) ?_
  refine lv_iadd hx hb dL_law_732 ?_
  refine va_sld hx hb hXX hbl hbA hH.2.2.1 (vps (k := 1) (by omega) hL) dL_law_733 ?_
  refine mxVF hX hK0 hEv hE hH hM0 (rc0 hI hK0 hH) (lw_V q1220 q1221 q1222 q129 q1223) hdl_X0_match ⟨Nat.le_of_ble_eq_true rfl, Nat.le_of_ble_eq_true rfl⟩ rfl rfl hl (Nat.le_of_ble_eq_true rfl) dL_law_734 ⟨(by show cells + 0 ≤ 1200384; omega), (by show slots + 0 ≤ 5489322; omega)⟩ (fun w0z H locs hI2 hH => ?_)
  refine lv_aload_n hx hb dL_law_737 rfl (lv_at hl 2 rfl) ?_
  refine lv_aload_n hx hb dL_law_738 rfl (lv_at hl 0 rfl) ?_
  refine lv_iload_n hx hb dL_law_739 rfl (lv_at hl 3 rfl) ?_
  refine lv_iconst (v := 1) hx hb dL_law_740 (by decide) ?_
  refine lv_iadd hx hb dL_law_741 ?_
  refine va_sld hx hb hXX hbl hbA hH.2.2.1 (vps (k := 1) (by omega) hL) dL_law_742 ?_
  have hH := hH.perm List.perm_append_comm
  refine mxVF hX hK8 hEv hE hH hM8 (rc8 hI hK8 hH) (lw_V q2046 q2047 q2048 q142 q2049) hdl_X8_match ⟨Nat.le_of_ble_eq_true rfl, Nat.le_of_ble_eq_true rfl⟩ rfl rfl hl (Nat.le_of_ble_eq_true rfl) dL_law_743 ⟨(by show cells + 0 + 0 ≤ 1200384; omega), (by show slots + 0 + 0 ≤ 5489322; omega)⟩ (fun w8z H locs hw hH => ?_)
  subst hw
  have hH := hH.perm List.perm_append_comm
  refine lv_icmp_eq (tgt := 1342) hx hb dL_law_746 rfl (fun _ => ?_) (fun c9 => absurd rfl c9)
  exact W.widen (k := cells + 12000) (n := slots + 48000) (by show cells + 0 + 0 ≤ cells + 12000; omega) (by show slots + 0 + 0 ≤ slots + 48000; omega) (kk _ _ _ _ hI2 hH)
theorem hdl_X0_once : yX0_once.cls = RX0 ∧ yX0_once.cls ≠ "java/lang/invoke/MethodHandle" ∧ yX0_once.cls ≠ "java/lang/invoke/VarHandle" ∧ (parseMethodDescriptor yX0_once.desc).map (fun d => d.parameters.length) = some 1 := by decide +kernel
theorem hdl_X8_once : yX8_once.cls = RX8 ∧ yX8_once.cls ≠ "java/lang/invoke/MethodHandle" ∧ yX8_once.cls ≠ "java/lang/invoke/VarHandle" ∧ (parseMethodDescriptor yX8_once.desc).map (fun d => d.parameters.length) = some 1 := by decide +kernel
set_option maxHeartbeats 4000000 in
theorem lawc_once {p : Program} {l : Launch} {e : Env} {s : State} {m : MethodId} {b L i j : Nat} {xs : Nat → Int32} {below : List Frame} {meth : Method} {c : Code} {H : Heap} {locs : List Loc} {cells slots : Nat} {Q : State → Prop} {ls : Array Slot} {D : va_G} {E : EvT} {ks vs : Nat → Nat} {fo mi ak av fo8 : Nat} {ad ad8 : Nat → Nat} {cA cA8 : Nat → ClassId} {w0 w8 : va_W} (hX : CallFix p m c cL_law 4 s #[.ref b] lw_all R_law) (hXX : va_X b L xs s s.heap) (hbl : b < s.heap.size) (hV : EvAll l E ks vs fo mi ak av fo8) (hK0 : va_K D vwA (cT cA) s) (hK8 : va_K D vwA (mT cA8) s) (hE : E (fun q => s.heap.size ≤ q) s s.heap) (hI : InvW ad cA ad8 cA8 j w0 w8) (hj : j < 64) (hH : MH D vwA (fun q => s.heap.size ≤ q) s.heap (w0 ++ w8) H locs) (hl : lv_has ls 4 [(0, .ref b), (1, .ref (ad 0)), (2, .ref (ad8 0)), (3, .int (nI i))]) (hi : i + 6 ≤ L) (hL : L ≤ 384) (hc : cells + 12000 ≤ 1200384) (hs : slots + 48000 ≤ 5489322)
    (kk : ∀ (w0' w8' : va_W) (H1 : Heap) (locs1 : List Loc), InvW ad cA ad8 cA8 (j + 1) w0' w8' → MH D vwA (fun q => s.heap.size ≤ q) s.heap (w0' ++ w8') H1 locs1 → W p l e room_1 s m #[.ref b] below meth c H1 locs1 (cells + 12000) (slots + 48000) Q (F0 m 1342 ls [])) : W p l e room_1 s m #[.ref b] below meth c H locs cells slots Q (F0 m 751 ls []) := by
  obtain ⟨ans, w8', hM0, hM8⟩ := op_once (l := l) (D := D) hV hI hj (xs (nI i + 1).toNatClampNeg)
  have hx := hX.1
  have hb := hX.2.1
  have hown := hX.2.2.2.1
  have hts := hX.2.2.2.2
  have hEv := hV.1.1.1
  have hbA : ¬ (fun q : Nat => s.heap.size ≤ q) b := Nat.not_le.mpr hbl
  refine lv_aload_n hx hb dL_law_751 rfl (lv_at hl 1 rfl) ?_
  refine lv_aload_n hx hb dL_law_752 rfl (lv_at hl 0 rfl) ?_
  refine lv_iload_n hx hb dL_law_753 rfl (lv_at hl 3 rfl) ?_
  refine lv_iconst (v := 1) hx hb dL_law_754 (by decide) ?_
  refine lv_iadd hx hb dL_law_755 ?_
  refine va_sld hx hb hXX hbl hbA hH.2.2.1 (vps (k := 1) (by omega) hL) dL_law_756 ?_
  refine mxVF hX hK0 hEv hE hH hM0 (rc0 hI hK0 hH) (lw_V q1259 q1260 q1261 q129 q1262) hdl_X0_once ⟨Nat.le_of_ble_eq_true rfl, Nat.le_of_ble_eq_true rfl⟩ rfl rfl hl (Nat.le_of_ble_eq_true rfl) dL_law_757 ⟨(by show cells + 0 ≤ 1200384; omega), (by show slots + 0 ≤ 5489322; omega)⟩ (fun w0z H locs hI2 hH => ?_)
  refine lv_aload_n hx hb dL_law_760 rfl (lv_at hl 2 rfl) ?_
  refine lv_aload_n hx hb dL_law_761 rfl (lv_at hl 0 rfl) ?_
  refine lv_iload_n hx hb dL_law_762 rfl (lv_at hl 3 rfl) ?_
  refine lv_iconst (v := 1) hx hb dL_law_763 (by decide) ?_
  refine lv_iadd hx hb dL_law_764 ?_
  refine va_sld hx hb hXX hbl hbA hH.2.2.1 (vps (k := 1) (by omega) hL) dL_law_765 ?_
  have hH := hH.perm List.perm_append_comm
  refine mxVF hX hK8 hEv hE hH hM8 (rc8 hI hK8 hH) (lw_V q2065 q2066 q2067 q142 q2068) hdl_X8_once ⟨Nat.le_of_ble_eq_true rfl, Nat.le_of_ble_eq_true rfl⟩ rfl rfl hl (Nat.le_of_ble_eq_true rfl) dL_law_766 ⟨(by show cells + 0 + 0 ≤ 1200384; omega), (by show slots + 0 + 0 ≤ 5489322; omega)⟩ (fun w8z H locs hw hH => ?_)
  subst hw
  have hH := hH.perm List.perm_append_comm
  refine lv_icmp_eq (tgt := 1342) hx hb dL_law_769 rfl (fun _ => ?_) (fun c9 => absurd rfl c9)
  exact W.widen (k := cells + 12000) (n := slots + 48000) (by show cells + 0 + 0 ≤ cells + 12000; omega) (by show slots + 0 + 0 ≤ slots + 48000; omega) (kk _ _ _ _ hI2 hH)
theorem hdl_X0_ahead : yX0_ahead.cls = RX0 ∧ yX0_ahead.cls ≠ "java/lang/invoke/MethodHandle" ∧ yX0_ahead.cls ≠ "java/lang/invoke/VarHandle" ∧ (parseMethodDescriptor yX0_ahead.desc).map (fun d => d.parameters.length) = some 2 := by decide +kernel
theorem hdl_X8_ahead : yX8_ahead.cls = RX8 ∧ yX8_ahead.cls ≠ "java/lang/invoke/MethodHandle" ∧ yX8_ahead.cls ≠ "java/lang/invoke/VarHandle" ∧ (parseMethodDescriptor yX8_ahead.desc).map (fun d => d.parameters.length) = some 2 := by decide +kernel
set_option maxHeartbeats 4000000 in
theorem lawc_ahead {p : Program} {l : Launch} {e : Env} {s : State} {m : MethodId} {b L i j : Nat} {xs : Nat → Int32} {below : List Frame} {meth : Method} {c : Code} {H : Heap} {locs : List Loc} {cells slots : Nat} {Q : State → Prop} {ls : Array Slot} {D : va_G} {E : EvT} {ks vs : Nat → Nat} {fo mi ak av fo8 : Nat} {ad ad8 : Nat → Nat} {cA cA8 : Nat → ClassId} {w0 w8 : va_W} (hX : CallFix p m c cL_law 4 s #[.ref b] lw_all R_law) (hXX : va_X b L xs s s.heap) (hbl : b < s.heap.size) (hV : EvAll l E ks vs fo mi ak av fo8) (hK0 : va_K D vwA (cT cA) s) (hK8 : va_K D vwA (mT cA8) s) (hE : E (fun q => s.heap.size ≤ q) s s.heap) (hI : InvW ad cA ad8 cA8 j w0 w8) (hj : j < 64) (hH : MH D vwA (fun q => s.heap.size ≤ q) s.heap (w0 ++ w8) H locs) (hl : lv_has ls 4 [(0, .ref b), (1, .ref (ad 0)), (2, .ref (ad8 0)), (3, .int (nI i))]) (hi : i + 6 ≤ L) (hL : L ≤ 384) (hc : cells + 12000 ≤ 1200384) (hs : slots + 48000 ≤ 5489322)
    (kk : ∀ (w0' w8' : va_W) (H1 : Heap) (locs1 : List Loc), InvW ad cA ad8 cA8 (j + 1) w0' w8' → MH D vwA (fun q => s.heap.size ≤ q) s.heap (w0' ++ w8') H1 locs1 → W p l e room_1 s m #[.ref b] below meth c H1 locs1 (cells + 12000) (slots + 48000) Q (F0 m 1342 ls [])) : W p l e room_1 s m #[.ref b] below meth c H locs cells slots Q (F0 m 774 ls []) := by
  obtain ⟨ans, w8', hM0, hM8⟩ := op_ahead (l := l) (D := D) hV hI hj (xs (nI i + 1).toNatClampNeg) (xs (nI i + 2).toNatClampNeg)
  have hx := hX.1
  have hb := hX.2.1
  have hown := hX.2.2.2.1
  have hts := hX.2.2.2.2
  have hEv := hV.1.1.1
  have hbA : ¬ (fun q : Nat => s.heap.size ≤ q) b := Nat.not_le.mpr hbl
  refine lv_aload_n hx hb dL_law_774 rfl (lv_at hl 1 rfl) ?_
  refine lv_aload_n hx hb dL_law_775 rfl (lv_at hl 0 rfl) ?_
  refine lv_iload_n hx hb dL_law_776 rfl (lv_at hl 3 rfl) ?_
  refine lv_iconst (v := 1) hx hb dL_law_777 (by decide) ?_
  refine lv_iadd hx hb dL_law_778 ?_
  refine va_sld hx hb hXX hbl hbA hH.2.2.1 (vps (k := 1) (by omega) hL) dL_law_779 ?_
  refine lv_aload_n hx hb dL_law_780 rfl (lv_at hl 0 rfl) ?_
  refine lv_iload_n hx hb dL_law_781 rfl (lv_at hl 3 rfl) ?_
  refine lv_iconst (v := 2) hx hb dL_law_782 (by decide) ?_
  refine lv_iadd hx hb dL_law_783 ?_
  refine va_sld hx hb hXX hbl hbA hH.2.2.1 (vps (k := 2) (by omega) hL) dL_law_784 ?_
  refine mxVF hX hK0 hEv hE hH hM0 (rc0 hI hK0 hH) (lw_V q1282 q1283 q1284 q129 q1285) hdl_X0_ahead ⟨Nat.le_of_ble_eq_true rfl, Nat.le_of_ble_eq_true rfl⟩ rfl rfl hl (Nat.le_of_ble_eq_true rfl) dL_law_785 ⟨(by show cells + 0 ≤ 1200384; omega), (by show slots + 0 ≤ 5489322; omega)⟩ (fun w0z H locs hI2 hH => ?_)
  refine lv_aload_n hx hb dL_law_788 rfl (lv_at hl 2 rfl) ?_
  refine lv_aload_n hx hb dL_law_789 rfl (lv_at hl 0 rfl) ?_
  refine lv_iload_n hx hb dL_law_790 rfl (lv_at hl 3 rfl) ?_
  refine lv_iconst (v := 1) hx hb dL_law_791 (by decide) ?_
  refine lv_iadd hx hb dL_law_792 ?_
  refine va_sld hx hb hXX hbl hbA hH.2.2.1 (vps (k := 1) (by omega) hL) dL_law_793 ?_
  refine lv_aload_n hx hb dL_law_794 rfl (lv_at hl 0 rfl) ?_
  refine lv_iload_n hx hb dL_law_795 rfl (lv_at hl 3 rfl) ?_
  refine lv_iconst (v := 2) hx hb dL_law_796 (by decide) ?_
  refine lv_iadd hx hb dL_law_797 ?_
  refine va_sld hx hb hXX hbl hbA hH.2.2.1 (vps (k := 2) (by omega) hL) dL_law_798 ?_
  have hH := hH.perm List.perm_append_comm
  refine mxVF hX hK8 hEv hE hH hM8 (rc8 hI hK8 hH) (lw_V q2081 q2082 q2083 q142 q2084) hdl_X8_ahead ⟨Nat.le_of_ble_eq_true rfl, Nat.le_of_ble_eq_true rfl⟩ rfl rfl hl (Nat.le_of_ble_eq_true rfl) dL_law_799 ⟨(by show cells + 0 + 0 ≤ 1200384; omega), (by show slots + 0 + 0 ≤ 5489322; omega)⟩ (fun w8z H locs hw hH => ?_)
  subst hw
  have hH := hH.perm List.perm_append_comm
  refine lv_icmp_eq (tgt := 1342) hx hb dL_law_802 rfl (fun _ => ?_) (fun c9 => absurd rfl c9)
  exact W.widen (k := cells + 12000) (n := slots + 48000) (by show cells + 0 + 0 ≤ cells + 12000; omega) (by show slots + 0 + 0 ≤ slots + 48000; omega) (kk _ _ _ _ hI2 hH)
theorem hdl_X0_aside : yX0_aside.cls = RX0 ∧ yX0_aside.cls ≠ "java/lang/invoke/MethodHandle" ∧ yX0_aside.cls ≠ "java/lang/invoke/VarHandle" ∧ (parseMethodDescriptor yX0_aside.desc).map (fun d => d.parameters.length) = some 1 := by decide +kernel
theorem hdl_X8_aside : yX8_aside.cls = RX8 ∧ yX8_aside.cls ≠ "java/lang/invoke/MethodHandle" ∧ yX8_aside.cls ≠ "java/lang/invoke/VarHandle" ∧ (parseMethodDescriptor yX8_aside.desc).map (fun d => d.parameters.length) = some 1 := by decide +kernel
set_option maxHeartbeats 4000000 in
theorem lawc_aside {p : Program} {l : Launch} {e : Env} {s : State} {m : MethodId} {b L i j : Nat} {xs : Nat → Int32} {below : List Frame} {meth : Method} {c : Code} {H : Heap} {locs : List Loc} {cells slots : Nat} {Q : State → Prop} {ls : Array Slot} {D : va_G} {E : EvT} {ks vs : Nat → Nat} {fo mi ak av fo8 : Nat} {ad ad8 : Nat → Nat} {cA cA8 : Nat → ClassId} {w0 w8 : va_W} (hX : CallFix p m c cL_law 4 s #[.ref b] lw_all R_law) (hXX : va_X b L xs s s.heap) (hbl : b < s.heap.size) (hV : EvAll l E ks vs fo mi ak av fo8) (hK0 : va_K D vwA (cT cA) s) (hK8 : va_K D vwA (mT cA8) s) (hE : E (fun q => s.heap.size ≤ q) s s.heap) (hI : InvW ad cA ad8 cA8 j w0 w8) (hj : j < 64) (hH : MH D vwA (fun q => s.heap.size ≤ q) s.heap (w0 ++ w8) H locs) (hl : lv_has ls 4 [(0, .ref b), (1, .ref (ad 0)), (2, .ref (ad8 0)), (3, .int (nI i))]) (hi : i + 6 ≤ L) (hL : L ≤ 384) (hc : cells + 12000 ≤ 1200384) (hs : slots + 48000 ≤ 5489322)
    (kk : ∀ (w0' w8' : va_W) (H1 : Heap) (locs1 : List Loc), InvW ad cA ad8 cA8 (j + 1) w0' w8' → MH D vwA (fun q => s.heap.size ≤ q) s.heap (w0' ++ w8') H1 locs1 → W p l e room_1 s m #[.ref b] below meth c H1 locs1 (cells + 12000) (slots + 48000) Q (F0 m 1342 ls [])) : W p l e room_1 s m #[.ref b] below meth c H locs cells slots Q (F0 m 807 ls []) := by
  obtain ⟨ans, w8', hM0, hM8⟩ := op_aside (l := l) (D := D) hV hI hj (xs (nI i + 1).toNatClampNeg)
  have hx := hX.1
  have hb := hX.2.1
  have hown := hX.2.2.2.1
  have hts := hX.2.2.2.2
  have hEv := hV.1.1.1
  have hbA : ¬ (fun q : Nat => s.heap.size ≤ q) b := Nat.not_le.mpr hbl
  refine lv_aload_n hx hb dL_law_807 rfl (lv_at hl 1 rfl) ?_
  refine lv_aload_n hx hb dL_law_808 rfl (lv_at hl 0 rfl) ?_
  refine lv_iload_n hx hb dL_law_809 rfl (lv_at hl 3 rfl) ?_
  refine lv_iconst (v := 1) hx hb dL_law_810 (by decide) ?_
  refine lv_iadd hx hb dL_law_811 ?_
  refine va_sld hx hb hXX hbl hbA hH.2.2.1 (vps (k := 1) (by omega) hL) dL_law_812 ?_
  refine mxVF hX hK0 hEv hE hH hM0 (rc0 hI hK0 hH) (lw_V q1291 q1292 q1293 q129 q1294) hdl_X0_aside ⟨Nat.le_of_ble_eq_true rfl, Nat.le_of_ble_eq_true rfl⟩ rfl rfl hl (Nat.le_of_ble_eq_true rfl) dL_law_813 ⟨(by show cells + 0 ≤ 1200384; omega), (by show slots + 0 ≤ 5489322; omega)⟩ (fun w0z H locs hI2 hH => ?_)
  refine lv_aload_n hx hb dL_law_816 rfl (lv_at hl 2 rfl) ?_
  refine lv_aload_n hx hb dL_law_817 rfl (lv_at hl 0 rfl) ?_
  refine lv_iload_n hx hb dL_law_818 rfl (lv_at hl 3 rfl) ?_
  refine lv_iconst (v := 1) hx hb dL_law_819 (by decide) ?_
  refine lv_iadd hx hb dL_law_820 ?_
  refine va_sld hx hb hXX hbl hbA hH.2.2.1 (vps (k := 1) (by omega) hL) dL_law_821 ?_
  have hH := hH.perm List.perm_append_comm
  refine mxVF hX hK8 hEv hE hH hM8 (rc8 hI hK8 hH) (lw_V q2089 q2090 q2091 q142 q2092) hdl_X8_aside ⟨Nat.le_of_ble_eq_true rfl, Nat.le_of_ble_eq_true rfl⟩ rfl rfl hl (Nat.le_of_ble_eq_true rfl) dL_law_822 ⟨(by show cells + 0 + 0 ≤ 1200384; omega), (by show slots + 0 + 0 ≤ 5489322; omega)⟩ (fun w8z H locs hw hH => ?_)
  subst hw
  have hH := hH.perm List.perm_append_comm
  refine lv_icmp_eq (tgt := 1342) hx hb dL_law_825 rfl (fun _ => ?_) (fun c9 => absurd rfl c9)
  exact W.widen (k := cells + 12000) (n := slots + 48000) (by show cells + 0 + 0 ≤ cells + 12000; omega) (by show slots + 0 + 0 ≤ slots + 48000; omega) (kk _ _ _ _ hI2 hH)
theorem hdl_X0_years : yX0_years.cls = RX0 ∧ yX0_years.cls ≠ "java/lang/invoke/MethodHandle" ∧ yX0_years.cls ≠ "java/lang/invoke/VarHandle" ∧ (parseMethodDescriptor yX0_years.desc).map (fun d => d.parameters.length) = some 1 := by decide +kernel
theorem hdl_X8_years : yX8_years.cls = RX8 ∧ yX8_years.cls ≠ "java/lang/invoke/MethodHandle" ∧ yX8_years.cls ≠ "java/lang/invoke/VarHandle" ∧ (parseMethodDescriptor yX8_years.desc).map (fun d => d.parameters.length) = some 1 := by decide +kernel
set_option maxHeartbeats 4000000 in
theorem lawc_years {p : Program} {l : Launch} {e : Env} {s : State} {m : MethodId} {b L i j : Nat} {xs : Nat → Int32} {below : List Frame} {meth : Method} {c : Code} {H : Heap} {locs : List Loc} {cells slots : Nat} {Q : State → Prop} {ls : Array Slot} {D : va_G} {E : EvT} {ks vs : Nat → Nat} {fo mi ak av fo8 : Nat} {ad ad8 : Nat → Nat} {cA cA8 : Nat → ClassId} {w0 w8 : va_W} (hX : CallFix p m c cL_law 4 s #[.ref b] lw_all R_law) (hXX : va_X b L xs s s.heap) (hbl : b < s.heap.size) (hV : EvAll l E ks vs fo mi ak av fo8) (hK0 : va_K D vwA (cT cA) s) (hK8 : va_K D vwA (mT cA8) s) (hE : E (fun q => s.heap.size ≤ q) s s.heap) (hI : InvW ad cA ad8 cA8 j w0 w8) (hj : j < 64) (hH : MH D vwA (fun q => s.heap.size ≤ q) s.heap (w0 ++ w8) H locs) (hl : lv_has ls 4 [(0, .ref b), (1, .ref (ad 0)), (2, .ref (ad8 0)), (3, .int (nI i))]) (hi : i + 6 ≤ L) (hL : L ≤ 384) (hc : cells + 12000 ≤ 1200384) (hs : slots + 48000 ≤ 5489322)
    (kk : ∀ (w0' w8' : va_W) (H1 : Heap) (locs1 : List Loc), InvW ad cA ad8 cA8 (j + 1) w0' w8' → MH D vwA (fun q => s.heap.size ≤ q) s.heap (w0' ++ w8') H1 locs1 → W p l e room_1 s m #[.ref b] below meth c H1 locs1 (cells + 12000) (slots + 48000) Q (F0 m 1342 ls [])) : W p l e room_1 s m #[.ref b] below meth c H locs cells slots Q (F0 m 830 ls []) := by
  obtain ⟨ans, w8', hM0, hM8⟩ := op_years (l := l) (D := D) hV hI hj (xs (nI i + 1).toNatClampNeg)
  have hx := hX.1
  have hb := hX.2.1
  have hown := hX.2.2.2.1
  have hts := hX.2.2.2.2
  have hEv := hV.1.1.1
  have hbA : ¬ (fun q : Nat => s.heap.size ≤ q) b := Nat.not_le.mpr hbl
  refine lv_aload_n hx hb dL_law_830 rfl (lv_at hl 1 rfl) ?_
  refine lv_aload_n hx hb dL_law_831 rfl (lv_at hl 0 rfl) ?_
  refine lv_iload_n hx hb dL_law_832 rfl (lv_at hl 3 rfl) ?_
  refine lv_iconst (v := 1) hx hb dL_law_833 (by decide) ?_
  refine lv_iadd hx hb dL_law_834 ?_
  refine va_sld hx hb hXX hbl hbA hH.2.2.1 (vps (k := 1) (by omega) hL) dL_law_835 ?_
  refine mxVF hX hK0 hEv hE hH hM0 (rc0 hI hK0 hH) (lw_V q1299 q1300 q1301 q129 q1302) hdl_X0_years ⟨Nat.le_of_ble_eq_true rfl, Nat.le_of_ble_eq_true rfl⟩ rfl rfl hl (Nat.le_of_ble_eq_true rfl) dL_law_836 ⟨(by show cells + 0 ≤ 1200384; omega), (by show slots + 0 ≤ 5489322; omega)⟩ (fun w0z H locs hI2 hH => ?_)
  refine lv_aload_n hx hb dL_law_839 rfl (lv_at hl 2 rfl) ?_
  refine lv_aload_n hx hb dL_law_840 rfl (lv_at hl 0 rfl) ?_
  refine lv_iload_n hx hb dL_law_841 rfl (lv_at hl 3 rfl) ?_
  refine lv_iconst (v := 1) hx hb dL_law_842 (by decide) ?_
  refine lv_iadd hx hb dL_law_843 ?_
  refine va_sld hx hb hXX hbl hbA hH.2.2.1 (vps (k := 1) (by omega) hL) dL_law_844 ?_
  have hH := hH.perm List.perm_append_comm
  refine mxVF hX hK8 hEv hE hH hM8 (rc8 hI hK8 hH) (lw_V q2097 q2098 q2099 q142 q2100) hdl_X8_years ⟨Nat.le_of_ble_eq_true rfl, Nat.le_of_ble_eq_true rfl⟩ rfl rfl hl (Nat.le_of_ble_eq_true rfl) dL_law_845 ⟨(by show cells + 0 + 0 ≤ 1200384; omega), (by show slots + 0 + 0 ≤ 5489322; omega)⟩ (fun w8z H locs hw hH => ?_)
  subst hw
  have hH := hH.perm List.perm_append_comm
  refine lv_icmp_eq (tgt := 1342) hx hb dL_law_848 rfl (fun _ => ?_) (fun c9 => absurd rfl c9)
  exact W.widen (k := cells + 12000) (n := slots + 48000) (by show cells + 0 + 0 ≤ cells + 12000; omega) (by show slots + 0 + 0 ≤ slots + 48000; omega) (kk _ _ _ _ hI2 hH)
theorem hdl_X0_states : yX0_states.cls = RX0 ∧ yX0_states.cls ≠ "java/lang/invoke/MethodHandle" ∧ yX0_states.cls ≠ "java/lang/invoke/VarHandle" ∧ (parseMethodDescriptor yX0_states.desc).map (fun d => d.parameters.length) = some 0 := by decide +kernel
theorem hdl_X8_states : yX8_states.cls = RX8 ∧ yX8_states.cls ≠ "java/lang/invoke/MethodHandle" ∧ yX8_states.cls ≠ "java/lang/invoke/VarHandle" ∧ (parseMethodDescriptor yX8_states.desc).map (fun d => d.parameters.length) = some 0 := by decide +kernel
set_option maxHeartbeats 4000000 in
theorem lawc_states {p : Program} {l : Launch} {e : Env} {s : State} {m : MethodId} {b L i j : Nat} {xs : Nat → Int32} {below : List Frame} {meth : Method} {c : Code} {H : Heap} {locs : List Loc} {cells slots : Nat} {Q : State → Prop} {ls : Array Slot} {D : va_G} {E : EvT} {ks vs : Nat → Nat} {fo mi ak av fo8 : Nat} {ad ad8 : Nat → Nat} {cA cA8 : Nat → ClassId} {w0 w8 : va_W} (hX : CallFix p m c cL_law 4 s #[.ref b] lw_all R_law) (hXX : va_X b L xs s s.heap) (hbl : b < s.heap.size) (hV : EvAll l E ks vs fo mi ak av fo8) (hK0 : va_K D vwA (cT cA) s) (hK8 : va_K D vwA (mT cA8) s) (hE : E (fun q => s.heap.size ≤ q) s s.heap) (hI : InvW ad cA ad8 cA8 j w0 w8) (hj : j < 64) (hH : MH D vwA (fun q => s.heap.size ≤ q) s.heap (w0 ++ w8) H locs) (hl : lv_has ls 4 [(0, .ref b), (1, .ref (ad 0)), (2, .ref (ad8 0)), (3, .int (nI i))]) (hi : i + 6 ≤ L) (hL : L ≤ 384) (hc : cells + 12000 ≤ 1200384) (hs : slots + 48000 ≤ 5489322)
    (kk : ∀ (w0' w8' : va_W) (H1 : Heap) (locs1 : List Loc), InvW ad cA ad8 cA8 (j + 1) w0' w8' → MH D vwA (fun q => s.heap.size ≤ q) s.heap (w0' ++ w8') H1 locs1 → W p l e room_1 s m #[.ref b] below meth c H1 locs1 (cells + 12000) (slots + 48000) Q (F0 m 1342 ls [])) : W p l e room_1 s m #[.ref b] below meth c H locs cells slots Q (F0 m 853 ls []) := by
  obtain ⟨ans, w8', hM0, hM8⟩ := op_states (l := l) (D := D) hV hI hj 
  have hx := hX.1
  have hb := hX.2.1
  have hown := hX.2.2.2.1
  have hts := hX.2.2.2.2
  have hEv := hV.1.1.1
  have hbA : ¬ (fun q : Nat => s.heap.size ≤ q) b := Nat.not_le.mpr hbl
  refine lv_aload_n hx hb dL_law_853 rfl (lv_at hl 1 rfl) ?_
  refine mxVF hX hK0 hEv hE hH hM0 (rc0 hI hK0 hH) (lw_V q1347 q1348 q1349 q129 q1350) hdl_X0_states ⟨Nat.le_of_ble_eq_true rfl, Nat.le_of_ble_eq_true rfl⟩ rfl rfl hl (Nat.le_of_ble_eq_true rfl) dL_law_854 ⟨(by show cells + 0 ≤ 1200384; omega), (by show slots + 0 ≤ 5489322; omega)⟩ (fun w0z H locs hI2 hH => ?_)
  refine lv_aload_n hx hb dL_law_857 rfl (lv_at hl 2 rfl) ?_
  have hH := hH.perm List.perm_append_comm
  refine mxVF hX hK8 hEv hE hH hM8 (rc8 hI hK8 hH) (lw_V q2130 q2131 q2132 q142 q2133) hdl_X8_states ⟨Nat.le_of_ble_eq_true rfl, Nat.le_of_ble_eq_true rfl⟩ rfl rfl hl (Nat.le_of_ble_eq_true rfl) dL_law_858 ⟨(by show cells + 0 + 0 ≤ 1200384; omega), (by show slots + 0 + 0 ≤ 5489322; omega)⟩ (fun w8z H locs hw hH => ?_)
  subst hw
  have hH := hH.perm List.perm_append_comm
  refine lv_icmp_eq (tgt := 1342) hx hb dL_law_861 rfl (fun _ => ?_) (fun c9 => absurd rfl c9)
  exact W.widen (k := cells + 12000) (n := slots + 48000) (by show cells + 0 + 0 ≤ cells + 12000; omega) (by show slots + 0 + 0 ≤ slots + 48000; omega) (kk _ _ _ _ hI2 hH)
theorem hdl_X0_after : yX0_after.cls = RX0 ∧ yX0_after.cls ≠ "java/lang/invoke/MethodHandle" ∧ yX0_after.cls ≠ "java/lang/invoke/VarHandle" ∧ (parseMethodDescriptor yX0_after.desc).map (fun d => d.parameters.length) = some 2 := by decide +kernel
theorem hdl_X8_after : yX8_after.cls = RX8 ∧ yX8_after.cls ≠ "java/lang/invoke/MethodHandle" ∧ yX8_after.cls ≠ "java/lang/invoke/VarHandle" ∧ (parseMethodDescriptor yX8_after.desc).map (fun d => d.parameters.length) = some 2 := by decide +kernel
set_option maxHeartbeats 4000000 in
theorem lawc_after {p : Program} {l : Launch} {e : Env} {s : State} {m : MethodId} {b L i j : Nat} {xs : Nat → Int32} {below : List Frame} {meth : Method} {c : Code} {H : Heap} {locs : List Loc} {cells slots : Nat} {Q : State → Prop} {ls : Array Slot} {D : va_G} {E : EvT} {ks vs : Nat → Nat} {fo mi ak av fo8 : Nat} {ad ad8 : Nat → Nat} {cA cA8 : Nat → ClassId} {w0 w8 : va_W} (hX : CallFix p m c cL_law 4 s #[.ref b] lw_all R_law) (hXX : va_X b L xs s s.heap) (hbl : b < s.heap.size) (hV : EvAll l E ks vs fo mi ak av fo8) (hK0 : va_K D vwA (cT cA) s) (hK8 : va_K D vwA (mT cA8) s) (hE : E (fun q => s.heap.size ≤ q) s s.heap) (hI : InvW ad cA ad8 cA8 j w0 w8) (hj : j < 64) (hH : MH D vwA (fun q => s.heap.size ≤ q) s.heap (w0 ++ w8) H locs) (hl : lv_has ls 4 [(0, .ref b), (1, .ref (ad 0)), (2, .ref (ad8 0)), (3, .int (nI i))]) (hi : i + 6 ≤ L) (hL : L ≤ 384) (hc : cells + 12000 ≤ 1200384) (hs : slots + 48000 ≤ 5489322)
    (kk : ∀ (w0' w8' : va_W) (H1 : Heap) (locs1 : List Loc), InvW ad cA ad8 cA8 (j + 1) w0' w8' → MH D vwA (fun q => s.heap.size ≤ q) s.heap (w0' ++ w8') H1 locs1 → W p l e room_1 s m #[.ref b] below meth c H1 locs1 (cells + 12000) (slots + 48000) Q (F0 m 1342 ls [])) : W p l e room_1 s m #[.ref b] below meth c H locs cells slots Q (F0 m 866 ls []) := by
  obtain ⟨ans, w8', hM0, hM8⟩ := op_after (l := l) (D := D) hV hI hj (xs (nI i + 1).toNatClampNeg) (xs (nI i + 2).toNatClampNeg)
  have hx := hX.1
  have hb := hX.2.1
  have hown := hX.2.2.2.1
  have hts := hX.2.2.2.2
  have hEv := hV.1.1.1
  have hbA : ¬ (fun q : Nat => s.heap.size ≤ q) b := Nat.not_le.mpr hbl
  refine lv_aload_n hx hb dL_law_866 rfl (lv_at hl 1 rfl) ?_
  refine lv_aload_n hx hb dL_law_867 rfl (lv_at hl 0 rfl) ?_
  refine lv_iload_n hx hb dL_law_868 rfl (lv_at hl 3 rfl) ?_
  refine lv_iconst (v := 1) hx hb dL_law_869 (by decide) ?_
  refine lv_iadd hx hb dL_law_870 ?_
  refine va_sld hx hb hXX hbl hbA hH.2.2.1 (vps (k := 1) (by omega) hL) dL_law_871 ?_
  refine lv_aload_n hx hb dL_law_872 rfl (lv_at hl 0 rfl) ?_
  refine lv_iload_n hx hb dL_law_873 rfl (lv_at hl 3 rfl) ?_
  refine lv_iconst (v := 2) hx hb dL_law_874 (by decide) ?_
  refine lv_iadd hx hb dL_law_875 ?_
  refine va_sld hx hb hXX hbl hbA hH.2.2.1 (vps (k := 2) (by omega) hL) dL_law_876 ?_
  refine mxVF hX hK0 hEv hE hH hM0 (rc0 hI hK0 hH) (lw_V q1351 q1352 q1353 q129 q1354) hdl_X0_after ⟨Nat.le_of_ble_eq_true rfl, Nat.le_of_ble_eq_true rfl⟩ rfl rfl hl (Nat.le_of_ble_eq_true rfl) dL_law_877 ⟨(by show cells + 0 ≤ 1200384; omega), (by show slots + 0 ≤ 5489322; omega)⟩ (fun w0z H locs hI2 hH => ?_)
  refine lv_aload_n hx hb dL_law_880 rfl (lv_at hl 2 rfl) ?_
  refine lv_aload_n hx hb dL_law_881 rfl (lv_at hl 0 rfl) ?_
  refine lv_iload_n hx hb dL_law_882 rfl (lv_at hl 3 rfl) ?_
  refine lv_iconst (v := 1) hx hb dL_law_883 (by decide) ?_
  refine lv_iadd hx hb dL_law_884 ?_
  refine va_sld hx hb hXX hbl hbA hH.2.2.1 (vps (k := 1) (by omega) hL) dL_law_885 ?_
  refine lv_aload_n hx hb dL_law_886 rfl (lv_at hl 0 rfl) ?_
  refine lv_iload_n hx hb dL_law_887 rfl (lv_at hl 3 rfl) ?_
  refine lv_iconst (v := 2) hx hb dL_law_888 (by decide) ?_
  refine lv_iadd hx hb dL_law_889 ?_
  refine va_sld hx hb hXX hbl hbA hH.2.2.1 (vps (k := 2) (by omega) hL) dL_law_890 ?_
  have hH := hH.perm List.perm_append_comm
  refine mxVF hX hK8 hEv hE hH hM8 (rc8 hI hK8 hH) (lw_V q2134 q2135 q2136 q142 q2137) hdl_X8_after ⟨Nat.le_of_ble_eq_true rfl, Nat.le_of_ble_eq_true rfl⟩ rfl rfl hl (Nat.le_of_ble_eq_true rfl) dL_law_891 ⟨(by show cells + 0 + 0 ≤ 1200384; omega), (by show slots + 0 + 0 ≤ 5489322; omega)⟩ (fun w8z H locs hw hH => ?_)
  subst hw
  have hH := hH.perm List.perm_append_comm
  refine lv_icmp_eq (tgt := 1342) hx hb dL_law_894 rfl (fun _ => ?_) (fun c9 => absurd rfl c9)
  exact W.widen (k := cells + 12000) (n := slots + 48000) (by show cells + 0 + 0 ≤ cells + 12000; omega) (by show slots + 0 + 0 ≤ slots + 48000; omega) (kk _ _ _ _ hI2 hH)
theorem hdl_X0_without : yX0_without.cls = RX0 ∧ yX0_without.cls ≠ "java/lang/invoke/MethodHandle" ∧ yX0_without.cls ≠ "java/lang/invoke/VarHandle" ∧ (parseMethodDescriptor yX0_without.desc).map (fun d => d.parameters.length) = some 1 := by decide +kernel
theorem hdl_X8_without : yX8_without.cls = RX8 ∧ yX8_without.cls ≠ "java/lang/invoke/MethodHandle" ∧ yX8_without.cls ≠ "java/lang/invoke/VarHandle" ∧ (parseMethodDescriptor yX8_without.desc).map (fun d => d.parameters.length) = some 1 := by decide +kernel
set_option maxHeartbeats 4000000 in
theorem lawc_without {p : Program} {l : Launch} {e : Env} {s : State} {m : MethodId} {b L i j : Nat} {xs : Nat → Int32} {below : List Frame} {meth : Method} {c : Code} {H : Heap} {locs : List Loc} {cells slots : Nat} {Q : State → Prop} {ls : Array Slot} {D : va_G} {E : EvT} {ks vs : Nat → Nat} {fo mi ak av fo8 : Nat} {ad ad8 : Nat → Nat} {cA cA8 : Nat → ClassId} {w0 w8 : va_W} (hX : CallFix p m c cL_law 4 s #[.ref b] lw_all R_law) (hXX : va_X b L xs s s.heap) (hbl : b < s.heap.size) (hV : EvAll l E ks vs fo mi ak av fo8) (hK0 : va_K D vwA (cT cA) s) (hK8 : va_K D vwA (mT cA8) s) (hE : E (fun q => s.heap.size ≤ q) s s.heap) (hI : InvW ad cA ad8 cA8 j w0 w8) (hj : j < 64) (hH : MH D vwA (fun q => s.heap.size ≤ q) s.heap (w0 ++ w8) H locs) (hl : lv_has ls 4 [(0, .ref b), (1, .ref (ad 0)), (2, .ref (ad8 0)), (3, .int (nI i))]) (hi : i + 6 ≤ L) (hL : L ≤ 384) (hc : cells + 12000 ≤ 1200384) (hs : slots + 48000 ≤ 5489322)
    (kk : ∀ (w0' w8' : va_W) (H1 : Heap) (locs1 : List Loc), InvW ad cA ad8 cA8 (j + 1) w0' w8' → MH D vwA (fun q => s.heap.size ≤ q) s.heap (w0' ++ w8') H1 locs1 → W p l e room_1 s m #[.ref b] below meth c H1 locs1 (cells + 12000) (slots + 48000) Q (F0 m 1342 ls [])) : W p l e room_1 s m #[.ref b] below meth c H locs cells slots Q (F0 m 899 ls []) := by
  obtain ⟨ans, w8', hM0, hM8⟩ := op_without (l := l) (D := D) hV hI hj (xs (nI i + 1).toNatClampNeg)
  have hx := hX.1
  have hb := hX.2.1
  have hown := hX.2.2.2.1
  have hts := hX.2.2.2.2
  have hEv := hV.1.1.1
  have hbA : ¬ (fun q : Nat => s.heap.size ≤ q) b := Nat.not_le.mpr hbl
  refine lv_aload_n hx hb dL_law_899 rfl (lv_at hl 1 rfl) ?_
  refine lv_aload_n hx hb dL_law_900 rfl (lv_at hl 0 rfl) ?_
  refine lv_iload_n hx hb dL_law_901 rfl (lv_at hl 3 rfl) ?_
  refine lv_iconst (v := 1) hx hb dL_law_902 (by decide) ?_
  refine lv_iadd hx hb dL_law_903 ?_
  refine va_sld hx hb hXX hbl hbA hH.2.2.1 (vps (k := 1) (by omega) hL) dL_law_904 ?_
  refine mxVF hX hK0 hEv hE hH hM0 (rc0 hI hK0 hH) (lw_V q1355 q1356 q1357 q129 q1358) hdl_X0_without ⟨Nat.le_of_ble_eq_true rfl, Nat.le_of_ble_eq_true rfl⟩ rfl rfl hl (Nat.le_of_ble_eq_true rfl) dL_law_905 ⟨(by show cells + 0 ≤ 1200384; omega), (by show slots + 0 ≤ 5489322; omega)⟩ (fun w0z H locs hI2 hH => ?_)
  refine lv_aload_n hx hb dL_law_908 rfl (lv_at hl 2 rfl) ?_
  refine lv_aload_n hx hb dL_law_909 rfl (lv_at hl 0 rfl) ?_
  refine lv_iload_n hx hb dL_law_910 rfl (lv_at hl 3 rfl) ?_
  refine lv_iconst (v := 1) hx hb dL_law_911 (by decide) ?_
  refine lv_iadd hx hb dL_law_912 ?_
  refine va_sld hx hb hXX hbl hbA hH.2.2.1 (vps (k := 1) (by omega) hL) dL_law_913 ?_
  have hH := hH.perm List.perm_append_comm
  refine mxVF hX hK8 hEv hE hH hM8 (rc8 hI hK8 hH) (lw_V q2138 q2139 q2140 q142 q2141) hdl_X8_without ⟨Nat.le_of_ble_eq_true rfl, Nat.le_of_ble_eq_true rfl⟩ rfl rfl hl (Nat.le_of_ble_eq_true rfl) dL_law_914 ⟨(by show cells + 0 + 0 ≤ 1200384; omega), (by show slots + 0 + 0 ≤ 5489322; omega)⟩ (fun w8z H locs hw hH => ?_)
  subst hw
  have hH := hH.perm List.perm_append_comm
  refine lv_icmp_eq (tgt := 1342) hx hb dL_law_917 rfl (fun _ => ?_) (fun c9 => absurd rfl c9)
  exact W.widen (k := cells + 12000) (n := slots + 48000) (by show cells + 0 + 0 ≤ cells + 12000; omega) (by show slots + 0 + 0 ≤ slots + 48000; omega) (kk _ _ _ _ hI2 hH)
