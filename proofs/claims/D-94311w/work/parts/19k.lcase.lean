set_option maxRecDepth 100000
theorem hdl_X0_missing : yX0_missing.cls = RX0 ∧ yX0_missing.cls ≠ "java/lang/invoke/MethodHandle" ∧ yX0_missing.cls ≠ "java/lang/invoke/VarHandle" ∧ (parseMethodDescriptor yX0_missing.desc).map (fun d => d.parameters.length) = some 1 := by decide +kernel
theorem hdl_X8_missing : yX8_missing.cls = RX8 ∧ yX8_missing.cls ≠ "java/lang/invoke/MethodHandle" ∧ yX8_missing.cls ≠ "java/lang/invoke/VarHandle" ∧ (parseMethodDescriptor yX8_missing.desc).map (fun d => d.parameters.length) = some 1 := by decide +kernel
set_option maxHeartbeats 4000000 in
theorem lawc_missing {p : Program} {l : Launch} {e : Env} {s : State} {m : MethodId} {b L i j : Nat} {xs : Nat → Int32} {below : List Frame} {meth : Method} {c : Code} {H : Heap} {locs : List Loc} {cells slots : Nat} {Q : State → Prop} {ls : Array Slot} {D : va_G} {E : EvT} {ks vs : Nat → Nat} {fo mi ak av fo8 : Nat} {ad ad8 : Nat → Nat} {cA cA8 : Nat → ClassId} {w0 w8 : va_W} (hX : CallFix p m c cL_law 4 s #[.ref b] lw_all R_law) (hXX : va_X b L xs s s.heap) (hbl : b < s.heap.size) (hV : EvAll l E ks vs fo mi ak av fo8) (hK0 : va_K D vwA (cT cA) s) (hK8 : va_K D vwA (mT cA8) s) (hE : E (fun q => s.heap.size ≤ q) s s.heap) (hI : InvW ad cA ad8 cA8 j w0 w8) (hj : j < 64) (hH : MH D vwA (fun q => s.heap.size ≤ q) s.heap (w0 ++ w8) H locs) (hl : lv_has ls 4 [(0, .ref b), (1, .ref (ad 0)), (2, .ref (ad8 0)), (3, .int (nI i))]) (hi : i + 6 ≤ L) (hL : L ≤ 384) (hc : cells + 12000 ≤ 1200384) (hs : slots + 48000 ≤ 5489322)
    (kk : ∀ (w0' w8' : va_W) (H1 : Heap) (locs1 : List Loc), InvW ad cA ad8 cA8 (j + 1) w0' w8' → MH D vwA (fun q => s.heap.size ≤ q) s.heap (w0' ++ w8') H1 locs1 → W p l e room_1 s m #[.ref b] below meth c H1 locs1 (cells + 12000) (slots + 48000) Q (F0 m 1342 ls [])) : W p l e room_1 s m #[.ref b] below meth c H locs cells slots Q (F0 m 922 ls []) := by
  obtain ⟨ans, w8', hM0, hM8⟩ := op_missing (l := l) (D := D) hV hI hj (xs (nI i + 1).toNatClampNeg)
  have hx := hX.1
  have hb := hX.2.1
  have hown := hX.2.2.2.1
  have hts := hX.2.2.2.2
  have hEv := hV.1.1.1
  have hbA : ¬ (fun q : Nat => s.heap.size ≤ q) b := Nat.not_le.mpr hbl
  refine lv_aload_n hx hb dL_law_922 rfl (lv_at hl 1 rfl) ?_
  refine lv_aload_n hx hb dL_law_923 rfl (lv_at hl 0 rfl) ?_
  refine lv_iload_n hx hb dL_law_924 rfl (lv_at hl 3 rfl) ?_
  refine lv_iconst (v := 1) hx hb dL_law_925 (by decide) ?_
  refine lv_iadd hx hb dL_law_926 ?_
  refine va_sld hx hb hXX hbl hbA hH.2.2.1 (vps (k := 1) (by omega) hL) dL_law_927 ?_
  refine mxVF hX hK0 hEv hE hH hM0 (rc0 hI hK0 hH) (lw_V q1359 q1360 q1361 q129 q1362) hdl_X0_missing ⟨Nat.le_of_ble_eq_true rfl, Nat.le_of_ble_eq_true rfl⟩ rfl rfl hl (Nat.le_of_ble_eq_true rfl) dL_law_928 ⟨(by show cells + 0 ≤ 1200384; omega), (by show slots + 0 ≤ 5489322; omega)⟩ (fun w0z H locs hI2 hH => ?_)
  refine lv_aload_n hx hb dL_law_931 rfl (lv_at hl 2 rfl) ?_
  refine lv_aload_n hx hb dL_law_932 rfl (lv_at hl 0 rfl) ?_
  refine lv_iload_n hx hb dL_law_933 rfl (lv_at hl 3 rfl) ?_
  refine lv_iconst (v := 1) hx hb dL_law_934 (by decide) ?_
  refine lv_iadd hx hb dL_law_935 ?_
  refine va_sld hx hb hXX hbl hbA hH.2.2.1 (vps (k := 1) (by omega) hL) dL_law_936 ?_
  have hH := hH.perm List.perm_append_comm
  refine mxVF hX hK8 hEv hE hH hM8 (rc8 hI hK8 hH) (lw_V q2142 q2143 q2144 q142 q2145) hdl_X8_missing ⟨Nat.le_of_ble_eq_true rfl, Nat.le_of_ble_eq_true rfl⟩ rfl rfl hl (Nat.le_of_ble_eq_true rfl) dL_law_937 ⟨(by show cells + 0 + 0 ≤ 1200384; omega), (by show slots + 0 + 0 ≤ 5489322; omega)⟩ (fun w8z H locs hw hH => ?_)
  subst hw
  have hH := hH.perm List.perm_append_comm
  refine lv_icmp_eq (tgt := 1342) hx hb dL_law_940 rfl (fun _ => ?_) (fun c9 => absurd rfl c9)
  exact W.widen (k := cells + 12000) (n := slots + 48000) (by show cells + 0 + 0 ≤ cells + 12000; omega) (by show slots + 0 + 0 ≤ slots + 48000; omega) (kk _ _ _ _ hI2 hH)
theorem hdl_X0_winters : yX0_winters.cls = RX0 ∧ yX0_winters.cls ≠ "java/lang/invoke/MethodHandle" ∧ yX0_winters.cls ≠ "java/lang/invoke/VarHandle" ∧ (parseMethodDescriptor yX0_winters.desc).map (fun d => d.parameters.length) = some 1 := by decide +kernel
theorem hdl_X8_winters : yX8_winters.cls = RX8 ∧ yX8_winters.cls ≠ "java/lang/invoke/MethodHandle" ∧ yX8_winters.cls ≠ "java/lang/invoke/VarHandle" ∧ (parseMethodDescriptor yX8_winters.desc).map (fun d => d.parameters.length) = some 1 := by decide +kernel
set_option maxHeartbeats 4000000 in
theorem lawc_winters {p : Program} {l : Launch} {e : Env} {s : State} {m : MethodId} {b L i j : Nat} {xs : Nat → Int32} {below : List Frame} {meth : Method} {c : Code} {H : Heap} {locs : List Loc} {cells slots : Nat} {Q : State → Prop} {ls : Array Slot} {D : va_G} {E : EvT} {ks vs : Nat → Nat} {fo mi ak av fo8 : Nat} {ad ad8 : Nat → Nat} {cA cA8 : Nat → ClassId} {w0 w8 : va_W} (hX : CallFix p m c cL_law 4 s #[.ref b] lw_all R_law) (hXX : va_X b L xs s s.heap) (hbl : b < s.heap.size) (hV : EvAll l E ks vs fo mi ak av fo8) (hK0 : va_K D vwA (cT cA) s) (hK8 : va_K D vwA (mT cA8) s) (hE : E (fun q => s.heap.size ≤ q) s s.heap) (hI : InvW ad cA ad8 cA8 j w0 w8) (hj : j < 64) (hH : MH D vwA (fun q => s.heap.size ≤ q) s.heap (w0 ++ w8) H locs) (hl : lv_has ls 4 [(0, .ref b), (1, .ref (ad 0)), (2, .ref (ad8 0)), (3, .int (nI i))]) (hi : i + 6 ≤ L) (hL : L ≤ 384) (hc : cells + 12000 ≤ 1200384) (hs : slots + 48000 ≤ 5489322)
    (kk : ∀ (w0' w8' : va_W) (H1 : Heap) (locs1 : List Loc), InvW ad cA ad8 cA8 (j + 1) w0' w8' → MH D vwA (fun q => s.heap.size ≤ q) s.heap (w0' ++ w8') H1 locs1 → W p l e room_1 s m #[.ref b] below meth c H1 locs1 (cells + 12000) (slots + 48000) Q (F0 m 1342 ls [])) : W p l e room_1 s m #[.ref b] below meth c H locs cells slots Q (F0 m 945 ls []) := by
  obtain ⟨ans, w8', hM0, hM8⟩ := op_winters (l := l) (D := D) hV hI hj (xs (nI i + 1).toNatClampNeg)
  have hx := hX.1
  have hb := hX.2.1
  have hown := hX.2.2.2.1
  have hts := hX.2.2.2.2
  have hEv := hV.1.1.1
  have hbA : ¬ (fun q : Nat => s.heap.size ≤ q) b := Nat.not_le.mpr hbl
  refine lv_aload_n hx hb dL_law_945 rfl (lv_at hl 1 rfl) ?_
  refine lv_aload_n hx hb dL_law_946 rfl (lv_at hl 0 rfl) ?_
  refine lv_iload_n hx hb dL_law_947 rfl (lv_at hl 3 rfl) ?_
  refine lv_iconst (v := 1) hx hb dL_law_948 (by decide) ?_
  refine lv_iadd hx hb dL_law_949 ?_
  refine va_sld hx hb hXX hbl hbA hH.2.2.1 (vps (k := 1) (by omega) hL) dL_law_950 ?_
  refine mxVF hX hK0 hEv hE hH hM0 (rc0 hI hK0 hH) (lw_V q1363 q1364 q1365 q129 q1366) hdl_X0_winters ⟨Nat.le_of_ble_eq_true rfl, Nat.le_of_ble_eq_true rfl⟩ rfl rfl hl (Nat.le_of_ble_eq_true rfl) dL_law_951 ⟨(by show cells + 0 ≤ 1200384; omega), (by show slots + 0 ≤ 5489322; omega)⟩ (fun w0z H locs hI2 hH => ?_)
  refine lv_aload_n hx hb dL_law_954 rfl (lv_at hl 2 rfl) ?_
  refine lv_aload_n hx hb dL_law_955 rfl (lv_at hl 0 rfl) ?_
  refine lv_iload_n hx hb dL_law_956 rfl (lv_at hl 3 rfl) ?_
  refine lv_iconst (v := 1) hx hb dL_law_957 (by decide) ?_
  refine lv_iadd hx hb dL_law_958 ?_
  refine va_sld hx hb hXX hbl hbA hH.2.2.1 (vps (k := 1) (by omega) hL) dL_law_959 ?_
  have hH := hH.perm List.perm_append_comm
  refine mxVF hX hK8 hEv hE hH hM8 (rc8 hI hK8 hH) (lw_V q2146 q2147 q2148 q142 q2149) hdl_X8_winters ⟨Nat.le_of_ble_eq_true rfl, Nat.le_of_ble_eq_true rfl⟩ rfl rfl hl (Nat.le_of_ble_eq_true rfl) dL_law_960 ⟨(by show cells + 0 + 0 ≤ 1200384; omega), (by show slots + 0 + 0 ≤ 5489322; omega)⟩ (fun w8z H locs hw hH => ?_)
  subst hw
  have hH := hH.perm List.perm_append_comm
  refine lv_icmp_eq (tgt := 1342) hx hb dL_law_963 rfl (fun _ => ?_) (fun c9 => absurd rfl c9)
  exact W.widen (k := cells + 12000) (n := slots + 48000) (by show cells + 0 + 0 ≤ cells + 12000; omega) (by show slots + 0 + 0 ≤ slots + 48000; omega) (kk _ _ _ _ hI2 hH)
theorem hdl_X0_can : yX0_can.cls = RX0 ∧ yX0_can.cls ≠ "java/lang/invoke/MethodHandle" ∧ yX0_can.cls ≠ "java/lang/invoke/VarHandle" ∧ (parseMethodDescriptor yX0_can.desc).map (fun d => d.parameters.length) = some 1 := by decide +kernel
theorem hdl_X8_can : yX8_can.cls = RX8 ∧ yX8_can.cls ≠ "java/lang/invoke/MethodHandle" ∧ yX8_can.cls ≠ "java/lang/invoke/VarHandle" ∧ (parseMethodDescriptor yX8_can.desc).map (fun d => d.parameters.length) = some 1 := by decide +kernel
set_option maxHeartbeats 4000000 in
theorem lawc_can {p : Program} {l : Launch} {e : Env} {s : State} {m : MethodId} {b L i j : Nat} {xs : Nat → Int32} {below : List Frame} {meth : Method} {c : Code} {H : Heap} {locs : List Loc} {cells slots : Nat} {Q : State → Prop} {ls : Array Slot} {D : va_G} {E : EvT} {ks vs : Nat → Nat} {fo mi ak av fo8 : Nat} {ad ad8 : Nat → Nat} {cA cA8 : Nat → ClassId} {w0 w8 : va_W} (hX : CallFix p m c cL_law 4 s #[.ref b] lw_all R_law) (hXX : va_X b L xs s s.heap) (hbl : b < s.heap.size) (hV : EvAll l E ks vs fo mi ak av fo8) (hK0 : va_K D vwA (cT cA) s) (hK8 : va_K D vwA (mT cA8) s) (hE : E (fun q => s.heap.size ≤ q) s s.heap) (hI : InvW ad cA ad8 cA8 j w0 w8) (hj : j < 64) (hH : MH D vwA (fun q => s.heap.size ≤ q) s.heap (w0 ++ w8) H locs) (hl : lv_has ls 4 [(0, .ref b), (1, .ref (ad 0)), (2, .ref (ad8 0)), (3, .int (nI i))]) (hi : i + 6 ≤ L) (hL : L ≤ 384) (hc : cells + 12000 ≤ 1200384) (hs : slots + 48000 ≤ 5489322)
    (kk : ∀ (w0' w8' : va_W) (H1 : Heap) (locs1 : List Loc), InvW ad cA ad8 cA8 (j + 1) w0' w8' → MH D vwA (fun q => s.heap.size ≤ q) s.heap (w0' ++ w8') H1 locs1 → W p l e room_1 s m #[.ref b] below meth c H1 locs1 (cells + 12000) (slots + 48000) Q (F0 m 1342 ls [])) : W p l e room_1 s m #[.ref b] below meth c H locs cells slots Q (F0 m 968 ls []) := by
  obtain ⟨ans, w8', hM0, hM8⟩ := op_can (l := l) (D := D) hV hI hj (xs (nI i + 1).toNatClampNeg)
  have hx := hX.1
  have hb := hX.2.1
  have hown := hX.2.2.2.1
  have hts := hX.2.2.2.2
  have hEv := hV.1.1.1
  have hbA : ¬ (fun q : Nat => s.heap.size ≤ q) b := Nat.not_le.mpr hbl
  refine lv_aload_n hx hb dL_law_968 rfl (lv_at hl 1 rfl) ?_
  refine lv_aload_n hx hb dL_law_969 rfl (lv_at hl 0 rfl) ?_
  refine lv_iload_n hx hb dL_law_970 rfl (lv_at hl 3 rfl) ?_
  refine lv_iconst (v := 1) hx hb dL_law_971 (by decide) ?_
  refine lv_iadd hx hb dL_law_972 ?_
  refine va_sld hx hb hXX hbl hbA hH.2.2.1 (vps (k := 1) (by omega) hL) dL_law_973 ?_
  refine mxVF hX hK0 hEv hE hH hM0 (rc0 hI hK0 hH) (lw_V q1368 q1369 q1370 q129 q1371) hdl_X0_can ⟨Nat.le_of_ble_eq_true rfl, Nat.le_of_ble_eq_true rfl⟩ rfl rfl hl (Nat.le_of_ble_eq_true rfl) dL_law_974 ⟨(by show cells + 0 ≤ 1200384; omega), (by show slots + 0 ≤ 5489322; omega)⟩ (fun w0z H locs hI2 hH => ?_)
  refine lv_aload_n hx hb dL_law_977 rfl (lv_at hl 2 rfl) ?_
  refine lv_aload_n hx hb dL_law_978 rfl (lv_at hl 0 rfl) ?_
  refine lv_iload_n hx hb dL_law_979 rfl (lv_at hl 3 rfl) ?_
  refine lv_iconst (v := 1) hx hb dL_law_980 (by decide) ?_
  refine lv_iadd hx hb dL_law_981 ?_
  refine va_sld hx hb hXX hbl hbA hH.2.2.1 (vps (k := 1) (by omega) hL) dL_law_982 ?_
  have hH := hH.perm List.perm_append_comm
  refine mxVF hX hK8 hEv hE hH hM8 (rc8 hI hK8 hH) (lw_V q2150 q2151 q2152 q142 q2153) hdl_X8_can ⟨Nat.le_of_ble_eq_true rfl, Nat.le_of_ble_eq_true rfl⟩ rfl rfl hl (Nat.le_of_ble_eq_true rfl) dL_law_983 ⟨(by show cells + 0 + 0 ≤ 1200384; omega), (by show slots + 0 + 0 ≤ 5489322; omega)⟩ (fun w8z H locs hw hH => ?_)
  subst hw
  have hH := hH.perm List.perm_append_comm
  refine lv_icmp_eq (tgt := 1342) hx hb dL_law_986 rfl (fun _ => ?_) (fun c9 => absurd rfl c9)
  exact W.widen (k := cells + 12000) (n := slots + 48000) (by show cells + 0 + 0 ≤ cells + 12000; omega) (by show slots + 0 + 0 ≤ slots + 48000; omega) (kk _ _ _ _ hI2 hH)
theorem hdl_X0_why : yX0_why.cls = RX0 ∧ yX0_why.cls ≠ "java/lang/invoke/MethodHandle" ∧ yX0_why.cls ≠ "java/lang/invoke/VarHandle" ∧ (parseMethodDescriptor yX0_why.desc).map (fun d => d.parameters.length) = some 1 := by decide +kernel
theorem hdl_X8_why : yX8_why.cls = RX8 ∧ yX8_why.cls ≠ "java/lang/invoke/MethodHandle" ∧ yX8_why.cls ≠ "java/lang/invoke/VarHandle" ∧ (parseMethodDescriptor yX8_why.desc).map (fun d => d.parameters.length) = some 1 := by decide +kernel
set_option maxHeartbeats 4000000 in
theorem lawc_why {p : Program} {l : Launch} {e : Env} {s : State} {m : MethodId} {b L i j : Nat} {xs : Nat → Int32} {below : List Frame} {meth : Method} {c : Code} {H : Heap} {locs : List Loc} {cells slots : Nat} {Q : State → Prop} {ls : Array Slot} {D : va_G} {E : EvT} {ks vs : Nat → Nat} {fo mi ak av fo8 : Nat} {ad ad8 : Nat → Nat} {cA cA8 : Nat → ClassId} {w0 w8 : va_W} (hX : CallFix p m c cL_law 4 s #[.ref b] lw_all R_law) (hXX : va_X b L xs s s.heap) (hbl : b < s.heap.size) (hV : EvAll l E ks vs fo mi ak av fo8) (hK0 : va_K D vwA (cT cA) s) (hK8 : va_K D vwA (mT cA8) s) (hE : E (fun q => s.heap.size ≤ q) s s.heap) (hI : InvW ad cA ad8 cA8 j w0 w8) (hj : j < 64) (hH : MH D vwA (fun q => s.heap.size ≤ q) s.heap (w0 ++ w8) H locs) (hl : lv_has ls 4 [(0, .ref b), (1, .ref (ad 0)), (2, .ref (ad8 0)), (3, .int (nI i))]) (hi : i + 6 ≤ L) (hL : L ≤ 384) (hc : cells + 12000 ≤ 1200384) (hs : slots + 48000 ≤ 5489322)
    (kk : ∀ (w0' w8' : va_W) (H1 : Heap) (locs1 : List Loc), InvW ad cA ad8 cA8 (j + 1) w0' w8' → MH D vwA (fun q => s.heap.size ≤ q) s.heap (w0' ++ w8') H1 locs1 → W p l e room_1 s m #[.ref b] below meth c H1 locs1 (cells + 12000) (slots + 48000) Q (F0 m 1342 ls [])) : W p l e room_1 s m #[.ref b] below meth c H locs cells slots Q (F0 m 991 ls []) := by
  obtain ⟨ans, w8', hM0, hM8⟩ := op_why (l := l) (D := D) hV hI hj (xs (nI i + 1).toNatClampNeg)
  have hx := hX.1
  have hb := hX.2.1
  have hown := hX.2.2.2.1
  have hts := hX.2.2.2.2
  have hEv := hV.1.1.1
  have hbA : ¬ (fun q : Nat => s.heap.size ≤ q) b := Nat.not_le.mpr hbl
  refine lv_aload_n hx hb dL_law_991 rfl (lv_at hl 1 rfl) ?_
  refine lv_aload_n hx hb dL_law_992 rfl (lv_at hl 0 rfl) ?_
  refine lv_iload_n hx hb dL_law_993 rfl (lv_at hl 3 rfl) ?_
  refine lv_iconst (v := 1) hx hb dL_law_994 (by decide) ?_
  refine lv_iadd hx hb dL_law_995 ?_
  refine va_sld hx hb hXX hbl hbA hH.2.2.1 (vps (k := 1) (by omega) hL) dL_law_996 ?_
  refine mxVF hX hK0 hEv hE hH hM0 (rc0 hI hK0 hH) (lw_V q1376 q1377 q1378 q129 q1379) hdl_X0_why ⟨Nat.le_of_ble_eq_true rfl, Nat.le_of_ble_eq_true rfl⟩ rfl rfl hl (Nat.le_of_ble_eq_true rfl) dL_law_997 ⟨(by show cells + 0 ≤ 1200384; omega), (by show slots + 0 ≤ 5489322; omega)⟩ (fun w0z H locs hI2 hH => ?_)
  refine lv_aload_n hx hb dL_law_1000 rfl (lv_at hl 2 rfl) ?_
  refine lv_aload_n hx hb dL_law_1001 rfl (lv_at hl 0 rfl) ?_
  refine lv_iload_n hx hb dL_law_1002 rfl (lv_at hl 3 rfl) ?_
  refine lv_iconst (v := 1) hx hb dL_law_1003 (by decide) ?_
  refine lv_iadd hx hb dL_law_1004 ?_
  refine va_sld hx hb hXX hbl hbA hH.2.2.1 (vps (k := 1) (by omega) hL) dL_law_1005 ?_
  have hH := hH.perm List.perm_append_comm
  refine mxVF hX hK8 hEv hE hH hM8 (rc8 hI hK8 hH) (lw_V q2158 q2159 q2160 q142 q2161) hdl_X8_why ⟨Nat.le_of_ble_eq_true rfl, Nat.le_of_ble_eq_true rfl⟩ rfl rfl hl (Nat.le_of_ble_eq_true rfl) dL_law_1006 ⟨(by show cells + 0 + 0 ≤ 1200384; omega), (by show slots + 0 + 0 ≤ 5489322; omega)⟩ (fun w8z H locs hw hH => ?_)
  subst hw
  have hH := hH.perm List.perm_append_comm
  refine lv_icmp_eq (tgt := 1342) hx hb dL_law_1009 rfl (fun _ => ?_) (fun c9 => absurd rfl c9)
  exact W.widen (k := cells + 12000) (n := slots + 48000) (by show cells + 0 + 0 ≤ cells + 12000; omega) (by show slots + 0 + 0 ≤ slots + 48000; omega) (kk _ _ _ _ hI2 hH)
theorem hdl_X0_easier : yX0_easier.cls = RX0 ∧ yX0_easier.cls ≠ "java/lang/invoke/MethodHandle" ∧ yX0_easier.cls ≠ "java/lang/invoke/VarHandle" ∧ (parseMethodDescriptor yX0_easier.desc).map (fun d => d.parameters.length) = some 1 := by decide +kernel
theorem hdl_X8_easier : yX8_easier.cls = RX8 ∧ yX8_easier.cls ≠ "java/lang/invoke/MethodHandle" ∧ yX8_easier.cls ≠ "java/lang/invoke/VarHandle" ∧ (parseMethodDescriptor yX8_easier.desc).map (fun d => d.parameters.length) = some 1 := by decide +kernel
set_option maxHeartbeats 4000000 in
theorem lawc_easier {p : Program} {l : Launch} {e : Env} {s : State} {m : MethodId} {b L i j : Nat} {xs : Nat → Int32} {below : List Frame} {meth : Method} {c : Code} {H : Heap} {locs : List Loc} {cells slots : Nat} {Q : State → Prop} {ls : Array Slot} {D : va_G} {E : EvT} {ks vs : Nat → Nat} {fo mi ak av fo8 : Nat} {ad ad8 : Nat → Nat} {cA cA8 : Nat → ClassId} {w0 w8 : va_W} (hX : CallFix p m c cL_law 4 s #[.ref b] lw_all R_law) (hXX : va_X b L xs s s.heap) (hbl : b < s.heap.size) (hV : EvAll l E ks vs fo mi ak av fo8) (hK0 : va_K D vwA (cT cA) s) (hK8 : va_K D vwA (mT cA8) s) (hE : E (fun q => s.heap.size ≤ q) s s.heap) (hI : InvW ad cA ad8 cA8 j w0 w8) (hj : j < 64) (hH : MH D vwA (fun q => s.heap.size ≤ q) s.heap (w0 ++ w8) H locs) (hl : lv_has ls 4 [(0, .ref b), (1, .ref (ad 0)), (2, .ref (ad8 0)), (3, .int (nI i))]) (hi : i + 6 ≤ L) (hL : L ≤ 384) (hc : cells + 12000 ≤ 1200384) (hs : slots + 48000 ≤ 5489322)
    (kk : ∀ (w0' w8' : va_W) (H1 : Heap) (locs1 : List Loc), InvW ad cA ad8 cA8 (j + 1) w0' w8' → MH D vwA (fun q => s.heap.size ≤ q) s.heap (w0' ++ w8') H1 locs1 → W p l e room_1 s m #[.ref b] below meth c H1 locs1 (cells + 12000) (slots + 48000) Q (F0 m 1342 ls [])) : W p l e room_1 s m #[.ref b] below meth c H locs cells slots Q (F0 m 1014 ls []) := by
  obtain ⟨ans, w8', hM0, hM8⟩ := op_easier (l := l) (D := D) hV hI hj (xs (nI i + 1).toNatClampNeg)
  have hx := hX.1
  have hb := hX.2.1
  have hown := hX.2.2.2.1
  have hts := hX.2.2.2.2
  have hEv := hV.1.1.1
  have hbA : ¬ (fun q : Nat => s.heap.size ≤ q) b := Nat.not_le.mpr hbl
  refine lv_aload_n hx hb dL_law_1014 rfl (lv_at hl 1 rfl) ?_
  refine lv_aload_n hx hb dL_law_1015 rfl (lv_at hl 0 rfl) ?_
  refine lv_iload_n hx hb dL_law_1016 rfl (lv_at hl 3 rfl) ?_
  refine lv_iconst (v := 1) hx hb dL_law_1017 (by decide) ?_
  refine lv_iadd hx hb dL_law_1018 ?_
  refine va_sld hx hb hXX hbl hbA hH.2.2.1 (vps (k := 1) (by omega) hL) dL_law_1019 ?_
  refine mxVF hX hK0 hEv hE hH hM0 (rc0 hI hK0 hH) (lw_V q1392 q1393 q1394 q129 q1395) hdl_X0_easier ⟨Nat.le_of_ble_eq_true rfl, Nat.le_of_ble_eq_true rfl⟩ rfl rfl hl (Nat.le_of_ble_eq_true rfl) dL_law_1020 ⟨(by show cells + 3780 ≤ 1200384; omega), (by show slots + 46515 ≤ 5489322; omega)⟩ (fun w0z H locs hI2 hH => ?_)
  refine lv_aload_n hx hb dL_law_1023 rfl (lv_at hl 2 rfl) ?_
  refine lv_aload_n hx hb dL_law_1024 rfl (lv_at hl 0 rfl) ?_
  refine lv_iload_n hx hb dL_law_1025 rfl (lv_at hl 3 rfl) ?_
  refine lv_iconst (v := 1) hx hb dL_law_1026 (by decide) ?_
  refine lv_iadd hx hb dL_law_1027 ?_
  refine va_sld hx hb hXX hbl hbA hH.2.2.1 (vps (k := 1) (by omega) hL) dL_law_1028 ?_
  have hH := hH.perm List.perm_append_comm
  refine mxVF hX hK8 hEv hE hH hM8 (rc8 hI hK8 hH) (lw_V q2170 q2171 q2172 q142 q2173) hdl_X8_easier ⟨Nat.le_of_ble_eq_true rfl, Nat.le_of_ble_eq_true rfl⟩ rfl rfl hl (Nat.le_of_ble_eq_true rfl) dL_law_1029 ⟨(by show cells + 3780 + 0 ≤ 1200384; omega), (by show slots + 46515 + 0 ≤ 5489322; omega)⟩ (fun w8z H locs hw hH => ?_)
  subst hw
  have hH := hH.perm List.perm_append_comm
  refine lv_icmp_eq (tgt := 1342) hx hb dL_law_1032 rfl (fun _ => ?_) (fun c9 => absurd rfl c9)
  exact W.widen (k := cells + 12000) (n := slots + 48000) (by show cells + 3780 + 0 ≤ cells + 12000; omega) (by show slots + 46515 + 0 ≤ slots + 48000; omega) (kk _ _ _ _ hI2 hH)
theorem hdl_X0_wall : yX0_wall.cls = RX0 ∧ yX0_wall.cls ≠ "java/lang/invoke/MethodHandle" ∧ yX0_wall.cls ≠ "java/lang/invoke/VarHandle" ∧ (parseMethodDescriptor yX0_wall.desc).map (fun d => d.parameters.length) = some 2 := by decide +kernel
theorem hdl_X8_wall : yX8_wall.cls = RX8 ∧ yX8_wall.cls ≠ "java/lang/invoke/MethodHandle" ∧ yX8_wall.cls ≠ "java/lang/invoke/VarHandle" ∧ (parseMethodDescriptor yX8_wall.desc).map (fun d => d.parameters.length) = some 2 := by decide +kernel
set_option maxHeartbeats 4000000 in
theorem lawc_wall {p : Program} {l : Launch} {e : Env} {s : State} {m : MethodId} {b L i j : Nat} {xs : Nat → Int32} {below : List Frame} {meth : Method} {c : Code} {H : Heap} {locs : List Loc} {cells slots : Nat} {Q : State → Prop} {ls : Array Slot} {D : va_G} {E : EvT} {ks vs : Nat → Nat} {fo mi ak av fo8 : Nat} {ad ad8 : Nat → Nat} {cA cA8 : Nat → ClassId} {w0 w8 : va_W} (hX : CallFix p m c cL_law 4 s #[.ref b] lw_all R_law) (hXX : va_X b L xs s s.heap) (hbl : b < s.heap.size) (hV : EvAll l E ks vs fo mi ak av fo8) (hK0 : va_K D vwA (cT cA) s) (hK8 : va_K D vwA (mT cA8) s) (hE : E (fun q => s.heap.size ≤ q) s s.heap) (hI : InvW ad cA ad8 cA8 j w0 w8) (hj : j < 64) (hH : MH D vwA (fun q => s.heap.size ≤ q) s.heap (w0 ++ w8) H locs) (hl : lv_has ls 4 [(0, .ref b), (1, .ref (ad 0)), (2, .ref (ad8 0)), (3, .int (nI i))]) (hi : i + 6 ≤ L) (hL : L ≤ 384) (hc : cells + 12000 ≤ 1200384) (hs : slots + 48000 ≤ 5489322)
    (kk : ∀ (w0' w8' : va_W) (H1 : Heap) (locs1 : List Loc), InvW ad cA ad8 cA8 (j + 1) w0' w8' → MH D vwA (fun q => s.heap.size ≤ q) s.heap (w0' ++ w8') H1 locs1 → W p l e room_1 s m #[.ref b] below meth c H1 locs1 (cells + 12000) (slots + 48000) Q (F0 m 1342 ls [])) : W p l e room_1 s m #[.ref b] below meth c H locs cells slots Q (F0 m 1037 ls []) := by
  obtain ⟨ans, w8', hM0, hM8⟩ := op_wall (l := l) (D := D) hV hI hj (xs (nI i + 1).toNatClampNeg) (xs (nI i + 2).toNatClampNeg)
  have hx := hX.1
  have hb := hX.2.1
  have hown := hX.2.2.2.1
  have hts := hX.2.2.2.2
  have hEv := hV.1.1.1
  have hbA : ¬ (fun q : Nat => s.heap.size ≤ q) b := Nat.not_le.mpr hbl
  refine lv_aload_n hx hb dL_law_1037 rfl (lv_at hl 1 rfl) ?_
  refine lv_aload_n hx hb dL_law_1038 rfl (lv_at hl 0 rfl) ?_
  refine lv_iload_n hx hb dL_law_1039 rfl (lv_at hl 3 rfl) ?_
  refine lv_iconst (v := 1) hx hb dL_law_1040 (by decide) ?_
  refine lv_iadd hx hb dL_law_1041 ?_
  refine va_sld hx hb hXX hbl hbA hH.2.2.1 (vps (k := 1) (by omega) hL) dL_law_1042 ?_
  refine lv_aload_n hx hb dL_law_1043 rfl (lv_at hl 0 rfl) ?_
  refine lv_iload_n hx hb dL_law_1044 rfl (lv_at hl 3 rfl) ?_
  refine lv_iconst (v := 2) hx hb dL_law_1045 (by decide) ?_
  refine lv_iadd hx hb dL_law_1046 ?_
  refine va_sld hx hb hXX hbl hbA hH.2.2.1 (vps (k := 2) (by omega) hL) dL_law_1047 ?_
  refine mxVF hX hK0 hEv hE hH hM0 (rc0 hI hK0 hH) (lw_V q1418 q1419 q1420 q129 q1421) hdl_X0_wall ⟨Nat.le_of_ble_eq_true rfl, Nat.le_of_ble_eq_true rfl⟩ rfl rfl hl (Nat.le_of_ble_eq_true rfl) dL_law_1048 ⟨(by show cells + 0 ≤ 1200384; omega), (by show slots + 0 ≤ 5489322; omega)⟩ (fun w0z H locs hI2 hH => ?_)
  refine lv_aload_n hx hb dL_law_1051 rfl (lv_at hl 2 rfl) ?_
  refine lv_aload_n hx hb dL_law_1052 rfl (lv_at hl 0 rfl) ?_
  refine lv_iload_n hx hb dL_law_1053 rfl (lv_at hl 3 rfl) ?_
  refine lv_iconst (v := 1) hx hb dL_law_1054 (by decide) ?_
  refine lv_iadd hx hb dL_law_1055 ?_
  refine va_sld hx hb hXX hbl hbA hH.2.2.1 (vps (k := 1) (by omega) hL) dL_law_1056 ?_
  refine lv_aload_n hx hb dL_law_1057 rfl (lv_at hl 0 rfl) ?_
  refine lv_iload_n hx hb dL_law_1058 rfl (lv_at hl 3 rfl) ?_
  refine lv_iconst (v := 2) hx hb dL_law_1059 (by decide) ?_
  refine lv_iadd hx hb dL_law_1060 ?_
  refine va_sld hx hb hXX hbl hbA hH.2.2.1 (vps (k := 2) (by omega) hL) dL_law_1061 ?_
  have hH := hH.perm List.perm_append_comm
  refine mxVF hX hK8 hEv hE hH hM8 (rc8 hI hK8 hH) (lw_V q2179 q2180 q2181 q142 q2182) hdl_X8_wall ⟨Nat.le_of_ble_eq_true rfl, Nat.le_of_ble_eq_true rfl⟩ rfl rfl hl (Nat.le_of_ble_eq_true rfl) dL_law_1062 ⟨(by show cells + 0 + 0 ≤ 1200384; omega), (by show slots + 0 + 0 ≤ 5489322; omega)⟩ (fun w8z H locs hw hH => ?_)
  subst hw
  have hH := hH.perm List.perm_append_comm
  refine lv_icmp_eq (tgt := 1342) hx hb dL_law_1065 rfl (fun _ => ?_) (fun c9 => absurd rfl c9)
  exact W.widen (k := cells + 12000) (n := slots + 48000) (by show cells + 0 + 0 ≤ cells + 12000; omega) (by show slots + 0 + 0 ≤ slots + 48000; omega) (kk _ _ _ _ hI2 hH)
theorem hdl_X0_partner : yX0_partner.cls = RX0 ∧ yX0_partner.cls ≠ "java/lang/invoke/MethodHandle" ∧ yX0_partner.cls ≠ "java/lang/invoke/VarHandle" ∧ (parseMethodDescriptor yX0_partner.desc).map (fun d => d.parameters.length) = some 4 := by decide +kernel
theorem hdl_X8_partner : yX8_partner.cls = RX8 ∧ yX8_partner.cls ≠ "java/lang/invoke/MethodHandle" ∧ yX8_partner.cls ≠ "java/lang/invoke/VarHandle" ∧ (parseMethodDescriptor yX8_partner.desc).map (fun d => d.parameters.length) = some 4 := by decide +kernel
set_option maxHeartbeats 4000000 in
theorem lawc_partner {p : Program} {l : Launch} {e : Env} {s : State} {m : MethodId} {b L i j : Nat} {xs : Nat → Int32} {below : List Frame} {meth : Method} {c : Code} {H : Heap} {locs : List Loc} {cells slots : Nat} {Q : State → Prop} {ls : Array Slot} {D : va_G} {E : EvT} {ks vs : Nat → Nat} {fo mi ak av fo8 : Nat} {ad ad8 : Nat → Nat} {cA cA8 : Nat → ClassId} {w0 w8 : va_W} (hX : CallFix p m c cL_law 4 s #[.ref b] lw_all R_law) (hXX : va_X b L xs s s.heap) (hbl : b < s.heap.size) (hV : EvAll l E ks vs fo mi ak av fo8) (hK0 : va_K D vwA (cT cA) s) (hK8 : va_K D vwA (mT cA8) s) (hE : E (fun q => s.heap.size ≤ q) s s.heap) (hI : InvW ad cA ad8 cA8 j w0 w8) (hj : j < 64) (hH : MH D vwA (fun q => s.heap.size ≤ q) s.heap (w0 ++ w8) H locs) (hl : lv_has ls 4 [(0, .ref b), (1, .ref (ad 0)), (2, .ref (ad8 0)), (3, .int (nI i))]) (hi : i + 6 ≤ L) (hL : L ≤ 384) (hc : cells + 12000 ≤ 1200384) (hs : slots + 48000 ≤ 5489322)
    (kk : ∀ (w0' w8' : va_W) (H1 : Heap) (locs1 : List Loc), InvW ad cA ad8 cA8 (j + 1) w0' w8' → MH D vwA (fun q => s.heap.size ≤ q) s.heap (w0' ++ w8') H1 locs1 → W p l e room_1 s m #[.ref b] below meth c H1 locs1 (cells + 12000) (slots + 48000) Q (F0 m 1342 ls [])) : W p l e room_1 s m #[.ref b] below meth c H locs cells slots Q (F0 m 1070 ls []) := by
  obtain ⟨ans, w8', hM0, hM8⟩ := op_partner (l := l) (D := D) hV hI hj (xs (nI i + 1).toNatClampNeg) (xs (nI i + 2).toNatClampNeg) (xs (nI i + 3).toNatClampNeg) (xs (nI i + 4).toNatClampNeg)
  have hx := hX.1
  have hb := hX.2.1
  have hown := hX.2.2.2.1
  have hts := hX.2.2.2.2
  have hEv := hV.1.1.1
  have hbA : ¬ (fun q : Nat => s.heap.size ≤ q) b := Nat.not_le.mpr hbl
  refine lv_aload_n hx hb dL_law_1070 rfl (lv_at hl 1 rfl) ?_
  refine lv_aload_n hx hb dL_law_1071 rfl (lv_at hl 0 rfl) ?_
  refine lv_iload_n hx hb dL_law_1072 rfl (lv_at hl 3 rfl) ?_
  refine lv_iconst (v := 1) hx hb dL_law_1073 (by decide) ?_
  refine lv_iadd hx hb dL_law_1074 ?_
  refine va_sld hx hb hXX hbl hbA hH.2.2.1 (vps (k := 1) (by omega) hL) dL_law_1075 ?_
  refine lv_aload_n hx hb dL_law_1076 rfl (lv_at hl 0 rfl) ?_
  refine lv_iload_n hx hb dL_law_1077 rfl (lv_at hl 3 rfl) ?_
  refine lv_iconst (v := 2) hx hb dL_law_1078 (by decide) ?_
  refine lv_iadd hx hb dL_law_1079 ?_
  refine va_sld hx hb hXX hbl hbA hH.2.2.1 (vps (k := 2) (by omega) hL) dL_law_1080 ?_
  refine lv_aload_n hx hb dL_law_1081 rfl (lv_at hl 0 rfl) ?_
  refine lv_iload_n hx hb dL_law_1082 rfl (lv_at hl 3 rfl) ?_
  refine lv_iconst (v := 3) hx hb dL_law_1083 (by decide) ?_
  refine lv_iadd hx hb dL_law_1084 ?_
  refine va_sld hx hb hXX hbl hbA hH.2.2.1 (vps (k := 3) (by omega) hL) dL_law_1085 ?_
  refine lv_aload_n hx hb dL_law_1086 rfl (lv_at hl 0 rfl) ?_
  refine lv_iload_n hx hb dL_law_1087 rfl (lv_at hl 3 rfl) ?_
  refine lv_iconst (v := 4) hx hb dL_law_1088 (by decide) ?_
  refine lv_iadd hx hb dL_law_1089 ?_
  refine va_sld hx hb hXX hbl hbA hH.2.2.1 (vps (k := 4) (by omega) hL) dL_law_1090 ?_
  refine mxVF hX hK0 hEv hE hH hM0 (rc0 hI hK0 hH) (lw_V q1431 q1432 q1433 q129 q1434) hdl_X0_partner ⟨Nat.le_of_ble_eq_true rfl, Nat.le_of_ble_eq_true rfl⟩ rfl rfl hl (Nat.le_of_ble_eq_true rfl) dL_law_1091 ⟨(by show cells + 0 ≤ 1200384; omega), (by show slots + 0 ≤ 5489322; omega)⟩ (fun w0z H locs hI2 hH => ?_)
  refine lv_aload_n hx hb dL_law_1094 rfl (lv_at hl 2 rfl) ?_
  refine lv_aload_n hx hb dL_law_1095 rfl (lv_at hl 0 rfl) ?_
  refine lv_iload_n hx hb dL_law_1096 rfl (lv_at hl 3 rfl) ?_
  refine lv_iconst (v := 1) hx hb dL_law_1097 (by decide) ?_
  refine lv_iadd hx hb dL_law_1098 ?_
  refine va_sld hx hb hXX hbl hbA hH.2.2.1 (vps (k := 1) (by omega) hL) dL_law_1099 ?_
  refine lv_aload_n hx hb dL_law_1100 rfl (lv_at hl 0 rfl) ?_
  refine lv_iload_n hx hb dL_law_1101 rfl (lv_at hl 3 rfl) ?_
  refine lv_iconst (v := 2) hx hb dL_law_1102 (by decide) ?_
  refine lv_iadd hx hb dL_law_1103 ?_
  refine va_sld hx hb hXX hbl hbA hH.2.2.1 (vps (k := 2) (by omega) hL) dL_law_1104 ?_
  refine lv_aload_n hx hb dL_law_1105 rfl (lv_at hl 0 rfl) ?_
  refine lv_iload_n hx hb dL_law_1106 rfl (lv_at hl 3 rfl) ?_
  refine lv_iconst (v := 3) hx hb dL_law_1107 (by decide) ?_
  refine lv_iadd hx hb dL_law_1108 ?_
  refine va_sld hx hb hXX hbl hbA hH.2.2.1 (vps (k := 3) (by omega) hL) dL_law_1109 ?_
  refine lv_aload_n hx hb dL_law_1110 rfl (lv_at hl 0 rfl) ?_
  refine lv_iload_n hx hb dL_law_1111 rfl (lv_at hl 3 rfl) ?_
  refine lv_iconst (v := 4) hx hb dL_law_1112 (by decide) ?_
  refine lv_iadd hx hb dL_law_1113 ?_
  refine va_sld hx hb hXX hbl hbA hH.2.2.1 (vps (k := 4) (by omega) hL) dL_law_1114 ?_
  have hH := hH.perm List.perm_append_comm
  refine mxVF hX hK8 hEv hE hH hM8 (rc8 hI hK8 hH) (lw_V q2192 q2193 q2194 q142 q2195) hdl_X8_partner ⟨Nat.le_of_ble_eq_true rfl, Nat.le_of_ble_eq_true rfl⟩ rfl rfl hl (Nat.le_of_ble_eq_true rfl) dL_law_1115 ⟨(by show cells + 0 + 0 ≤ 1200384; omega), (by show slots + 0 + 0 ≤ 5489322; omega)⟩ (fun w8z H locs hw hH => ?_)
  subst hw
  have hH := hH.perm List.perm_append_comm
  refine lv_icmp_eq (tgt := 1342) hx hb dL_law_1118 rfl (fun _ => ?_) (fun c9 => absurd rfl c9)
  exact W.widen (k := cells + 12000) (n := slots + 48000) (by show cells + 0 + 0 ≤ cells + 12000; omega) (by show slots + 0 + 0 ≤ slots + 48000; omega) (kk _ _ _ _ hI2 hH)
theorem hdl_X0_threshold : yX0_threshold.cls = RX0 ∧ yX0_threshold.cls ≠ "java/lang/invoke/MethodHandle" ∧ yX0_threshold.cls ≠ "java/lang/invoke/VarHandle" ∧ (parseMethodDescriptor yX0_threshold.desc).map (fun d => d.parameters.length) = some 2 := by decide +kernel
theorem hdl_X8_threshold : yX8_threshold.cls = RX8 ∧ yX8_threshold.cls ≠ "java/lang/invoke/MethodHandle" ∧ yX8_threshold.cls ≠ "java/lang/invoke/VarHandle" ∧ (parseMethodDescriptor yX8_threshold.desc).map (fun d => d.parameters.length) = some 2 := by decide +kernel
set_option maxHeartbeats 4000000 in
theorem lawc_threshold {p : Program} {l : Launch} {e : Env} {s : State} {m : MethodId} {b L i j : Nat} {xs : Nat → Int32} {below : List Frame} {meth : Method} {c : Code} {H : Heap} {locs : List Loc} {cells slots : Nat} {Q : State → Prop} {ls : Array Slot} {D : va_G} {E : EvT} {ks vs : Nat → Nat} {fo mi ak av fo8 : Nat} {ad ad8 : Nat → Nat} {cA cA8 : Nat → ClassId} {w0 w8 : va_W} (hX : CallFix p m c cL_law 4 s #[.ref b] lw_all R_law) (hXX : va_X b L xs s s.heap) (hbl : b < s.heap.size) (hV : EvAll l E ks vs fo mi ak av fo8) (hK0 : va_K D vwA (cT cA) s) (hK8 : va_K D vwA (mT cA8) s) (hE : E (fun q => s.heap.size ≤ q) s s.heap) (hI : InvW ad cA ad8 cA8 j w0 w8) (hj : j < 64) (hH : MH D vwA (fun q => s.heap.size ≤ q) s.heap (w0 ++ w8) H locs) (hl : lv_has ls 4 [(0, .ref b), (1, .ref (ad 0)), (2, .ref (ad8 0)), (3, .int (nI i))]) (hi : i + 6 ≤ L) (hL : L ≤ 384) (hc : cells + 12000 ≤ 1200384) (hs : slots + 48000 ≤ 5489322)
    (kk : ∀ (w0' w8' : va_W) (H1 : Heap) (locs1 : List Loc), InvW ad cA ad8 cA8 (j + 1) w0' w8' → MH D vwA (fun q => s.heap.size ≤ q) s.heap (w0' ++ w8') H1 locs1 → W p l e room_1 s m #[.ref b] below meth c H1 locs1 (cells + 12000) (slots + 48000) Q (F0 m 1342 ls [])) : W p l e room_1 s m #[.ref b] below meth c H locs cells slots Q (F0 m 1123 ls []) := by
  obtain ⟨ans, w8', hM0, hM8⟩ := op_threshold (l := l) (D := D) hV hI hj (xs (nI i + 1).toNatClampNeg) (xs (nI i + 2).toNatClampNeg)
  have hx := hX.1
  have hb := hX.2.1
  have hown := hX.2.2.2.1
  have hts := hX.2.2.2.2
  have hEv := hV.1.1.1
  have hbA : ¬ (fun q : Nat => s.heap.size ≤ q) b := Nat.not_le.mpr hbl
  refine lv_aload_n hx hb dL_law_1123 rfl (lv_at hl 1 rfl) ?_
  refine lv_aload_n hx hb dL_law_1124 rfl (lv_at hl 0 rfl) ?_
  refine lv_iload_n hx hb dL_law_1125 rfl (lv_at hl 3 rfl) ?_
  refine lv_iconst (v := 1) hx hb dL_law_1126 (by decide) ?_
  refine lv_iadd hx hb dL_law_1127 ?_
  refine va_sld hx hb hXX hbl hbA hH.2.2.1 (vps (k := 1) (by omega) hL) dL_law_1128 ?_
  refine lv_aload_n hx hb dL_law_1129 rfl (lv_at hl 0 rfl) ?_
  refine lv_iload_n hx hb dL_law_1130 rfl (lv_at hl 3 rfl) ?_
  refine lv_iconst (v := 2) hx hb dL_law_1131 (by decide) ?_
  refine lv_iadd hx hb dL_law_1132 ?_
  refine va_sld hx hb hXX hbl hbA hH.2.2.1 (vps (k := 2) (by omega) hL) dL_law_1133 ?_
  refine mxVF hX hK0 hEv hE hH hM0 (rc0 hI hK0 hH) (lw_V q1443 q1444 q1445 q129 q1446) hdl_X0_threshold ⟨Nat.le_of_ble_eq_true rfl, Nat.le_of_ble_eq_true rfl⟩ rfl rfl hl (Nat.le_of_ble_eq_true rfl) dL_law_1134 ⟨(by show cells + 0 ≤ 1200384; omega), (by show slots + 0 ≤ 5489322; omega)⟩ (fun w0z H locs hI2 hH => ?_)
  refine lv_aload_n hx hb dL_law_1137 rfl (lv_at hl 2 rfl) ?_
  refine lv_aload_n hx hb dL_law_1138 rfl (lv_at hl 0 rfl) ?_
  refine lv_iload_n hx hb dL_law_1139 rfl (lv_at hl 3 rfl) ?_
  refine lv_iconst (v := 1) hx hb dL_law_1140 (by decide) ?_
  refine lv_iadd hx hb dL_law_1141 ?_
  refine va_sld hx hb hXX hbl hbA hH.2.2.1 (vps (k := 1) (by omega) hL) dL_law_1142 ?_
  refine lv_aload_n hx hb dL_law_1143 rfl (lv_at hl 0 rfl) ?_
  refine lv_iload_n hx hb dL_law_1144 rfl (lv_at hl 3 rfl) ?_
  refine lv_iconst (v := 2) hx hb dL_law_1145 (by decide) ?_
  refine lv_iadd hx hb dL_law_1146 ?_
  refine va_sld hx hb hXX hbl hbA hH.2.2.1 (vps (k := 2) (by omega) hL) dL_law_1147 ?_
  have hH := hH.perm List.perm_append_comm
  refine mxVF hX hK8 hEv hE hH hM8 (rc8 hI hK8 hH) (lw_V q2196 q2197 q2198 q142 q2199) hdl_X8_threshold ⟨Nat.le_of_ble_eq_true rfl, Nat.le_of_ble_eq_true rfl⟩ rfl rfl hl (Nat.le_of_ble_eq_true rfl) dL_law_1148 ⟨(by show cells + 0 + 0 ≤ 1200384; omega), (by show slots + 0 + 0 ≤ 5489322; omega)⟩ (fun w8z H locs hw hH => ?_)
  subst hw
  have hH := hH.perm List.perm_append_comm
  refine lv_icmp_eq (tgt := 1342) hx hb dL_law_1151 rfl (fun _ => ?_) (fun c9 => absurd rfl c9)
  exact W.widen (k := cells + 12000) (n := slots + 48000) (by show cells + 0 + 0 ≤ cells + 12000; omega) (by show slots + 0 + 0 ≤ slots + 48000; omega) (kk _ _ _ _ hI2 hH)
theorem hdl_X0_numbers : yX0_numbers.cls = RX0 ∧ yX0_numbers.cls ≠ "java/lang/invoke/MethodHandle" ∧ yX0_numbers.cls ≠ "java/lang/invoke/VarHandle" ∧ (parseMethodDescriptor yX0_numbers.desc).map (fun d => d.parameters.length) = some 3 := by decide +kernel
theorem hdl_X8_numbers : yX8_numbers.cls = RX8 ∧ yX8_numbers.cls ≠ "java/lang/invoke/MethodHandle" ∧ yX8_numbers.cls ≠ "java/lang/invoke/VarHandle" ∧ (parseMethodDescriptor yX8_numbers.desc).map (fun d => d.parameters.length) = some 3 := by decide +kernel
set_option maxHeartbeats 4000000 in
theorem lawc_numbers {p : Program} {l : Launch} {e : Env} {s : State} {m : MethodId} {b L i j : Nat} {xs : Nat → Int32} {below : List Frame} {meth : Method} {c : Code} {H : Heap} {locs : List Loc} {cells slots : Nat} {Q : State → Prop} {ls : Array Slot} {D : va_G} {E : EvT} {ks vs : Nat → Nat} {fo mi ak av fo8 : Nat} {ad ad8 : Nat → Nat} {cA cA8 : Nat → ClassId} {w0 w8 : va_W} (hX : CallFix p m c cL_law 4 s #[.ref b] lw_all R_law) (hXX : va_X b L xs s s.heap) (hbl : b < s.heap.size) (hV : EvAll l E ks vs fo mi ak av fo8) (hK0 : va_K D vwA (cT cA) s) (hK8 : va_K D vwA (mT cA8) s) (hE : E (fun q => s.heap.size ≤ q) s s.heap) (hI : InvW ad cA ad8 cA8 j w0 w8) (hj : j < 64) (hH : MH D vwA (fun q => s.heap.size ≤ q) s.heap (w0 ++ w8) H locs) (hl : lv_has ls 4 [(0, .ref b), (1, .ref (ad 0)), (2, .ref (ad8 0)), (3, .int (nI i))]) (hi : i + 6 ≤ L) (hL : L ≤ 384) (hc : cells + 12000 ≤ 1200384) (hs : slots + 48000 ≤ 5489322)
    (kk : ∀ (w0' w8' : va_W) (H1 : Heap) (locs1 : List Loc), InvW ad cA ad8 cA8 (j + 1) w0' w8' → MH D vwA (fun q => s.heap.size ≤ q) s.heap (w0' ++ w8') H1 locs1 → W p l e room_1 s m #[.ref b] below meth c H1 locs1 (cells + 12000) (slots + 48000) Q (F0 m 1342 ls [])) : W p l e room_1 s m #[.ref b] below meth c H locs cells slots Q (F0 m 1156 ls []) := by
  obtain ⟨ans, w8', hM0, hM8⟩ := op_numbers (l := l) (D := D) hV hI hj (xs (nI i + 1).toNatClampNeg) (xs (nI i + 2).toNatClampNeg) (xs (nI i + 3).toNatClampNeg)
  have hx := hX.1
  have hb := hX.2.1
  have hown := hX.2.2.2.1
  have hts := hX.2.2.2.2
  have hEv := hV.1.1.1
  have hbA : ¬ (fun q : Nat => s.heap.size ≤ q) b := Nat.not_le.mpr hbl
  refine lv_aload_n hx hb dL_law_1156 rfl (lv_at hl 1 rfl) ?_
  refine lv_aload_n hx hb dL_law_1157 rfl (lv_at hl 0 rfl) ?_
  refine lv_iload_n hx hb dL_law_1158 rfl (lv_at hl 3 rfl) ?_
  refine lv_iconst (v := 1) hx hb dL_law_1159 (by decide) ?_
  refine lv_iadd hx hb dL_law_1160 ?_
  refine va_sld hx hb hXX hbl hbA hH.2.2.1 (vps (k := 1) (by omega) hL) dL_law_1161 ?_
  refine lv_aload_n hx hb dL_law_1162 rfl (lv_at hl 0 rfl) ?_
  refine lv_iload_n hx hb dL_law_1163 rfl (lv_at hl 3 rfl) ?_
  refine lv_iconst (v := 2) hx hb dL_law_1164 (by decide) ?_
  refine lv_iadd hx hb dL_law_1165 ?_
  refine va_sld hx hb hXX hbl hbA hH.2.2.1 (vps (k := 2) (by omega) hL) dL_law_1166 ?_
  refine lv_aload_n hx hb dL_law_1167 rfl (lv_at hl 0 rfl) ?_
  refine lv_iload_n hx hb dL_law_1168 rfl (lv_at hl 3 rfl) ?_
  refine lv_iconst (v := 3) hx hb dL_law_1169 (by decide) ?_
  refine lv_iadd hx hb dL_law_1170 ?_
  refine va_sld hx hb hXX hbl hbA hH.2.2.1 (vps (k := 3) (by omega) hL) dL_law_1171 ?_
  refine mxVF hX hK0 hEv hE hH hM0 (rc0 hI hK0 hH) (lw_V q1451 q1452 q1453 q129 q1454) hdl_X0_numbers ⟨Nat.le_of_ble_eq_true rfl, Nat.le_of_ble_eq_true rfl⟩ rfl rfl hl (Nat.le_of_ble_eq_true rfl) dL_law_1172 ⟨(by show cells + 4 ≤ 1200384; omega), (by show slots + 100 ≤ 5489322; omega)⟩ (fun w0z H locs hI2 hH => ?_)
  refine lv_aload_n hx hb dL_law_1175 rfl (lv_at hl 2 rfl) ?_
  refine lv_aload_n hx hb dL_law_1176 rfl (lv_at hl 0 rfl) ?_
  refine lv_iload_n hx hb dL_law_1177 rfl (lv_at hl 3 rfl) ?_
  refine lv_iconst (v := 1) hx hb dL_law_1178 (by decide) ?_
  refine lv_iadd hx hb dL_law_1179 ?_
  refine va_sld hx hb hXX hbl hbA hH.2.2.1 (vps (k := 1) (by omega) hL) dL_law_1180 ?_
  refine lv_aload_n hx hb dL_law_1181 rfl (lv_at hl 0 rfl) ?_
  refine lv_iload_n hx hb dL_law_1182 rfl (lv_at hl 3 rfl) ?_
  refine lv_iconst (v := 2) hx hb dL_law_1183 (by decide) ?_
  refine lv_iadd hx hb dL_law_1184 ?_
  refine va_sld hx hb hXX hbl hbA hH.2.2.1 (vps (k := 2) (by omega) hL) dL_law_1185 ?_
  refine lv_aload_n hx hb dL_law_1186 rfl (lv_at hl 0 rfl) ?_
  refine lv_iload_n hx hb dL_law_1187 rfl (lv_at hl 3 rfl) ?_
  refine lv_iconst (v := 3) hx hb dL_law_1188 (by decide) ?_
  refine lv_iadd hx hb dL_law_1189 ?_
  refine va_sld hx hb hXX hbl hbA hH.2.2.1 (vps (k := 3) (by omega) hL) dL_law_1190 ?_
  have hH := hH.perm List.perm_append_comm
  refine mxVF hX hK8 hEv hE hH hM8 (rc8 hI hK8 hH) (lw_V q2200 q2201 q2202 q142 q2203) hdl_X8_numbers ⟨Nat.le_of_ble_eq_true rfl, Nat.le_of_ble_eq_true rfl⟩ rfl rfl hl (Nat.le_of_ble_eq_true rfl) dL_law_1191 ⟨(by show cells + 4 + 0 ≤ 1200384; omega), (by show slots + 100 + 0 ≤ 5489322; omega)⟩ (fun w8z H locs hw hH => ?_)
  subst hw
  have hH := hH.perm List.perm_append_comm
  refine lv_icmp_eq (tgt := 1342) hx hb dL_law_1194 rfl (fun _ => ?_) (fun c9 => absurd rfl c9)
  exact W.widen (k := cells + 12000) (n := slots + 48000) (by show cells + 4 + 0 ≤ cells + 12000; omega) (by show slots + 100 + 0 ≤ slots + 48000; omega) (kk _ _ _ _ hI2 hH)
theorem hdl_X0_write : yX0_write.cls = RX0 ∧ yX0_write.cls ≠ "java/lang/invoke/MethodHandle" ∧ yX0_write.cls ≠ "java/lang/invoke/VarHandle" ∧ (parseMethodDescriptor yX0_write.desc).map (fun d => d.parameters.length) = some 3 := by decide +kernel
theorem hdl_X8_write : yX8_write.cls = RX8 ∧ yX8_write.cls ≠ "java/lang/invoke/MethodHandle" ∧ yX8_write.cls ≠ "java/lang/invoke/VarHandle" ∧ (parseMethodDescriptor yX8_write.desc).map (fun d => d.parameters.length) = some 3 := by decide +kernel
set_option maxHeartbeats 4000000 in
theorem lawc_write {p : Program} {l : Launch} {e : Env} {s : State} {m : MethodId} {b L i j : Nat} {xs : Nat → Int32} {below : List Frame} {meth : Method} {c : Code} {H : Heap} {locs : List Loc} {cells slots : Nat} {Q : State → Prop} {ls : Array Slot} {D : va_G} {E : EvT} {ks vs : Nat → Nat} {fo mi ak av fo8 : Nat} {ad ad8 : Nat → Nat} {cA cA8 : Nat → ClassId} {w0 w8 : va_W} (hX : CallFix p m c cL_law 4 s #[.ref b] lw_all R_law) (hXX : va_X b L xs s s.heap) (hbl : b < s.heap.size) (hV : EvAll l E ks vs fo mi ak av fo8) (hK0 : va_K D vwA (cT cA) s) (hK8 : va_K D vwA (mT cA8) s) (hE : E (fun q => s.heap.size ≤ q) s s.heap) (hI : InvW ad cA ad8 cA8 j w0 w8) (hj : j < 64) (hH : MH D vwA (fun q => s.heap.size ≤ q) s.heap (w0 ++ w8) H locs) (hl : lv_has ls 4 [(0, .ref b), (1, .ref (ad 0)), (2, .ref (ad8 0)), (3, .int (nI i))]) (hi : i + 6 ≤ L) (hL : L ≤ 384) (hc : cells + 12000 ≤ 1200384) (hs : slots + 48000 ≤ 5489322)
    (kk : ∀ (w0' w8' : va_W) (H1 : Heap) (locs1 : List Loc), InvW ad cA ad8 cA8 (j + 1) w0' w8' → MH D vwA (fun q => s.heap.size ≤ q) s.heap (w0' ++ w8') H1 locs1 → W p l e room_1 s m #[.ref b] below meth c H1 locs1 (cells + 12000) (slots + 48000) Q (F0 m 1342 ls [])) : W p l e room_1 s m #[.ref b] below meth c H locs cells slots Q (F0 m 1199 ls []) := by
  obtain ⟨ans, w8', hM0, hM8⟩ := op_write (l := l) (D := D) hV hI hj (xs (nI i + 1).toNatClampNeg) (xs (nI i + 2).toNatClampNeg) (((Int32.toInt64 (xs (nI i + 3).toNatClampNeg)) <<< ((32 : Int32).toInt64 &&& 63)) ||| ((Int32.toInt64 (xs (nI i + 4).toNatClampNeg)) &&& 4294967295))
  have hx := hX.1
  have hb := hX.2.1
  have hown := hX.2.2.2.1
  have hts := hX.2.2.2.2
  have hEv := hV.1.1.1
  have hbA : ¬ (fun q : Nat => s.heap.size ≤ q) b := Nat.not_le.mpr hbl
  refine lv_aload_n hx hb dL_law_1199 rfl (lv_at hl 1 rfl) ?_
  refine lv_aload_n hx hb dL_law_1200 rfl (lv_at hl 0 rfl) ?_
  refine lv_iload_n hx hb dL_law_1201 rfl (lv_at hl 3 rfl) ?_
  refine lv_iconst (v := 1) hx hb dL_law_1202 (by decide) ?_
  refine lv_iadd hx hb dL_law_1203 ?_
  refine va_sld hx hb hXX hbl hbA hH.2.2.1 (vps (k := 1) (by omega) hL) dL_law_1204 ?_
  refine lv_aload_n hx hb dL_law_1205 rfl (lv_at hl 0 rfl) ?_
  refine lv_iload_n hx hb dL_law_1206 rfl (lv_at hl 3 rfl) ?_
  refine lv_iconst (v := 2) hx hb dL_law_1207 (by decide) ?_
  refine lv_iadd hx hb dL_law_1208 ?_
  refine va_sld hx hb hXX hbl hbA hH.2.2.1 (vps (k := 2) (by omega) hL) dL_law_1209 ?_
  refine lv_aload_n hx hb dL_law_1210 rfl (lv_at hl 0 rfl) ?_
  refine lv_iload_n hx hb dL_law_1211 rfl (lv_at hl 3 rfl) ?_
  refine lv_iconst (v := 3) hx hb dL_law_1212 (by decide) ?_
  refine lv_iadd hx hb dL_law_1213 ?_
  refine va_sld hx hb hXX hbl hbA hH.2.2.1 (vps (k := 3) (by omega) hL) dL_law_1214 ?_
  refine lv_i2l (v := (Int32.toInt64 (xs (nI i + 3).toNatClampNeg))) hx hb dL_law_1215 rfl ?_
  refine lv_bipush (v := 32) hx hb dL_law_1216 (by decide) ?_
  refine lv_lshl (v := ((Int32.toInt64 (xs (nI i + 3).toNatClampNeg)) <<< ((32 : Int32).toInt64 &&& 63))) hx hb dL_law_1218 rfl ?_
  refine lv_aload_n hx hb dL_law_1219 rfl (lv_at hl 0 rfl) ?_
  refine lv_iload_n hx hb dL_law_1220 rfl (lv_at hl 3 rfl) ?_
  refine lv_iconst (v := 4) hx hb dL_law_1221 (by decide) ?_
  refine lv_iadd hx hb dL_law_1222 ?_
  refine va_sld hx hb hXX hbl hbA hH.2.2.1 (vps (k := 4) (by omega) hL) dL_law_1223 ?_
  refine lv_i2l (v := (Int32.toInt64 (xs (nI i + 4).toNatClampNeg))) hx hb dL_law_1224 rfl ?_
  refine lv_ldc2 (v := 4294967295) hx hb hown (hts _ q2226) dL_law_1225 ?_
  refine lv_land hx hb dL_law_1228 ?_
  refine lv_lor hx hb dL_law_1229 ?_
  refine mxVWF hX hK0 hEv hE hH hM0 (rc0 hI hK0 hH) (lw_VW q1543 q1544 q1545 q129 q1546) hdl_X0_write ⟨Nat.le_of_ble_eq_true rfl, Nat.le_of_ble_eq_true rfl⟩ rfl rfl hl (Nat.le_of_ble_eq_true rfl) dL_law_1230 ⟨(by show cells + 4 ≤ 1200384; omega), (by show slots + 300 ≤ 5489322; omega)⟩ (fun w0z H locs hI2 hH => ?_)
  refine lv_aload_n hx hb dL_law_1233 rfl (lv_at hl 2 rfl) ?_
  refine lv_aload_n hx hb dL_law_1234 rfl (lv_at hl 0 rfl) ?_
  refine lv_iload_n hx hb dL_law_1235 rfl (lv_at hl 3 rfl) ?_
  refine lv_iconst (v := 1) hx hb dL_law_1236 (by decide) ?_
  refine lv_iadd hx hb dL_law_1237 ?_
  refine va_sld hx hb hXX hbl hbA hH.2.2.1 (vps (k := 1) (by omega) hL) dL_law_1238 ?_
  refine lv_aload_n hx hb dL_law_1239 rfl (lv_at hl 0 rfl) ?_
  refine lv_iload_n hx hb dL_law_1240 rfl (lv_at hl 3 rfl) ?_
  refine lv_iconst (v := 2) hx hb dL_law_1241 (by decide) ?_
  refine lv_iadd hx hb dL_law_1242 ?_
  refine va_sld hx hb hXX hbl hbA hH.2.2.1 (vps (k := 2) (by omega) hL) dL_law_1243 ?_
  refine lv_aload_n hx hb dL_law_1244 rfl (lv_at hl 0 rfl) ?_
  refine lv_iload_n hx hb dL_law_1245 rfl (lv_at hl 3 rfl) ?_
  refine lv_iconst (v := 3) hx hb dL_law_1246 (by decide) ?_
  refine lv_iadd hx hb dL_law_1247 ?_
  refine va_sld hx hb hXX hbl hbA hH.2.2.1 (vps (k := 3) (by omega) hL) dL_law_1248 ?_
  refine lv_i2l (v := (Int32.toInt64 (xs (nI i + 3).toNatClampNeg))) hx hb dL_law_1249 rfl ?_
  refine lv_bipush (v := 32) hx hb dL_law_1250 (by decide) ?_
  refine lv_lshl (v := ((Int32.toInt64 (xs (nI i + 3).toNatClampNeg)) <<< ((32 : Int32).toInt64 &&& 63))) hx hb dL_law_1252 rfl ?_
  refine lv_aload_n hx hb dL_law_1253 rfl (lv_at hl 0 rfl) ?_
  refine lv_iload_n hx hb dL_law_1254 rfl (lv_at hl 3 rfl) ?_
  refine lv_iconst (v := 4) hx hb dL_law_1255 (by decide) ?_
  refine lv_iadd hx hb dL_law_1256 ?_
  refine va_sld hx hb hXX hbl hbA hH.2.2.1 (vps (k := 4) (by omega) hL) dL_law_1257 ?_
  refine lv_i2l (v := (Int32.toInt64 (xs (nI i + 4).toNatClampNeg))) hx hb dL_law_1258 rfl ?_
  refine lv_ldc2 (v := 4294967295) hx hb hown (hts _ q2226) dL_law_1259 ?_
  refine lv_land hx hb dL_law_1262 ?_
  refine lv_lor hx hb dL_law_1263 ?_
  have hH := hH.perm List.perm_append_comm
  refine mxVF hX hK8 hEv hE hH hM8 (rc8 hI hK8 hH) (lw_V q2204 q2205 q2206 q142 q2207) hdl_X8_write ⟨Nat.le_of_ble_eq_true rfl, Nat.le_of_ble_eq_true rfl⟩ rfl rfl hl (Nat.le_of_ble_eq_true rfl) dL_law_1264 ⟨(by show cells + 4 + 0 ≤ 1200384; omega), (by show slots + 300 + 0 ≤ 5489322; omega)⟩ (fun w8z H locs hw hH => ?_)
  subst hw
  have hH := hH.perm List.perm_append_comm
  refine W.lcmp hx hb dL_law_1267 ?_
  refine lv_if_eq (tgt := 1342) hx hb dL_law_1268 rfl (fun _ => ?_) (fun c9 => absurd (by first | exact (lg_eq _ _).mpr rfl | rfl) c9)
  exact W.widen (k := cells + 12000) (n := slots + 48000) (by show cells + 4 + 0 ≤ cells + 12000; omega) (by show slots + 300 + 0 ≤ slots + 48000; omega) (kk _ _ _ _ hI2 hH)
theorem hdl_X0_image : yX0_image.cls = RX0 ∧ yX0_image.cls ≠ "java/lang/invoke/MethodHandle" ∧ yX0_image.cls ≠ "java/lang/invoke/VarHandle" ∧ (parseMethodDescriptor yX0_image.desc).map (fun d => d.parameters.length) = some 1 := by decide +kernel
theorem hdl_X8_image : yX8_image.cls = RX8 ∧ yX8_image.cls ≠ "java/lang/invoke/MethodHandle" ∧ yX8_image.cls ≠ "java/lang/invoke/VarHandle" ∧ (parseMethodDescriptor yX8_image.desc).map (fun d => d.parameters.length) = some 1 := by decide +kernel
set_option maxHeartbeats 4000000 in
theorem lawc_image {p : Program} {l : Launch} {e : Env} {s : State} {m : MethodId} {b L i j : Nat} {xs : Nat → Int32} {below : List Frame} {meth : Method} {c : Code} {H : Heap} {locs : List Loc} {cells slots : Nat} {Q : State → Prop} {ls : Array Slot} {D : va_G} {E : EvT} {ks vs : Nat → Nat} {fo mi ak av fo8 : Nat} {ad ad8 : Nat → Nat} {cA cA8 : Nat → ClassId} {w0 w8 : va_W} (hX : CallFix p m c cL_law 4 s #[.ref b] lw_all R_law) (hXX : va_X b L xs s s.heap) (hbl : b < s.heap.size) (hV : EvAll l E ks vs fo mi ak av fo8) (hK0 : va_K D vwA (cT cA) s) (hK8 : va_K D vwA (mT cA8) s) (hE : E (fun q => s.heap.size ≤ q) s s.heap) (hI : InvW ad cA ad8 cA8 j w0 w8) (hj : j < 64) (hH : MH D vwA (fun q => s.heap.size ≤ q) s.heap (w0 ++ w8) H locs) (hl : lv_has ls 4 [(0, .ref b), (1, .ref (ad 0)), (2, .ref (ad8 0)), (3, .int (nI i))]) (hi : i + 6 ≤ L) (hL : L ≤ 384) (hc : cells + 12000 ≤ 1200384) (hs : slots + 48000 ≤ 5489322)
    (kk : ∀ (w0' w8' : va_W) (H1 : Heap) (locs1 : List Loc), InvW ad cA ad8 cA8 (j + 1) w0' w8' → MH D vwA (fun q => s.heap.size ≤ q) s.heap (w0' ++ w8') H1 locs1 → W p l e room_1 s m #[.ref b] below meth c H1 locs1 (cells + 12000) (slots + 48000) Q (F0 m 1342 ls [])) : W p l e room_1 s m #[.ref b] below meth c H locs cells slots Q (F0 m 1273 ls []) := by
  obtain ⟨ans, w8', hM0, hM8⟩ := op_image (l := l) (D := D) hV hI hj (xs (nI i + 1).toNatClampNeg)
  have hx := hX.1
  have hb := hX.2.1
  have hown := hX.2.2.2.1
  have hts := hX.2.2.2.2
  have hEv := hV.1.1.1
  have hbA : ¬ (fun q : Nat => s.heap.size ≤ q) b := Nat.not_le.mpr hbl
  refine lv_aload_n hx hb dL_law_1273 rfl (lv_at hl 1 rfl) ?_
  refine lv_aload_n hx hb dL_law_1274 rfl (lv_at hl 0 rfl) ?_
  refine lv_iload_n hx hb dL_law_1275 rfl (lv_at hl 3 rfl) ?_
  refine lv_iconst (v := 1) hx hb dL_law_1276 (by decide) ?_
  refine lv_iadd hx hb dL_law_1277 ?_
  refine va_sld hx hb hXX hbl hbA hH.2.2.1 (vps (k := 1) (by omega) hL) dL_law_1278 ?_
  refine mxVF hX hK0 hEv hE hH hM0 (rc0 hI hK0 hH) (lw_V q1598 q1599 q1600 q129 q1601) hdl_X0_image ⟨Nat.le_of_ble_eq_true rfl, Nat.le_of_ble_eq_true rfl⟩ rfl rfl hl (Nat.le_of_ble_eq_true rfl) dL_law_1279 ⟨(by show cells + 12 ≤ 1200384; omega), (by show slots + 50 ≤ 5489322; omega)⟩ (fun w0z H locs hI2 hH => ?_)
  refine lv_aload_n hx hb dL_law_1282 rfl (lv_at hl 2 rfl) ?_
  refine lv_aload_n hx hb dL_law_1283 rfl (lv_at hl 0 rfl) ?_
  refine lv_iload_n hx hb dL_law_1284 rfl (lv_at hl 3 rfl) ?_
  refine lv_iconst (v := 1) hx hb dL_law_1285 (by decide) ?_
  refine lv_iadd hx hb dL_law_1286 ?_
  refine va_sld hx hb hXX hbl hbA hH.2.2.1 (vps (k := 1) (by omega) hL) dL_law_1287 ?_
  have hH := hH.perm List.perm_append_comm
  refine mxVF hX hK8 hEv hE hH hM8 (rc8 hI hK8 hH) (lw_V q2214 q2215 q2216 q142 q2217) hdl_X8_image ⟨Nat.le_of_ble_eq_true rfl, Nat.le_of_ble_eq_true rfl⟩ rfl rfl hl (Nat.le_of_ble_eq_true rfl) dL_law_1288 ⟨(by show cells + 12 + 0 ≤ 1200384; omega), (by show slots + 50 + 0 ≤ 5489322; omega)⟩ (fun w8z H locs hw hH => ?_)
  subst hw
  have hH := hH.perm List.perm_append_comm
  refine lv_icmp_eq (tgt := 1342) hx hb dL_law_1291 rfl (fun _ => ?_) (fun c9 => absurd rfl c9)
  exact W.widen (k := cells + 12000) (n := slots + 48000) (by show cells + 12 + 0 ≤ cells + 12000; omega) (by show slots + 50 + 0 ≤ slots + 48000; omega) (kk _ _ _ _ hI2 hH)
theorem hdl_X0_restore : yX0_restore.cls = RX0 ∧ yX0_restore.cls ≠ "java/lang/invoke/MethodHandle" ∧ yX0_restore.cls ≠ "java/lang/invoke/VarHandle" ∧ (parseMethodDescriptor yX0_restore.desc).map (fun d => d.parameters.length) = some 1 := by decide +kernel
theorem hdl_X8_restore : yX8_restore.cls = RX8 ∧ yX8_restore.cls ≠ "java/lang/invoke/MethodHandle" ∧ yX8_restore.cls ≠ "java/lang/invoke/VarHandle" ∧ (parseMethodDescriptor yX8_restore.desc).map (fun d => d.parameters.length) = some 1 := by decide +kernel
set_option maxHeartbeats 4000000 in
theorem lawc_restore {p : Program} {l : Launch} {e : Env} {s : State} {m : MethodId} {b L i j : Nat} {xs : Nat → Int32} {below : List Frame} {meth : Method} {c : Code} {H : Heap} {locs : List Loc} {cells slots : Nat} {Q : State → Prop} {ls : Array Slot} {D : va_G} {E : EvT} {ks vs : Nat → Nat} {fo mi ak av fo8 : Nat} {ad ad8 : Nat → Nat} {cA cA8 : Nat → ClassId} {w0 w8 : va_W} (hX : CallFix p m c cL_law 4 s #[.ref b] lw_all R_law) (hXX : va_X b L xs s s.heap) (hbl : b < s.heap.size) (hV : EvAll l E ks vs fo mi ak av fo8) (hK0 : va_K D vwA (cT cA) s) (hK8 : va_K D vwA (mT cA8) s) (hE : E (fun q => s.heap.size ≤ q) s s.heap) (hI : InvW ad cA ad8 cA8 j w0 w8) (hj : j < 64) (hH : MH D vwA (fun q => s.heap.size ≤ q) s.heap (w0 ++ w8) H locs) (hl : lv_has ls 4 [(0, .ref b), (1, .ref (ad 0)), (2, .ref (ad8 0)), (3, .int (nI i))]) (hi : i + 6 ≤ L) (hL : L ≤ 384) (hc : cells + 12000 ≤ 1200384) (hs : slots + 48000 ≤ 5489322)
    (kk : ∀ (w0' w8' : va_W) (H1 : Heap) (locs1 : List Loc), InvW ad cA ad8 cA8 (j + 1) w0' w8' → MH D vwA (fun q => s.heap.size ≤ q) s.heap (w0' ++ w8') H1 locs1 → W p l e room_1 s m #[.ref b] below meth c H1 locs1 (cells + 12000) (slots + 48000) Q (F0 m 1342 ls [])) : W p l e room_1 s m #[.ref b] below meth c H locs cells slots Q (F0 m 1296 ls []) := by
  obtain ⟨ans, w8', hM0, hM8⟩ := op_restore (l := l) (D := D) hV hI hj (xs (nI i + 1).toNatClampNeg)
  have hx := hX.1
  have hb := hX.2.1
  have hown := hX.2.2.2.1
  have hts := hX.2.2.2.2
  have hEv := hV.1.1.1
  have hbA : ¬ (fun q : Nat => s.heap.size ≤ q) b := Nat.not_le.mpr hbl
  refine lv_aload_n hx hb dL_law_1296 rfl (lv_at hl 1 rfl) ?_
  refine lv_aload_n hx hb dL_law_1297 rfl (lv_at hl 0 rfl) ?_
  refine lv_iload_n hx hb dL_law_1298 rfl (lv_at hl 3 rfl) ?_
  refine lv_iconst (v := 1) hx hb dL_law_1299 (by decide) ?_
  refine lv_iadd hx hb dL_law_1300 ?_
  refine va_sld hx hb hXX hbl hbA hH.2.2.1 (vps (k := 1) (by omega) hL) dL_law_1301 ?_
  refine mxVF hX hK0 hEv hE hH hM0 (rc0 hI hK0 hH) (lw_V q1608 q1609 q1610 q129 q1611) hdl_X0_restore ⟨Nat.le_of_ble_eq_true rfl, Nat.le_of_ble_eq_true rfl⟩ rfl rfl hl (Nat.le_of_ble_eq_true rfl) dL_law_1302 ⟨(by show cells + 12 ≤ 1200384; omega), (by show slots + 50 ≤ 5489322; omega)⟩ (fun w0z H locs hI2 hH => ?_)
  refine lv_aload_n hx hb dL_law_1305 rfl (lv_at hl 2 rfl) ?_
  refine lv_aload_n hx hb dL_law_1306 rfl (lv_at hl 0 rfl) ?_
  refine lv_iload_n hx hb dL_law_1307 rfl (lv_at hl 3 rfl) ?_
  refine lv_iconst (v := 1) hx hb dL_law_1308 (by decide) ?_
  refine lv_iadd hx hb dL_law_1309 ?_
  refine va_sld hx hb hXX hbl hbA hH.2.2.1 (vps (k := 1) (by omega) hL) dL_law_1310 ?_
  have hH := hH.perm List.perm_append_comm
  refine mxVF hX hK8 hEv hE hH hM8 (rc8 hI hK8 hH) (lw_V q2218 q2219 q2220 q142 q2221) hdl_X8_restore ⟨Nat.le_of_ble_eq_true rfl, Nat.le_of_ble_eq_true rfl⟩ rfl rfl hl (Nat.le_of_ble_eq_true rfl) dL_law_1311 ⟨(by show cells + 12 + 0 ≤ 1200384; omega), (by show slots + 50 + 0 ≤ 5489322; omega)⟩ (fun w8z H locs hw hH => ?_)
  subst hw
  have hH := hH.perm List.perm_append_comm
  refine lv_icmp_eq (tgt := 1342) hx hb dL_law_1314 rfl (fun _ => ?_) (fun c9 => absurd rfl c9)
  exact W.widen (k := cells + 12000) (n := slots + 48000) (by show cells + 12 + 0 ≤ cells + 12000; omega) (by show slots + 50 + 0 ≤ slots + 48000; omega) (kk _ _ _ _ hI2 hH)
theorem hdl_X0_count : yX0_count.cls = RX0 ∧ yX0_count.cls ≠ "java/lang/invoke/MethodHandle" ∧ yX0_count.cls ≠ "java/lang/invoke/VarHandle" ∧ (parseMethodDescriptor yX0_count.desc).map (fun d => d.parameters.length) = some 1 := by decide +kernel
theorem hdl_X8_count : yX8_count.cls = RX8 ∧ yX8_count.cls ≠ "java/lang/invoke/MethodHandle" ∧ yX8_count.cls ≠ "java/lang/invoke/VarHandle" ∧ (parseMethodDescriptor yX8_count.desc).map (fun d => d.parameters.length) = some 1 := by decide +kernel
set_option maxHeartbeats 4000000 in
theorem lawc_count {p : Program} {l : Launch} {e : Env} {s : State} {m : MethodId} {b L i j : Nat} {xs : Nat → Int32} {below : List Frame} {meth : Method} {c : Code} {H : Heap} {locs : List Loc} {cells slots : Nat} {Q : State → Prop} {ls : Array Slot} {D : va_G} {E : EvT} {ks vs : Nat → Nat} {fo mi ak av fo8 : Nat} {ad ad8 : Nat → Nat} {cA cA8 : Nat → ClassId} {w0 w8 : va_W} (hX : CallFix p m c cL_law 4 s #[.ref b] lw_all R_law) (hXX : va_X b L xs s s.heap) (hbl : b < s.heap.size) (hV : EvAll l E ks vs fo mi ak av fo8) (hK0 : va_K D vwA (cT cA) s) (hK8 : va_K D vwA (mT cA8) s) (hE : E (fun q => s.heap.size ≤ q) s s.heap) (hI : InvW ad cA ad8 cA8 j w0 w8) (hj : j < 64) (hH : MH D vwA (fun q => s.heap.size ≤ q) s.heap (w0 ++ w8) H locs) (hl : lv_has ls 4 [(0, .ref b), (1, .ref (ad 0)), (2, .ref (ad8 0)), (3, .int (nI i))]) (hi : i + 6 ≤ L) (hL : L ≤ 384) (hc : cells + 12000 ≤ 1200384) (hs : slots + 48000 ≤ 5489322)
    (kk : ∀ (w0' w8' : va_W) (H1 : Heap) (locs1 : List Loc), InvW ad cA ad8 cA8 (j + 1) w0' w8' → MH D vwA (fun q => s.heap.size ≤ q) s.heap (w0' ++ w8') H1 locs1 → W p l e room_1 s m #[.ref b] below meth c H1 locs1 (cells + 12000) (slots + 48000) Q (F0 m 1342 ls [])) : W p l e room_1 s m #[.ref b] below meth c H locs cells slots Q (F0 m 1319 ls []) := by
  obtain ⟨ans, w8', hM0, hM8⟩ := op_count (l := l) (D := D) hV hI hj (xs (nI i + 1).toNatClampNeg)
  have hx := hX.1
  have hb := hX.2.1
  have hown := hX.2.2.2.1
  have hts := hX.2.2.2.2
  have hEv := hV.1.1.1
  have hbA : ¬ (fun q : Nat => s.heap.size ≤ q) b := Nat.not_le.mpr hbl
  refine lv_aload_n hx hb dL_law_1319 rfl (lv_at hl 1 rfl) ?_
  refine lv_aload_n hx hb dL_law_1320 rfl (lv_at hl 0 rfl) ?_
  refine lv_iload_n hx hb dL_law_1321 rfl (lv_at hl 3 rfl) ?_
  refine lv_iconst (v := 1) hx hb dL_law_1322 (by decide) ?_
  refine lv_iadd hx hb dL_law_1323 ?_
  refine va_sld hx hb hXX hbl hbA hH.2.2.1 (vps (k := 1) (by omega) hL) dL_law_1324 ?_
  refine mxVF hX hK0 hEv hE hH hM0 (rc0 hI hK0 hH) (lw_V q1612 q1613 q1614 q129 q1615) hdl_X0_count ⟨Nat.le_of_ble_eq_true rfl, Nat.le_of_ble_eq_true rfl⟩ rfl rfl hl (Nat.le_of_ble_eq_true rfl) dL_law_1325 ⟨(by show cells + 0 ≤ 1200384; omega), (by show slots + 0 ≤ 5489322; omega)⟩ (fun w0z H locs hI2 hH => ?_)
  refine lv_aload_n hx hb dL_law_1328 rfl (lv_at hl 2 rfl) ?_
  refine lv_aload_n hx hb dL_law_1329 rfl (lv_at hl 0 rfl) ?_
  refine lv_iload_n hx hb dL_law_1330 rfl (lv_at hl 3 rfl) ?_
  refine lv_iconst (v := 1) hx hb dL_law_1331 (by decide) ?_
  refine lv_iadd hx hb dL_law_1332 ?_
  refine va_sld hx hb hXX hbl hbA hH.2.2.1 (vps (k := 1) (by omega) hL) dL_law_1333 ?_
  have hH := hH.perm List.perm_append_comm
  refine mxVF hX hK8 hEv hE hH hM8 (rc8 hI hK8 hH) (lw_V q2222 q2223 q2224 q142 q2225) hdl_X8_count ⟨Nat.le_of_ble_eq_true rfl, Nat.le_of_ble_eq_true rfl⟩ rfl rfl hl (Nat.le_of_ble_eq_true rfl) dL_law_1334 ⟨(by show cells + 0 + 0 ≤ 1200384; omega), (by show slots + 0 + 0 ≤ 5489322; omega)⟩ (fun w8z H locs hw hH => ?_)
  subst hw
  have hH := hH.perm List.perm_append_comm
  refine lv_icmp_eq (tgt := 1342) hx hb dL_law_1337 rfl (fun _ => ?_) (fun c9 => absurd rfl c9)
  exact W.widen (k := cells + 12000) (n := slots + 48000) (by show cells + 0 + 0 ≤ cells + 12000; omega) (by show slots + 0 + 0 ≤ slots + 48000; omega) (kk _ _ _ _ hI2 hH)
