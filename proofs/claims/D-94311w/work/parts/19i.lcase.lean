set_option maxRecDepth 100000
theorem hdl_X0_feed : yX0_feed.cls = RX0 ∧ yX0_feed.cls ≠ "java/lang/invoke/MethodHandle" ∧ yX0_feed.cls ≠ "java/lang/invoke/VarHandle" ∧ (parseMethodDescriptor yX0_feed.desc).map (fun d => d.parameters.length) = some 5 := by decide +kernel
theorem hdl_X8_feed : yX8_feed.cls = RX8 ∧ yX8_feed.cls ≠ "java/lang/invoke/MethodHandle" ∧ yX8_feed.cls ≠ "java/lang/invoke/VarHandle" ∧ (parseMethodDescriptor yX8_feed.desc).map (fun d => d.parameters.length) = some 5 := by decide +kernel
set_option maxHeartbeats 4000000 in
theorem lawc_feed {p : Program} {l : Launch} {e : Env} {s : State} {m : MethodId} {b L i j : Nat} {xs : Nat → Int32} {below : List Frame} {meth : Method} {c : Code} {H : Heap} {locs : List Loc} {cells slots : Nat} {Q : State → Prop} {ls : Array Slot} {D : va_G} {E : EvT} {ks vs : Nat → Nat} {fo mi ak av fo8 : Nat} {ad ad8 : Nat → Nat} {cA cA8 : Nat → ClassId} {w0 w8 : va_W} (hX : CallFix p m c cL_law 4 s #[.ref b] lw_all R_law) (hXX : va_X b L xs s s.heap) (hbl : b < s.heap.size) (hV : EvAll l E ks vs fo mi ak av fo8) (hK0 : va_K D vwA (cT cA) s) (hK8 : va_K D vwA (mT cA8) s) (hE : E (fun q => s.heap.size ≤ q) s s.heap) (hI : InvW ad cA ad8 cA8 j w0 w8) (hj : j < 64) (hH : MH D vwA (fun q => s.heap.size ≤ q) s.heap (w0 ++ w8) H locs) (hl : lv_has ls 4 [(0, .ref b), (1, .ref (ad 0)), (2, .ref (ad8 0)), (3, .int (nI i))]) (hi : i + 6 ≤ L) (hL : L ≤ 384) (hc : cells + 12000 ≤ 1200384) (hs : slots + 48000 ≤ 5489322)
    (kk : ∀ (w0' w8' : va_W) (H1 : Heap) (locs1 : List Loc), InvW ad cA ad8 cA8 (j + 1) w0' w8' → MH D vwA (fun q => s.heap.size ≤ q) s.heap (w0' ++ w8') H1 locs1 → W p l e room_1 s m #[.ref b] below meth c H1 locs1 (cells + 12000) (slots + 48000) Q (F0 m 1342 ls [])) : W p l e room_1 s m #[.ref b] below meth c H locs cells slots Q (F0 m 204 ls []) := by
  obtain ⟨ans, w8', hM0, hM8⟩ := op_feed (l := l) (D := D) hV hI hj (xs (nI i + 1).toNatClampNeg) (xs (nI i + 2).toNatClampNeg) (xs (nI i + 3).toNatClampNeg) (xs (nI i + 4).toNatClampNeg) (xs (nI i + 5).toNatClampNeg)
  have hx := hX.1
  have hb := hX.2.1
  have hown := hX.2.2.2.1
  have hts := hX.2.2.2.2
  have hEv := hV.1.1.1
  have hbA : ¬ (fun q : Nat => s.heap.size ≤ q) b := Nat.not_le.mpr hbl
  refine lv_aload_n hx hb dL_law_204 rfl (lv_at hl 1 rfl) ?_
  refine lv_aload_n hx hb dL_law_205 rfl (lv_at hl 0 rfl) ?_
  refine lv_iload_n hx hb dL_law_206 rfl (lv_at hl 3 rfl) ?_
  refine lv_iconst (v := 1) hx hb dL_law_207 (by decide) ?_
  refine lv_iadd hx hb dL_law_208 ?_
  refine va_sld hx hb hXX hbl hbA hH.2.2.1 (vps (k := 1) (by omega) hL) dL_law_209 ?_
  refine lv_aload_n hx hb dL_law_210 rfl (lv_at hl 0 rfl) ?_
  refine lv_iload_n hx hb dL_law_211 rfl (lv_at hl 3 rfl) ?_
  refine lv_iconst (v := 2) hx hb dL_law_212 (by decide) ?_
  refine lv_iadd hx hb dL_law_213 ?_
  refine va_sld hx hb hXX hbl hbA hH.2.2.1 (vps (k := 2) (by omega) hL) dL_law_214 ?_
  refine lv_aload_n hx hb dL_law_215 rfl (lv_at hl 0 rfl) ?_
  refine lv_iload_n hx hb dL_law_216 rfl (lv_at hl 3 rfl) ?_
  refine lv_iconst (v := 3) hx hb dL_law_217 (by decide) ?_
  refine lv_iadd hx hb dL_law_218 ?_
  refine va_sld hx hb hXX hbl hbA hH.2.2.1 (vps (k := 3) (by omega) hL) dL_law_219 ?_
  refine lv_aload_n hx hb dL_law_220 rfl (lv_at hl 0 rfl) ?_
  refine lv_iload_n hx hb dL_law_221 rfl (lv_at hl 3 rfl) ?_
  refine lv_iconst (v := 4) hx hb dL_law_222 (by decide) ?_
  refine lv_iadd hx hb dL_law_223 ?_
  refine va_sld hx hb hXX hbl hbA hH.2.2.1 (vps (k := 4) (by omega) hL) dL_law_224 ?_
  refine lv_aload_n hx hb dL_law_225 rfl (lv_at hl 0 rfl) ?_
  refine lv_iload_n hx hb dL_law_226 rfl (lv_at hl 3 rfl) ?_
  refine lv_iconst (v := 5) hx hb dL_law_227 (by decide) ?_
  refine lv_iadd hx hb dL_law_228 ?_
  refine va_sld hx hb hXX hbl hbA hH.2.2.1 (vps (k := 5) (by omega) hL) dL_law_229 ?_
  refine mxVF hX hK0 hEv hE hH hM0 (rc0 hI hK0 hH) (lw_V q515 q516 q517 q129 q518) hdl_X0_feed ⟨Nat.le_of_ble_eq_true rfl, Nat.le_of_ble_eq_true rfl⟩ rfl rfl hl (Nat.le_of_ble_eq_true rfl) dL_law_230 ⟨(by show cells + 0 ≤ 1200384; omega), (by show slots + 0 ≤ 5489322; omega)⟩ (fun w0z H locs hI2 hH => ?_)
  refine lv_aload_n hx hb dL_law_233 rfl (lv_at hl 2 rfl) ?_
  refine lv_aload_n hx hb dL_law_234 rfl (lv_at hl 0 rfl) ?_
  refine lv_iload_n hx hb dL_law_235 rfl (lv_at hl 3 rfl) ?_
  refine lv_iconst (v := 1) hx hb dL_law_236 (by decide) ?_
  refine lv_iadd hx hb dL_law_237 ?_
  refine va_sld hx hb hXX hbl hbA hH.2.2.1 (vps (k := 1) (by omega) hL) dL_law_238 ?_
  refine lv_aload_n hx hb dL_law_239 rfl (lv_at hl 0 rfl) ?_
  refine lv_iload_n hx hb dL_law_240 rfl (lv_at hl 3 rfl) ?_
  refine lv_iconst (v := 2) hx hb dL_law_241 (by decide) ?_
  refine lv_iadd hx hb dL_law_242 ?_
  refine va_sld hx hb hXX hbl hbA hH.2.2.1 (vps (k := 2) (by omega) hL) dL_law_243 ?_
  refine lv_aload_n hx hb dL_law_244 rfl (lv_at hl 0 rfl) ?_
  refine lv_iload_n hx hb dL_law_245 rfl (lv_at hl 3 rfl) ?_
  refine lv_iconst (v := 3) hx hb dL_law_246 (by decide) ?_
  refine lv_iadd hx hb dL_law_247 ?_
  refine va_sld hx hb hXX hbl hbA hH.2.2.1 (vps (k := 3) (by omega) hL) dL_law_248 ?_
  refine lv_aload_n hx hb dL_law_249 rfl (lv_at hl 0 rfl) ?_
  refine lv_iload_n hx hb dL_law_250 rfl (lv_at hl 3 rfl) ?_
  refine lv_iconst (v := 4) hx hb dL_law_251 (by decide) ?_
  refine lv_iadd hx hb dL_law_252 ?_
  refine va_sld hx hb hXX hbl hbA hH.2.2.1 (vps (k := 4) (by omega) hL) dL_law_253 ?_
  refine lv_aload_n hx hb dL_law_254 rfl (lv_at hl 0 rfl) ?_
  refine lv_iload_n hx hb dL_law_255 rfl (lv_at hl 3 rfl) ?_
  refine lv_iconst (v := 5) hx hb dL_law_256 (by decide) ?_
  refine lv_iadd hx hb dL_law_257 ?_
  refine va_sld hx hb hXX hbl hbA hH.2.2.1 (vps (k := 5) (by omega) hL) dL_law_258 ?_
  have hH := hH.perm List.perm_append_comm
  refine mxVF hX hK8 hEv hE hH hM8 (rc8 hI hK8 hH) (lw_V q1764 q1765 q1766 q142 q1767) hdl_X8_feed ⟨Nat.le_of_ble_eq_true rfl, Nat.le_of_ble_eq_true rfl⟩ rfl rfl hl (Nat.le_of_ble_eq_true rfl) dL_law_259 ⟨(by show cells + 0 + 0 ≤ 1200384; omega), (by show slots + 0 + 0 ≤ 5489322; omega)⟩ (fun w8z H locs hw hH => ?_)
  subst hw
  have hH := hH.perm List.perm_append_comm
  refine lv_icmp_eq (tgt := 1342) hx hb dL_law_262 rfl (fun _ => ?_) (fun c9 => absurd rfl c9)
  exact W.widen (k := cells + 12000) (n := slots + 48000) (by show cells + 0 + 0 ≤ cells + 12000; omega) (by show slots + 0 + 0 ≤ slots + 48000; omega) (kk _ _ _ _ hI2 hH)
theorem hdl_X0_text : yX0_text.cls = RX0 ∧ yX0_text.cls ≠ "java/lang/invoke/MethodHandle" ∧ yX0_text.cls ≠ "java/lang/invoke/VarHandle" ∧ (parseMethodDescriptor yX0_text.desc).map (fun d => d.parameters.length) = some 2 := by decide +kernel
theorem hdl_X8_text : yX8_text.cls = RX8 ∧ yX8_text.cls ≠ "java/lang/invoke/MethodHandle" ∧ yX8_text.cls ≠ "java/lang/invoke/VarHandle" ∧ (parseMethodDescriptor yX8_text.desc).map (fun d => d.parameters.length) = some 2 := by decide +kernel
set_option maxHeartbeats 4000000 in
theorem lawc_text {p : Program} {l : Launch} {e : Env} {s : State} {m : MethodId} {b L i j : Nat} {xs : Nat → Int32} {below : List Frame} {meth : Method} {c : Code} {H : Heap} {locs : List Loc} {cells slots : Nat} {Q : State → Prop} {ls : Array Slot} {D : va_G} {E : EvT} {ks vs : Nat → Nat} {fo mi ak av fo8 : Nat} {ad ad8 : Nat → Nat} {cA cA8 : Nat → ClassId} {w0 w8 : va_W} (hX : CallFix p m c cL_law 4 s #[.ref b] lw_all R_law) (hXX : va_X b L xs s s.heap) (hbl : b < s.heap.size) (hV : EvAll l E ks vs fo mi ak av fo8) (hK0 : va_K D vwA (cT cA) s) (hK8 : va_K D vwA (mT cA8) s) (hE : E (fun q => s.heap.size ≤ q) s s.heap) (hI : InvW ad cA ad8 cA8 j w0 w8) (hj : j < 64) (hH : MH D vwA (fun q => s.heap.size ≤ q) s.heap (w0 ++ w8) H locs) (hl : lv_has ls 4 [(0, .ref b), (1, .ref (ad 0)), (2, .ref (ad8 0)), (3, .int (nI i))]) (hi : i + 6 ≤ L) (hL : L ≤ 384) (hc : cells + 12000 ≤ 1200384) (hs : slots + 48000 ≤ 5489322)
    (kk : ∀ (w0' w8' : va_W) (H1 : Heap) (locs1 : List Loc), InvW ad cA ad8 cA8 (j + 1) w0' w8' → MH D vwA (fun q => s.heap.size ≤ q) s.heap (w0' ++ w8') H1 locs1 → W p l e room_1 s m #[.ref b] below meth c H1 locs1 (cells + 12000) (slots + 48000) Q (F0 m 1342 ls [])) : W p l e room_1 s m #[.ref b] below meth c H locs cells slots Q (F0 m 267 ls []) := by
  obtain ⟨ans, w8', hM0, hM8⟩ := op_text (l := l) (D := D) hV hI hj (xs (nI i + 1).toNatClampNeg) (xs (nI i + 2).toNatClampNeg)
  have hx := hX.1
  have hb := hX.2.1
  have hown := hX.2.2.2.1
  have hts := hX.2.2.2.2
  have hEv := hV.1.1.1
  have hbA : ¬ (fun q : Nat => s.heap.size ≤ q) b := Nat.not_le.mpr hbl
  refine lv_aload_n hx hb dL_law_267 rfl (lv_at hl 1 rfl) ?_
  refine lv_aload_n hx hb dL_law_268 rfl (lv_at hl 0 rfl) ?_
  refine lv_iload_n hx hb dL_law_269 rfl (lv_at hl 3 rfl) ?_
  refine lv_iconst (v := 1) hx hb dL_law_270 (by decide) ?_
  refine lv_iadd hx hb dL_law_271 ?_
  refine va_sld hx hb hXX hbl hbA hH.2.2.1 (vps (k := 1) (by omega) hL) dL_law_272 ?_
  refine lv_aload_n hx hb dL_law_273 rfl (lv_at hl 0 rfl) ?_
  refine lv_iload_n hx hb dL_law_274 rfl (lv_at hl 3 rfl) ?_
  refine lv_iconst (v := 2) hx hb dL_law_275 (by decide) ?_
  refine lv_iadd hx hb dL_law_276 ?_
  refine va_sld hx hb hXX hbl hbA hH.2.2.1 (vps (k := 2) (by omega) hL) dL_law_277 ?_
  refine mxVF hX hK0 hEv hE hH hM0 (rc0 hI hK0 hH) (lw_V q523 q524 q525 q129 q526) hdl_X0_text ⟨Nat.le_of_ble_eq_true rfl, Nat.le_of_ble_eq_true rfl⟩ rfl rfl hl (Nat.le_of_ble_eq_true rfl) dL_law_278 ⟨(by show cells + 3000 ≤ 1200384; omega), (by show slots + 24000 ≤ 5489322; omega)⟩ (fun w0z H locs hI2 hH => ?_)
  refine lv_aload_n hx hb dL_law_281 rfl (lv_at hl 2 rfl) ?_
  refine lv_aload_n hx hb dL_law_282 rfl (lv_at hl 0 rfl) ?_
  refine lv_iload_n hx hb dL_law_283 rfl (lv_at hl 3 rfl) ?_
  refine lv_iconst (v := 1) hx hb dL_law_284 (by decide) ?_
  refine lv_iadd hx hb dL_law_285 ?_
  refine va_sld hx hb hXX hbl hbA hH.2.2.1 (vps (k := 1) (by omega) hL) dL_law_286 ?_
  refine lv_aload_n hx hb dL_law_287 rfl (lv_at hl 0 rfl) ?_
  refine lv_iload_n hx hb dL_law_288 rfl (lv_at hl 3 rfl) ?_
  refine lv_iconst (v := 2) hx hb dL_law_289 (by decide) ?_
  refine lv_iadd hx hb dL_law_290 ?_
  refine va_sld hx hb hXX hbl hbA hH.2.2.1 (vps (k := 2) (by omega) hL) dL_law_291 ?_
  have hH := hH.perm List.perm_append_comm
  refine mxVF hX hK8 hEv hE hH hM8 (rc8 hI hK8 hH) (lw_V q1768 q1769 q1770 q142 q1771) hdl_X8_text ⟨Nat.le_of_ble_eq_true rfl, Nat.le_of_ble_eq_true rfl⟩ rfl rfl hl (Nat.le_of_ble_eq_true rfl) dL_law_292 ⟨(by show cells + 3000 + 0 ≤ 1200384; omega), (by show slots + 24000 + 0 ≤ 5489322; omega)⟩ (fun w8z H locs hw hH => ?_)
  subst hw
  have hH := hH.perm List.perm_append_comm
  refine lv_icmp_eq (tgt := 1342) hx hb dL_law_295 rfl (fun _ => ?_) (fun c9 => absurd rfl c9)
  exact W.widen (k := cells + 12000) (n := slots + 48000) (by show cells + 3000 + 0 ≤ cells + 12000; omega) (by show slots + 24000 + 0 ≤ slots + 48000; omega) (kk _ _ _ _ hI2 hH)
theorem hdl_X0_fault : yX0_fault.cls = RX0 ∧ yX0_fault.cls ≠ "java/lang/invoke/MethodHandle" ∧ yX0_fault.cls ≠ "java/lang/invoke/VarHandle" ∧ (parseMethodDescriptor yX0_fault.desc).map (fun d => d.parameters.length) = some 1 := by decide +kernel
theorem hdl_X8_fault : yX8_fault.cls = RX8 ∧ yX8_fault.cls ≠ "java/lang/invoke/MethodHandle" ∧ yX8_fault.cls ≠ "java/lang/invoke/VarHandle" ∧ (parseMethodDescriptor yX8_fault.desc).map (fun d => d.parameters.length) = some 1 := by decide +kernel
set_option maxHeartbeats 4000000 in
theorem lawc_fault {p : Program} {l : Launch} {e : Env} {s : State} {m : MethodId} {b L i j : Nat} {xs : Nat → Int32} {below : List Frame} {meth : Method} {c : Code} {H : Heap} {locs : List Loc} {cells slots : Nat} {Q : State → Prop} {ls : Array Slot} {D : va_G} {E : EvT} {ks vs : Nat → Nat} {fo mi ak av fo8 : Nat} {ad ad8 : Nat → Nat} {cA cA8 : Nat → ClassId} {w0 w8 : va_W} (hX : CallFix p m c cL_law 4 s #[.ref b] lw_all R_law) (hXX : va_X b L xs s s.heap) (hbl : b < s.heap.size) (hV : EvAll l E ks vs fo mi ak av fo8) (hK0 : va_K D vwA (cT cA) s) (hK8 : va_K D vwA (mT cA8) s) (hE : E (fun q => s.heap.size ≤ q) s s.heap) (hI : InvW ad cA ad8 cA8 j w0 w8) (hj : j < 64) (hH : MH D vwA (fun q => s.heap.size ≤ q) s.heap (w0 ++ w8) H locs) (hl : lv_has ls 4 [(0, .ref b), (1, .ref (ad 0)), (2, .ref (ad8 0)), (3, .int (nI i))]) (hi : i + 6 ≤ L) (hL : L ≤ 384) (hc : cells + 12000 ≤ 1200384) (hs : slots + 48000 ≤ 5489322)
    (kk : ∀ (w0' w8' : va_W) (H1 : Heap) (locs1 : List Loc), InvW ad cA ad8 cA8 (j + 1) w0' w8' → MH D vwA (fun q => s.heap.size ≤ q) s.heap (w0' ++ w8') H1 locs1 → W p l e room_1 s m #[.ref b] below meth c H1 locs1 (cells + 12000) (slots + 48000) Q (F0 m 1342 ls [])) : W p l e room_1 s m #[.ref b] below meth c H locs cells slots Q (F0 m 300 ls []) := by
  obtain ⟨ans, w8', hM0, hM8⟩ := op_fault (l := l) (D := D) hV hI hj (xs (nI i + 1).toNatClampNeg)
  have hx := hX.1
  have hb := hX.2.1
  have hown := hX.2.2.2.1
  have hts := hX.2.2.2.2
  have hEv := hV.1.1.1
  have hbA : ¬ (fun q : Nat => s.heap.size ≤ q) b := Nat.not_le.mpr hbl
  refine lv_aload_n hx hb dL_law_300 rfl (lv_at hl 1 rfl) ?_
  refine lv_aload_n hx hb dL_law_301 rfl (lv_at hl 0 rfl) ?_
  refine lv_iload_n hx hb dL_law_302 rfl (lv_at hl 3 rfl) ?_
  refine lv_iconst (v := 1) hx hb dL_law_303 (by decide) ?_
  refine lv_iadd hx hb dL_law_304 ?_
  refine va_sld hx hb hXX hbl hbA hH.2.2.1 (vps (k := 1) (by omega) hL) dL_law_305 ?_
  refine mxVF hX hK0 hEv hE hH hM0 (rc0 hI hK0 hH) (lw_V q955 q956 q957 q129 q958) hdl_X0_fault ⟨Nat.le_of_ble_eq_true rfl, Nat.le_of_ble_eq_true rfl⟩ rfl rfl hl (Nat.le_of_ble_eq_true rfl) dL_law_306 ⟨(by show cells + 0 ≤ 1200384; omega), (by show slots + 0 ≤ 5489322; omega)⟩ (fun w0z H locs hI2 hH => ?_)
  refine lv_aload_n hx hb dL_law_309 rfl (lv_at hl 2 rfl) ?_
  refine lv_aload_n hx hb dL_law_310 rfl (lv_at hl 0 rfl) ?_
  refine lv_iload_n hx hb dL_law_311 rfl (lv_at hl 3 rfl) ?_
  refine lv_iconst (v := 1) hx hb dL_law_312 (by decide) ?_
  refine lv_iadd hx hb dL_law_313 ?_
  refine va_sld hx hb hXX hbl hbA hH.2.2.1 (vps (k := 1) (by omega) hL) dL_law_314 ?_
  have hH := hH.perm List.perm_append_comm
  refine mxVF hX hK8 hEv hE hH hM8 (rc8 hI hK8 hH) (lw_V q1862 q1863 q1864 q142 q1865) hdl_X8_fault ⟨Nat.le_of_ble_eq_true rfl, Nat.le_of_ble_eq_true rfl⟩ rfl rfl hl (Nat.le_of_ble_eq_true rfl) dL_law_315 ⟨(by show cells + 0 + 0 ≤ 1200384; omega), (by show slots + 0 + 0 ≤ 5489322; omega)⟩ (fun w8z H locs hw hH => ?_)
  subst hw
  have hH := hH.perm List.perm_append_comm
  refine lv_icmp_eq (tgt := 1342) hx hb dL_law_318 rfl (fun _ => ?_) (fun c9 => absurd rfl c9)
  exact W.widen (k := cells + 12000) (n := slots + 48000) (by show cells + 0 + 0 ≤ cells + 12000; omega) (by show slots + 0 + 0 ≤ slots + 48000; omega) (kk _ _ _ _ hI2 hH)
theorem hdl_X0_stone : yX0_stone.cls = RX0 ∧ yX0_stone.cls ≠ "java/lang/invoke/MethodHandle" ∧ yX0_stone.cls ≠ "java/lang/invoke/VarHandle" ∧ (parseMethodDescriptor yX0_stone.desc).map (fun d => d.parameters.length) = some 2 := by decide +kernel
theorem hdl_X8_stone : yX8_stone.cls = RX8 ∧ yX8_stone.cls ≠ "java/lang/invoke/MethodHandle" ∧ yX8_stone.cls ≠ "java/lang/invoke/VarHandle" ∧ (parseMethodDescriptor yX8_stone.desc).map (fun d => d.parameters.length) = some 2 := by decide +kernel
set_option maxHeartbeats 4000000 in
theorem lawc_stone {p : Program} {l : Launch} {e : Env} {s : State} {m : MethodId} {b L i j : Nat} {xs : Nat → Int32} {below : List Frame} {meth : Method} {c : Code} {H : Heap} {locs : List Loc} {cells slots : Nat} {Q : State → Prop} {ls : Array Slot} {D : va_G} {E : EvT} {ks vs : Nat → Nat} {fo mi ak av fo8 : Nat} {ad ad8 : Nat → Nat} {cA cA8 : Nat → ClassId} {w0 w8 : va_W} (hX : CallFix p m c cL_law 4 s #[.ref b] lw_all R_law) (hXX : va_X b L xs s s.heap) (hbl : b < s.heap.size) (hV : EvAll l E ks vs fo mi ak av fo8) (hK0 : va_K D vwA (cT cA) s) (hK8 : va_K D vwA (mT cA8) s) (hE : E (fun q => s.heap.size ≤ q) s s.heap) (hI : InvW ad cA ad8 cA8 j w0 w8) (hj : j < 64) (hH : MH D vwA (fun q => s.heap.size ≤ q) s.heap (w0 ++ w8) H locs) (hl : lv_has ls 4 [(0, .ref b), (1, .ref (ad 0)), (2, .ref (ad8 0)), (3, .int (nI i))]) (hi : i + 6 ≤ L) (hL : L ≤ 384) (hc : cells + 12000 ≤ 1200384) (hs : slots + 48000 ≤ 5489322)
    (kk : ∀ (w0' w8' : va_W) (H1 : Heap) (locs1 : List Loc), InvW ad cA ad8 cA8 (j + 1) w0' w8' → MH D vwA (fun q => s.heap.size ≤ q) s.heap (w0' ++ w8') H1 locs1 → W p l e room_1 s m #[.ref b] below meth c H1 locs1 (cells + 12000) (slots + 48000) Q (F0 m 1342 ls [])) : W p l e room_1 s m #[.ref b] below meth c H locs cells slots Q (F0 m 323 ls []) := by
  obtain ⟨ans, w8', hM0, hM8⟩ := op_stone (l := l) (D := D) hV hI hj (xs (nI i + 1).toNatClampNeg) (xs (nI i + 2).toNatClampNeg)
  have hx := hX.1
  have hb := hX.2.1
  have hown := hX.2.2.2.1
  have hts := hX.2.2.2.2
  have hEv := hV.1.1.1
  have hbA : ¬ (fun q : Nat => s.heap.size ≤ q) b := Nat.not_le.mpr hbl
  refine lv_aload_n hx hb dL_law_323 rfl (lv_at hl 1 rfl) ?_
  refine lv_aload_n hx hb dL_law_324 rfl (lv_at hl 0 rfl) ?_
  refine lv_iload_n hx hb dL_law_325 rfl (lv_at hl 3 rfl) ?_
  refine lv_iconst (v := 1) hx hb dL_law_326 (by decide) ?_
  refine lv_iadd hx hb dL_law_327 ?_
  refine va_sld hx hb hXX hbl hbA hH.2.2.1 (vps (k := 1) (by omega) hL) dL_law_328 ?_
  refine lv_aload_n hx hb dL_law_329 rfl (lv_at hl 0 rfl) ?_
  refine lv_iload_n hx hb dL_law_330 rfl (lv_at hl 3 rfl) ?_
  refine lv_iconst (v := 2) hx hb dL_law_331 (by decide) ?_
  refine lv_iadd hx hb dL_law_332 ?_
  refine va_sld hx hb hXX hbl hbA hH.2.2.1 (vps (k := 2) (by omega) hL) dL_law_333 ?_
  refine mxVF hX hK0 hEv hE hH hM0 (rc0 hI hK0 hH) (lw_V q959 q960 q961 q129 q962) hdl_X0_stone ⟨Nat.le_of_ble_eq_true rfl, Nat.le_of_ble_eq_true rfl⟩ rfl rfl hl (Nat.le_of_ble_eq_true rfl) dL_law_334 ⟨(by show cells + 0 ≤ 1200384; omega), (by show slots + 0 ≤ 5489322; omega)⟩ (fun w0z H locs hI2 hH => ?_)
  refine lv_aload_n hx hb dL_law_337 rfl (lv_at hl 2 rfl) ?_
  refine lv_aload_n hx hb dL_law_338 rfl (lv_at hl 0 rfl) ?_
  refine lv_iload_n hx hb dL_law_339 rfl (lv_at hl 3 rfl) ?_
  refine lv_iconst (v := 1) hx hb dL_law_340 (by decide) ?_
  refine lv_iadd hx hb dL_law_341 ?_
  refine va_sld hx hb hXX hbl hbA hH.2.2.1 (vps (k := 1) (by omega) hL) dL_law_342 ?_
  refine lv_aload_n hx hb dL_law_343 rfl (lv_at hl 0 rfl) ?_
  refine lv_iload_n hx hb dL_law_344 rfl (lv_at hl 3 rfl) ?_
  refine lv_iconst (v := 2) hx hb dL_law_345 (by decide) ?_
  refine lv_iadd hx hb dL_law_346 ?_
  refine va_sld hx hb hXX hbl hbA hH.2.2.1 (vps (k := 2) (by omega) hL) dL_law_347 ?_
  have hH := hH.perm List.perm_append_comm
  refine mxVF hX hK8 hEv hE hH hM8 (rc8 hI hK8 hH) (lw_V q1866 q1867 q1868 q142 q1869) hdl_X8_stone ⟨Nat.le_of_ble_eq_true rfl, Nat.le_of_ble_eq_true rfl⟩ rfl rfl hl (Nat.le_of_ble_eq_true rfl) dL_law_348 ⟨(by show cells + 0 + 0 ≤ 1200384; omega), (by show slots + 0 + 0 ≤ 5489322; omega)⟩ (fun w8z H locs hw hH => ?_)
  subst hw
  have hH := hH.perm List.perm_append_comm
  refine lv_icmp_eq (tgt := 1342) hx hb dL_law_351 rfl (fun _ => ?_) (fun c9 => absurd rfl c9)
  exact W.widen (k := cells + 12000) (n := slots + 48000) (by show cells + 0 + 0 ≤ cells + 12000; omega) (by show slots + 0 + 0 ≤ slots + 48000; omega) (kk _ _ _ _ hI2 hH)
theorem hdl_X0_lies : yX0_lies.cls = RX0 ∧ yX0_lies.cls ≠ "java/lang/invoke/MethodHandle" ∧ yX0_lies.cls ≠ "java/lang/invoke/VarHandle" ∧ (parseMethodDescriptor yX0_lies.desc).map (fun d => d.parameters.length) = some 1 := by decide +kernel
theorem hdl_X8_lies : yX8_lies.cls = RX8 ∧ yX8_lies.cls ≠ "java/lang/invoke/MethodHandle" ∧ yX8_lies.cls ≠ "java/lang/invoke/VarHandle" ∧ (parseMethodDescriptor yX8_lies.desc).map (fun d => d.parameters.length) = some 1 := by decide +kernel
set_option maxHeartbeats 4000000 in
theorem lawc_lies {p : Program} {l : Launch} {e : Env} {s : State} {m : MethodId} {b L i j : Nat} {xs : Nat → Int32} {below : List Frame} {meth : Method} {c : Code} {H : Heap} {locs : List Loc} {cells slots : Nat} {Q : State → Prop} {ls : Array Slot} {D : va_G} {E : EvT} {ks vs : Nat → Nat} {fo mi ak av fo8 : Nat} {ad ad8 : Nat → Nat} {cA cA8 : Nat → ClassId} {w0 w8 : va_W} (hX : CallFix p m c cL_law 4 s #[.ref b] lw_all R_law) (hXX : va_X b L xs s s.heap) (hbl : b < s.heap.size) (hV : EvAll l E ks vs fo mi ak av fo8) (hK0 : va_K D vwA (cT cA) s) (hK8 : va_K D vwA (mT cA8) s) (hE : E (fun q => s.heap.size ≤ q) s s.heap) (hI : InvW ad cA ad8 cA8 j w0 w8) (hj : j < 64) (hH : MH D vwA (fun q => s.heap.size ≤ q) s.heap (w0 ++ w8) H locs) (hl : lv_has ls 4 [(0, .ref b), (1, .ref (ad 0)), (2, .ref (ad8 0)), (3, .int (nI i))]) (hi : i + 6 ≤ L) (hL : L ≤ 384) (hc : cells + 12000 ≤ 1200384) (hs : slots + 48000 ≤ 5489322)
    (kk : ∀ (w0' w8' : va_W) (H1 : Heap) (locs1 : List Loc), InvW ad cA ad8 cA8 (j + 1) w0' w8' → MH D vwA (fun q => s.heap.size ≤ q) s.heap (w0' ++ w8') H1 locs1 → W p l e room_1 s m #[.ref b] below meth c H1 locs1 (cells + 12000) (slots + 48000) Q (F0 m 1342 ls [])) : W p l e room_1 s m #[.ref b] below meth c H locs cells slots Q (F0 m 356 ls []) := by
  obtain ⟨ans, w8', hM0, hM8⟩ := op_lies (l := l) (D := D) hV hI hj (xs (nI i + 1).toNatClampNeg)
  have hx := hX.1
  have hb := hX.2.1
  have hown := hX.2.2.2.1
  have hts := hX.2.2.2.2
  have hEv := hV.1.1.1
  have hbA : ¬ (fun q : Nat => s.heap.size ≤ q) b := Nat.not_le.mpr hbl
  refine lv_aload_n hx hb dL_law_356 rfl (lv_at hl 1 rfl) ?_
  refine lv_aload_n hx hb dL_law_357 rfl (lv_at hl 0 rfl) ?_
  refine lv_iload_n hx hb dL_law_358 rfl (lv_at hl 3 rfl) ?_
  refine lv_iconst (v := 1) hx hb dL_law_359 (by decide) ?_
  refine lv_iadd hx hb dL_law_360 ?_
  refine va_sld hx hb hXX hbl hbA hH.2.2.1 (vps (k := 1) (by omega) hL) dL_law_361 ?_
  refine mxVF hX hK0 hEv hE hH hM0 (rc0 hI hK0 hH) (lw_V q978 q979 q980 q129 q981) hdl_X0_lies ⟨Nat.le_of_ble_eq_true rfl, Nat.le_of_ble_eq_true rfl⟩ rfl rfl hl (Nat.le_of_ble_eq_true rfl) dL_law_362 ⟨(by show cells + 0 ≤ 1200384; omega), (by show slots + 0 ≤ 5489322; omega)⟩ (fun w0z H locs hI2 hH => ?_)
  refine lv_aload_n hx hb dL_law_365 rfl (lv_at hl 2 rfl) ?_
  refine lv_aload_n hx hb dL_law_366 rfl (lv_at hl 0 rfl) ?_
  refine lv_iload_n hx hb dL_law_367 rfl (lv_at hl 3 rfl) ?_
  refine lv_iconst (v := 1) hx hb dL_law_368 (by decide) ?_
  refine lv_iadd hx hb dL_law_369 ?_
  refine va_sld hx hb hXX hbl hbA hH.2.2.1 (vps (k := 1) (by omega) hL) dL_law_370 ?_
  have hH := hH.perm List.perm_append_comm
  refine mxVF hX hK8 hEv hE hH hM8 (rc8 hI hK8 hH) (lw_V q1879 q1880 q1881 q142 q1882) hdl_X8_lies ⟨Nat.le_of_ble_eq_true rfl, Nat.le_of_ble_eq_true rfl⟩ rfl rfl hl (Nat.le_of_ble_eq_true rfl) dL_law_371 ⟨(by show cells + 0 + 0 ≤ 1200384; omega), (by show slots + 0 + 0 ≤ 5489322; omega)⟩ (fun w8z H locs hw hH => ?_)
  subst hw
  have hH := hH.perm List.perm_append_comm
  refine lv_icmp_eq (tgt := 1342) hx hb dL_law_374 rfl (fun _ => ?_) (fun c9 => absurd rfl c9)
  exact W.widen (k := cells + 12000) (n := slots + 48000) (by show cells + 0 + 0 ≤ cells + 12000; omega) (by show slots + 0 + 0 ≤ slots + 48000; omega) (kk _ _ _ _ hI2 hH)
theorem hdl_X0_row : yX0_row.cls = RX0 ∧ yX0_row.cls ≠ "java/lang/invoke/MethodHandle" ∧ yX0_row.cls ≠ "java/lang/invoke/VarHandle" ∧ (parseMethodDescriptor yX0_row.desc).map (fun d => d.parameters.length) = some 2 := by decide +kernel
theorem hdl_X8_row : yX8_row.cls = RX8 ∧ yX8_row.cls ≠ "java/lang/invoke/MethodHandle" ∧ yX8_row.cls ≠ "java/lang/invoke/VarHandle" ∧ (parseMethodDescriptor yX8_row.desc).map (fun d => d.parameters.length) = some 2 := by decide +kernel
set_option maxHeartbeats 4000000 in
theorem lawc_row {p : Program} {l : Launch} {e : Env} {s : State} {m : MethodId} {b L i j : Nat} {xs : Nat → Int32} {below : List Frame} {meth : Method} {c : Code} {H : Heap} {locs : List Loc} {cells slots : Nat} {Q : State → Prop} {ls : Array Slot} {D : va_G} {E : EvT} {ks vs : Nat → Nat} {fo mi ak av fo8 : Nat} {ad ad8 : Nat → Nat} {cA cA8 : Nat → ClassId} {w0 w8 : va_W} (hX : CallFix p m c cL_law 4 s #[.ref b] lw_all R_law) (hXX : va_X b L xs s s.heap) (hbl : b < s.heap.size) (hV : EvAll l E ks vs fo mi ak av fo8) (hK0 : va_K D vwA (cT cA) s) (hK8 : va_K D vwA (mT cA8) s) (hE : E (fun q => s.heap.size ≤ q) s s.heap) (hI : InvW ad cA ad8 cA8 j w0 w8) (hj : j < 64) (hH : MH D vwA (fun q => s.heap.size ≤ q) s.heap (w0 ++ w8) H locs) (hl : lv_has ls 4 [(0, .ref b), (1, .ref (ad 0)), (2, .ref (ad8 0)), (3, .int (nI i))]) (hi : i + 6 ≤ L) (hL : L ≤ 384) (hc : cells + 12000 ≤ 1200384) (hs : slots + 48000 ≤ 5489322)
    (kk : ∀ (w0' w8' : va_W) (H1 : Heap) (locs1 : List Loc), InvW ad cA ad8 cA8 (j + 1) w0' w8' → MH D vwA (fun q => s.heap.size ≤ q) s.heap (w0' ++ w8') H1 locs1 → W p l e room_1 s m #[.ref b] below meth c H1 locs1 (cells + 12000) (slots + 48000) Q (F0 m 1342 ls [])) : W p l e room_1 s m #[.ref b] below meth c H locs cells slots Q (F0 m 379 ls []) := by
  obtain ⟨ans, w8', hM0, hM8⟩ := op_row (l := l) (D := D) hV hI hj (xs (nI i + 1).toNatClampNeg) (xs (nI i + 2).toNatClampNeg)
  have hx := hX.1
  have hb := hX.2.1
  have hown := hX.2.2.2.1
  have hts := hX.2.2.2.2
  have hEv := hV.1.1.1
  have hbA : ¬ (fun q : Nat => s.heap.size ≤ q) b := Nat.not_le.mpr hbl
  refine lv_aload_n hx hb dL_law_379 rfl (lv_at hl 1 rfl) ?_
  refine lv_aload_n hx hb dL_law_380 rfl (lv_at hl 0 rfl) ?_
  refine lv_iload_n hx hb dL_law_381 rfl (lv_at hl 3 rfl) ?_
  refine lv_iconst (v := 1) hx hb dL_law_382 (by decide) ?_
  refine lv_iadd hx hb dL_law_383 ?_
  refine va_sld hx hb hXX hbl hbA hH.2.2.1 (vps (k := 1) (by omega) hL) dL_law_384 ?_
  refine lv_aload_n hx hb dL_law_385 rfl (lv_at hl 0 rfl) ?_
  refine lv_iload_n hx hb dL_law_386 rfl (lv_at hl 3 rfl) ?_
  refine lv_iconst (v := 2) hx hb dL_law_387 (by decide) ?_
  refine lv_iadd hx hb dL_law_388 ?_
  refine va_sld hx hb hXX hbl hbA hH.2.2.1 (vps (k := 2) (by omega) hL) dL_law_389 ?_
  refine mxVF hX hK0 hEv hE hH hM0 (rc0 hI hK0 hH) (lw_V q993 q994 q995 q129 q996) hdl_X0_row ⟨Nat.le_of_ble_eq_true rfl, Nat.le_of_ble_eq_true rfl⟩ rfl rfl hl (Nat.le_of_ble_eq_true rfl) dL_law_390 ⟨(by show cells + 0 ≤ 1200384; omega), (by show slots + 0 ≤ 5489322; omega)⟩ (fun w0z H locs hI2 hH => ?_)
  refine lv_aload_n hx hb dL_law_393 rfl (lv_at hl 2 rfl) ?_
  refine lv_aload_n hx hb dL_law_394 rfl (lv_at hl 0 rfl) ?_
  refine lv_iload_n hx hb dL_law_395 rfl (lv_at hl 3 rfl) ?_
  refine lv_iconst (v := 1) hx hb dL_law_396 (by decide) ?_
  refine lv_iadd hx hb dL_law_397 ?_
  refine va_sld hx hb hXX hbl hbA hH.2.2.1 (vps (k := 1) (by omega) hL) dL_law_398 ?_
  refine lv_aload_n hx hb dL_law_399 rfl (lv_at hl 0 rfl) ?_
  refine lv_iload_n hx hb dL_law_400 rfl (lv_at hl 3 rfl) ?_
  refine lv_iconst (v := 2) hx hb dL_law_401 (by decide) ?_
  refine lv_iadd hx hb dL_law_402 ?_
  refine va_sld hx hb hXX hbl hbA hH.2.2.1 (vps (k := 2) (by omega) hL) dL_law_403 ?_
  have hH := hH.perm List.perm_append_comm
  refine mxVF hX hK8 hEv hE hH hM8 (rc8 hI hK8 hH) (lw_V q1884 q1885 q1886 q142 q1887) hdl_X8_row ⟨Nat.le_of_ble_eq_true rfl, Nat.le_of_ble_eq_true rfl⟩ rfl rfl hl (Nat.le_of_ble_eq_true rfl) dL_law_404 ⟨(by show cells + 0 + 0 ≤ 1200384; omega), (by show slots + 0 + 0 ≤ 5489322; omega)⟩ (fun w8z H locs hw hH => ?_)
  subst hw
  have hH := hH.perm List.perm_append_comm
  refine lv_icmp_eq (tgt := 1342) hx hb dL_law_407 rfl (fun _ => ?_) (fun c9 => absurd rfl c9)
  exact W.widen (k := cells + 12000) (n := slots + 48000) (by show cells + 0 + 0 ≤ cells + 12000; omega) (by show slots + 0 + 0 ≤ slots + 48000; omega) (kk _ _ _ _ hI2 hH)
theorem hdl_X0_rests : yX0_rests.cls = RX0 ∧ yX0_rests.cls ≠ "java/lang/invoke/MethodHandle" ∧ yX0_rests.cls ≠ "java/lang/invoke/VarHandle" ∧ (parseMethodDescriptor yX0_rests.desc).map (fun d => d.parameters.length) = some 1 := by decide +kernel
theorem hdl_X8_rests : yX8_rests.cls = RX8 ∧ yX8_rests.cls ≠ "java/lang/invoke/MethodHandle" ∧ yX8_rests.cls ≠ "java/lang/invoke/VarHandle" ∧ (parseMethodDescriptor yX8_rests.desc).map (fun d => d.parameters.length) = some 1 := by decide +kernel
set_option maxHeartbeats 4000000 in
theorem lawc_rests {p : Program} {l : Launch} {e : Env} {s : State} {m : MethodId} {b L i j : Nat} {xs : Nat → Int32} {below : List Frame} {meth : Method} {c : Code} {H : Heap} {locs : List Loc} {cells slots : Nat} {Q : State → Prop} {ls : Array Slot} {D : va_G} {E : EvT} {ks vs : Nat → Nat} {fo mi ak av fo8 : Nat} {ad ad8 : Nat → Nat} {cA cA8 : Nat → ClassId} {w0 w8 : va_W} (hX : CallFix p m c cL_law 4 s #[.ref b] lw_all R_law) (hXX : va_X b L xs s s.heap) (hbl : b < s.heap.size) (hV : EvAll l E ks vs fo mi ak av fo8) (hK0 : va_K D vwA (cT cA) s) (hK8 : va_K D vwA (mT cA8) s) (hE : E (fun q => s.heap.size ≤ q) s s.heap) (hI : InvW ad cA ad8 cA8 j w0 w8) (hj : j < 64) (hH : MH D vwA (fun q => s.heap.size ≤ q) s.heap (w0 ++ w8) H locs) (hl : lv_has ls 4 [(0, .ref b), (1, .ref (ad 0)), (2, .ref (ad8 0)), (3, .int (nI i))]) (hi : i + 6 ≤ L) (hL : L ≤ 384) (hc : cells + 12000 ≤ 1200384) (hs : slots + 48000 ≤ 5489322)
    (kk : ∀ (w0' w8' : va_W) (H1 : Heap) (locs1 : List Loc), InvW ad cA ad8 cA8 (j + 1) w0' w8' → MH D vwA (fun q => s.heap.size ≤ q) s.heap (w0' ++ w8') H1 locs1 → W p l e room_1 s m #[.ref b] below meth c H1 locs1 (cells + 12000) (slots + 48000) Q (F0 m 1342 ls [])) : W p l e room_1 s m #[.ref b] below meth c H locs cells slots Q (F0 m 412 ls []) := by
  obtain ⟨ans, w8', hM0, hM8⟩ := op_rests (l := l) (D := D) hV hI hj (xs (nI i + 1).toNatClampNeg)
  have hx := hX.1
  have hb := hX.2.1
  have hown := hX.2.2.2.1
  have hts := hX.2.2.2.2
  have hEv := hV.1.1.1
  have hbA : ¬ (fun q : Nat => s.heap.size ≤ q) b := Nat.not_le.mpr hbl
  refine lv_aload_n hx hb dL_law_412 rfl (lv_at hl 1 rfl) ?_
  refine lv_aload_n hx hb dL_law_413 rfl (lv_at hl 0 rfl) ?_
  refine lv_iload_n hx hb dL_law_414 rfl (lv_at hl 3 rfl) ?_
  refine lv_iconst (v := 1) hx hb dL_law_415 (by decide) ?_
  refine lv_iadd hx hb dL_law_416 ?_
  refine va_sld hx hb hXX hbl hbA hH.2.2.1 (vps (k := 1) (by omega) hL) dL_law_417 ?_
  refine mxVF hX hK0 hEv hE hH hM0 (rc0 hI hK0 hH) (lw_V q998 q999 q1000 q129 q1001) hdl_X0_rests ⟨Nat.le_of_ble_eq_true rfl, Nat.le_of_ble_eq_true rfl⟩ rfl rfl hl (Nat.le_of_ble_eq_true rfl) dL_law_418 ⟨(by show cells + 0 ≤ 1200384; omega), (by show slots + 0 ≤ 5489322; omega)⟩ (fun w0z H locs hI2 hH => ?_)
  refine lv_aload_n hx hb dL_law_421 rfl (lv_at hl 2 rfl) ?_
  refine lv_aload_n hx hb dL_law_422 rfl (lv_at hl 0 rfl) ?_
  refine lv_iload_n hx hb dL_law_423 rfl (lv_at hl 3 rfl) ?_
  refine lv_iconst (v := 1) hx hb dL_law_424 (by decide) ?_
  refine lv_iadd hx hb dL_law_425 ?_
  refine va_sld hx hb hXX hbl hbA hH.2.2.1 (vps (k := 1) (by omega) hL) dL_law_426 ?_
  have hH := hH.perm List.perm_append_comm
  refine mxVF hX hK8 hEv hE hH hM8 (rc8 hI hK8 hH) (lw_V q1900 q1901 q1902 q142 q1903) hdl_X8_rests ⟨Nat.le_of_ble_eq_true rfl, Nat.le_of_ble_eq_true rfl⟩ rfl rfl hl (Nat.le_of_ble_eq_true rfl) dL_law_427 ⟨(by show cells + 0 + 0 ≤ 1200384; omega), (by show slots + 0 + 0 ≤ 5489322; omega)⟩ (fun w8z H locs hw hH => ?_)
  subst hw
  have hH := hH.perm List.perm_append_comm
  refine lv_icmp_eq (tgt := 1342) hx hb dL_law_430 rfl (fun _ => ?_) (fun c9 => absurd rfl c9)
  exact W.widen (k := cells + 12000) (n := slots + 48000) (by show cells + 0 + 0 ≤ cells + 12000; omega) (by show slots + 0 + 0 ≤ slots + 48000; omega) (kk _ _ _ _ hI2 hH)
theorem hdl_X0_may : yX0_may.cls = RX0 ∧ yX0_may.cls ≠ "java/lang/invoke/MethodHandle" ∧ yX0_may.cls ≠ "java/lang/invoke/VarHandle" ∧ (parseMethodDescriptor yX0_may.desc).map (fun d => d.parameters.length) = some 2 := by decide +kernel
theorem hdl_X8_may : yX8_may.cls = RX8 ∧ yX8_may.cls ≠ "java/lang/invoke/MethodHandle" ∧ yX8_may.cls ≠ "java/lang/invoke/VarHandle" ∧ (parseMethodDescriptor yX8_may.desc).map (fun d => d.parameters.length) = some 2 := by decide +kernel
set_option maxHeartbeats 4000000 in
theorem lawc_may {p : Program} {l : Launch} {e : Env} {s : State} {m : MethodId} {b L i j : Nat} {xs : Nat → Int32} {below : List Frame} {meth : Method} {c : Code} {H : Heap} {locs : List Loc} {cells slots : Nat} {Q : State → Prop} {ls : Array Slot} {D : va_G} {E : EvT} {ks vs : Nat → Nat} {fo mi ak av fo8 : Nat} {ad ad8 : Nat → Nat} {cA cA8 : Nat → ClassId} {w0 w8 : va_W} (hX : CallFix p m c cL_law 4 s #[.ref b] lw_all R_law) (hXX : va_X b L xs s s.heap) (hbl : b < s.heap.size) (hV : EvAll l E ks vs fo mi ak av fo8) (hK0 : va_K D vwA (cT cA) s) (hK8 : va_K D vwA (mT cA8) s) (hE : E (fun q => s.heap.size ≤ q) s s.heap) (hI : InvW ad cA ad8 cA8 j w0 w8) (hj : j < 64) (hH : MH D vwA (fun q => s.heap.size ≤ q) s.heap (w0 ++ w8) H locs) (hl : lv_has ls 4 [(0, .ref b), (1, .ref (ad 0)), (2, .ref (ad8 0)), (3, .int (nI i))]) (hi : i + 6 ≤ L) (hL : L ≤ 384) (hc : cells + 12000 ≤ 1200384) (hs : slots + 48000 ≤ 5489322)
    (kk : ∀ (w0' w8' : va_W) (H1 : Heap) (locs1 : List Loc), InvW ad cA ad8 cA8 (j + 1) w0' w8' → MH D vwA (fun q => s.heap.size ≤ q) s.heap (w0' ++ w8') H1 locs1 → W p l e room_1 s m #[.ref b] below meth c H1 locs1 (cells + 12000) (slots + 48000) Q (F0 m 1342 ls [])) : W p l e room_1 s m #[.ref b] below meth c H locs cells slots Q (F0 m 435 ls []) := by
  obtain ⟨ans, w8', hM0, hM8⟩ := op_may (l := l) (D := D) hV hI hj (xs (nI i + 1).toNatClampNeg) (xs (nI i + 2).toNatClampNeg)
  have hx := hX.1
  have hb := hX.2.1
  have hown := hX.2.2.2.1
  have hts := hX.2.2.2.2
  have hEv := hV.1.1.1
  have hbA : ¬ (fun q : Nat => s.heap.size ≤ q) b := Nat.not_le.mpr hbl
  refine lv_aload_n hx hb dL_law_435 rfl (lv_at hl 1 rfl) ?_
  refine lv_aload_n hx hb dL_law_436 rfl (lv_at hl 0 rfl) ?_
  refine lv_iload_n hx hb dL_law_437 rfl (lv_at hl 3 rfl) ?_
  refine lv_iconst (v := 1) hx hb dL_law_438 (by decide) ?_
  refine lv_iadd hx hb dL_law_439 ?_
  refine va_sld hx hb hXX hbl hbA hH.2.2.1 (vps (k := 1) (by omega) hL) dL_law_440 ?_
  refine lv_aload_n hx hb dL_law_441 rfl (lv_at hl 0 rfl) ?_
  refine lv_iload_n hx hb dL_law_442 rfl (lv_at hl 3 rfl) ?_
  refine lv_iconst (v := 2) hx hb dL_law_443 (by decide) ?_
  refine lv_iadd hx hb dL_law_444 ?_
  refine va_sld hx hb hXX hbl hbA hH.2.2.1 (vps (k := 2) (by omega) hL) dL_law_445 ?_
  refine mxVF hX hK0 hEv hE hH hM0 (rc0 hI hK0 hH) (lw_V q1021 q1022 q1023 q129 q1024) hdl_X0_may ⟨Nat.le_of_ble_eq_true rfl, Nat.le_of_ble_eq_true rfl⟩ rfl rfl hl (Nat.le_of_ble_eq_true rfl) dL_law_446 ⟨(by show cells + 0 ≤ 1200384; omega), (by show slots + 0 ≤ 5489322; omega)⟩ (fun w0z H locs hI2 hH => ?_)
  refine lv_aload_n hx hb dL_law_449 rfl (lv_at hl 2 rfl) ?_
  refine lv_aload_n hx hb dL_law_450 rfl (lv_at hl 0 rfl) ?_
  refine lv_iload_n hx hb dL_law_451 rfl (lv_at hl 3 rfl) ?_
  refine lv_iconst (v := 1) hx hb dL_law_452 (by decide) ?_
  refine lv_iadd hx hb dL_law_453 ?_
  refine va_sld hx hb hXX hbl hbA hH.2.2.1 (vps (k := 1) (by omega) hL) dL_law_454 ?_
  refine lv_aload_n hx hb dL_law_455 rfl (lv_at hl 0 rfl) ?_
  refine lv_iload_n hx hb dL_law_456 rfl (lv_at hl 3 rfl) ?_
  refine lv_iconst (v := 2) hx hb dL_law_457 (by decide) ?_
  refine lv_iadd hx hb dL_law_458 ?_
  refine va_sld hx hb hXX hbl hbA hH.2.2.1 (vps (k := 2) (by omega) hL) dL_law_459 ?_
  have hH := hH.perm List.perm_append_comm
  refine mxVF hX hK8 hEv hE hH hM8 (rc8 hI hK8 hH) (lw_V q1912 q1913 q1914 q142 q1915) hdl_X8_may ⟨Nat.le_of_ble_eq_true rfl, Nat.le_of_ble_eq_true rfl⟩ rfl rfl hl (Nat.le_of_ble_eq_true rfl) dL_law_460 ⟨(by show cells + 0 + 0 ≤ 1200384; omega), (by show slots + 0 + 0 ≤ 5489322; omega)⟩ (fun w8z H locs hw hH => ?_)
  subst hw
  have hH := hH.perm List.perm_append_comm
  refine lv_icmp_eq (tgt := 1342) hx hb dL_law_463 rfl (fun _ => ?_) (fun c9 => absurd rfl c9)
  exact W.widen (k := cells + 12000) (n := slots + 48000) (by show cells + 0 + 0 ≤ cells + 12000; omega) (by show slots + 0 + 0 ≤ slots + 48000; omega) (kk _ _ _ _ hI2 hH)
theorem hdl_X0_mayExchange : yX0_mayExchange.cls = RX0 ∧ yX0_mayExchange.cls ≠ "java/lang/invoke/MethodHandle" ∧ yX0_mayExchange.cls ≠ "java/lang/invoke/VarHandle" ∧ (parseMethodDescriptor yX0_mayExchange.desc).map (fun d => d.parameters.length) = some 2 := by decide +kernel
theorem hdl_X8_mayExchange : yX8_mayExchange.cls = RX8 ∧ yX8_mayExchange.cls ≠ "java/lang/invoke/MethodHandle" ∧ yX8_mayExchange.cls ≠ "java/lang/invoke/VarHandle" ∧ (parseMethodDescriptor yX8_mayExchange.desc).map (fun d => d.parameters.length) = some 2 := by decide +kernel
set_option maxHeartbeats 4000000 in
theorem lawc_mayExchange {p : Program} {l : Launch} {e : Env} {s : State} {m : MethodId} {b L i j : Nat} {xs : Nat → Int32} {below : List Frame} {meth : Method} {c : Code} {H : Heap} {locs : List Loc} {cells slots : Nat} {Q : State → Prop} {ls : Array Slot} {D : va_G} {E : EvT} {ks vs : Nat → Nat} {fo mi ak av fo8 : Nat} {ad ad8 : Nat → Nat} {cA cA8 : Nat → ClassId} {w0 w8 : va_W} (hX : CallFix p m c cL_law 4 s #[.ref b] lw_all R_law) (hXX : va_X b L xs s s.heap) (hbl : b < s.heap.size) (hV : EvAll l E ks vs fo mi ak av fo8) (hK0 : va_K D vwA (cT cA) s) (hK8 : va_K D vwA (mT cA8) s) (hE : E (fun q => s.heap.size ≤ q) s s.heap) (hI : InvW ad cA ad8 cA8 j w0 w8) (hj : j < 64) (hH : MH D vwA (fun q => s.heap.size ≤ q) s.heap (w0 ++ w8) H locs) (hl : lv_has ls 4 [(0, .ref b), (1, .ref (ad 0)), (2, .ref (ad8 0)), (3, .int (nI i))]) (hi : i + 6 ≤ L) (hL : L ≤ 384) (hc : cells + 12000 ≤ 1200384) (hs : slots + 48000 ≤ 5489322)
    (kk : ∀ (w0' w8' : va_W) (H1 : Heap) (locs1 : List Loc), InvW ad cA ad8 cA8 (j + 1) w0' w8' → MH D vwA (fun q => s.heap.size ≤ q) s.heap (w0' ++ w8') H1 locs1 → W p l e room_1 s m #[.ref b] below meth c H1 locs1 (cells + 12000) (slots + 48000) Q (F0 m 1342 ls [])) : W p l e room_1 s m #[.ref b] below meth c H locs cells slots Q (F0 m 468 ls []) := by
  obtain ⟨ans, w8', hM0, hM8⟩ := op_mayExchange (l := l) (D := D) hV hI hj (xs (nI i + 1).toNatClampNeg) (xs (nI i + 2).toNatClampNeg)
  have hx := hX.1
  have hb := hX.2.1
  have hown := hX.2.2.2.1
  have hts := hX.2.2.2.2
  have hEv := hV.1.1.1
  have hbA : ¬ (fun q : Nat => s.heap.size ≤ q) b := Nat.not_le.mpr hbl
  refine lv_aload_n hx hb dL_law_468 rfl (lv_at hl 1 rfl) ?_
  refine lv_aload_n hx hb dL_law_469 rfl (lv_at hl 0 rfl) ?_
  refine lv_iload_n hx hb dL_law_470 rfl (lv_at hl 3 rfl) ?_
  refine lv_iconst (v := 1) hx hb dL_law_471 (by decide) ?_
  refine lv_iadd hx hb dL_law_472 ?_
  refine va_sld hx hb hXX hbl hbA hH.2.2.1 (vps (k := 1) (by omega) hL) dL_law_473 ?_
  refine lv_aload_n hx hb dL_law_474 rfl (lv_at hl 0 rfl) ?_
  refine lv_iload_n hx hb dL_law_475 rfl (lv_at hl 3 rfl) ?_
  refine lv_iconst (v := 2) hx hb dL_law_476 (by decide) ?_
  refine lv_iadd hx hb dL_law_477 ?_
  refine va_sld hx hb hXX hbl hbA hH.2.2.1 (vps (k := 2) (by omega) hL) dL_law_478 ?_
  refine mxVF hX hK0 hEv hE hH hM0 (rc0 hI hK0 hH) (lw_V q1088 q1089 q1090 q129 q1091) hdl_X0_mayExchange ⟨Nat.le_of_ble_eq_true rfl, Nat.le_of_ble_eq_true rfl⟩ rfl rfl hl (Nat.le_of_ble_eq_true rfl) dL_law_479 ⟨(by show cells + 0 ≤ 1200384; omega), (by show slots + 0 ≤ 5489322; omega)⟩ (fun w0z H locs hI2 hH => ?_)
  refine lv_aload_n hx hb dL_law_482 rfl (lv_at hl 2 rfl) ?_
  refine lv_aload_n hx hb dL_law_483 rfl (lv_at hl 0 rfl) ?_
  refine lv_iload_n hx hb dL_law_484 rfl (lv_at hl 3 rfl) ?_
  refine lv_iconst (v := 1) hx hb dL_law_485 (by decide) ?_
  refine lv_iadd hx hb dL_law_486 ?_
  refine va_sld hx hb hXX hbl hbA hH.2.2.1 (vps (k := 1) (by omega) hL) dL_law_487 ?_
  refine lv_aload_n hx hb dL_law_488 rfl (lv_at hl 0 rfl) ?_
  refine lv_iload_n hx hb dL_law_489 rfl (lv_at hl 3 rfl) ?_
  refine lv_iconst (v := 2) hx hb dL_law_490 (by decide) ?_
  refine lv_iadd hx hb dL_law_491 ?_
  refine va_sld hx hb hXX hbl hbA hH.2.2.1 (vps (k := 2) (by omega) hL) dL_law_492 ?_
  have hH := hH.perm List.perm_append_comm
  refine mxVF hX hK8 hEv hE hH hM8 (rc8 hI hK8 hH) (lw_V q1947 q1948 q1949 q142 q1950) hdl_X8_mayExchange ⟨Nat.le_of_ble_eq_true rfl, Nat.le_of_ble_eq_true rfl⟩ rfl rfl hl (Nat.le_of_ble_eq_true rfl) dL_law_493 ⟨(by show cells + 0 + 0 ≤ 1200384; omega), (by show slots + 0 + 0 ≤ 5489322; omega)⟩ (fun w8z H locs hw hH => ?_)
  subst hw
  have hH := hH.perm List.perm_append_comm
  refine lv_icmp_eq (tgt := 1342) hx hb dL_law_496 rfl (fun _ => ?_) (fun c9 => absurd rfl c9)
  exact W.widen (k := cells + 12000) (n := slots + 48000) (by show cells + 0 + 0 ≤ cells + 12000; omega) (by show slots + 0 + 0 ≤ slots + 48000; omega) (kk _ _ _ _ hI2 hH)
theorem hdl_X0_carry : yX0_carry.cls = RX0 ∧ yX0_carry.cls ≠ "java/lang/invoke/MethodHandle" ∧ yX0_carry.cls ≠ "java/lang/invoke/VarHandle" ∧ (parseMethodDescriptor yX0_carry.desc).map (fun d => d.parameters.length) = some 2 := by decide +kernel
theorem hdl_X8_carry : yX8_carry.cls = RX8 ∧ yX8_carry.cls ≠ "java/lang/invoke/MethodHandle" ∧ yX8_carry.cls ≠ "java/lang/invoke/VarHandle" ∧ (parseMethodDescriptor yX8_carry.desc).map (fun d => d.parameters.length) = some 2 := by decide +kernel
set_option maxHeartbeats 4000000 in
theorem lawc_carry {p : Program} {l : Launch} {e : Env} {s : State} {m : MethodId} {b L i j : Nat} {xs : Nat → Int32} {below : List Frame} {meth : Method} {c : Code} {H : Heap} {locs : List Loc} {cells slots : Nat} {Q : State → Prop} {ls : Array Slot} {D : va_G} {E : EvT} {ks vs : Nat → Nat} {fo mi ak av fo8 : Nat} {ad ad8 : Nat → Nat} {cA cA8 : Nat → ClassId} {w0 w8 : va_W} (hX : CallFix p m c cL_law 4 s #[.ref b] lw_all R_law) (hXX : va_X b L xs s s.heap) (hbl : b < s.heap.size) (hV : EvAll l E ks vs fo mi ak av fo8) (hK0 : va_K D vwA (cT cA) s) (hK8 : va_K D vwA (mT cA8) s) (hE : E (fun q => s.heap.size ≤ q) s s.heap) (hI : InvW ad cA ad8 cA8 j w0 w8) (hj : j < 64) (hH : MH D vwA (fun q => s.heap.size ≤ q) s.heap (w0 ++ w8) H locs) (hl : lv_has ls 4 [(0, .ref b), (1, .ref (ad 0)), (2, .ref (ad8 0)), (3, .int (nI i))]) (hi : i + 6 ≤ L) (hL : L ≤ 384) (hc : cells + 12000 ≤ 1200384) (hs : slots + 48000 ≤ 5489322)
    (kk : ∀ (w0' w8' : va_W) (H1 : Heap) (locs1 : List Loc), InvW ad cA ad8 cA8 (j + 1) w0' w8' → MH D vwA (fun q => s.heap.size ≤ q) s.heap (w0' ++ w8') H1 locs1 → W p l e room_1 s m #[.ref b] below meth c H1 locs1 (cells + 12000) (slots + 48000) Q (F0 m 1342 ls [])) : W p l e room_1 s m #[.ref b] below meth c H locs cells slots Q (F0 m 501 ls []) := by
  obtain ⟨ans, w8', hM0, hM8⟩ := op_carry (l := l) (D := D) hV hI hj (xs (nI i + 1).toNatClampNeg) (xs (nI i + 2).toNatClampNeg)
  have hx := hX.1
  have hb := hX.2.1
  have hown := hX.2.2.2.1
  have hts := hX.2.2.2.2
  have hEv := hV.1.1.1
  have hbA : ¬ (fun q : Nat => s.heap.size ≤ q) b := Nat.not_le.mpr hbl
  refine lv_aload_n hx hb dL_law_501 rfl (lv_at hl 1 rfl) ?_
  refine lv_aload_n hx hb dL_law_502 rfl (lv_at hl 0 rfl) ?_
  refine lv_iload_n hx hb dL_law_503 rfl (lv_at hl 3 rfl) ?_
  refine lv_iconst (v := 1) hx hb dL_law_504 (by decide) ?_
  refine lv_iadd hx hb dL_law_505 ?_
  refine va_sld hx hb hXX hbl hbA hH.2.2.1 (vps (k := 1) (by omega) hL) dL_law_506 ?_
  refine lv_aload_n hx hb dL_law_507 rfl (lv_at hl 0 rfl) ?_
  refine lv_iload_n hx hb dL_law_508 rfl (lv_at hl 3 rfl) ?_
  refine lv_iconst (v := 2) hx hb dL_law_509 (by decide) ?_
  refine lv_iadd hx hb dL_law_510 ?_
  refine va_sld hx hb hXX hbl hbA hH.2.2.1 (vps (k := 2) (by omega) hL) dL_law_511 ?_
  refine mxVF hX hK0 hEv hE hH hM0 (rc0 hI hK0 hH) (lw_V q1096 q1097 q1098 q129 q1099) hdl_X0_carry ⟨Nat.le_of_ble_eq_true rfl, Nat.le_of_ble_eq_true rfl⟩ rfl rfl hl (Nat.le_of_ble_eq_true rfl) dL_law_512 ⟨(by show cells + 0 ≤ 1200384; omega), (by show slots + 0 ≤ 5489322; omega)⟩ (fun w0z H locs hI2 hH => ?_)
  refine lv_aload_n hx hb dL_law_515 rfl (lv_at hl 2 rfl) ?_
  refine lv_aload_n hx hb dL_law_516 rfl (lv_at hl 0 rfl) ?_
  refine lv_iload_n hx hb dL_law_517 rfl (lv_at hl 3 rfl) ?_
  refine lv_iconst (v := 1) hx hb dL_law_518 (by decide) ?_
  refine lv_iadd hx hb dL_law_519 ?_
  refine va_sld hx hb hXX hbl hbA hH.2.2.1 (vps (k := 1) (by omega) hL) dL_law_520 ?_
  refine lv_aload_n hx hb dL_law_521 rfl (lv_at hl 0 rfl) ?_
  refine lv_iload_n hx hb dL_law_522 rfl (lv_at hl 3 rfl) ?_
  refine lv_iconst (v := 2) hx hb dL_law_523 (by decide) ?_
  refine lv_iadd hx hb dL_law_524 ?_
  refine va_sld hx hb hXX hbl hbA hH.2.2.1 (vps (k := 2) (by omega) hL) dL_law_525 ?_
  have hH := hH.perm List.perm_append_comm
  refine mxVF hX hK8 hEv hE hH hM8 (rc8 hI hK8 hH) (lw_V q1955 q1956 q1957 q142 q1958) hdl_X8_carry ⟨Nat.le_of_ble_eq_true rfl, Nat.le_of_ble_eq_true rfl⟩ rfl rfl hl (Nat.le_of_ble_eq_true rfl) dL_law_526 ⟨(by show cells + 0 + 0 ≤ 1200384; omega), (by show slots + 0 + 0 ≤ 5489322; omega)⟩ (fun w8z H locs hw hH => ?_)
  subst hw
  have hH := hH.perm List.perm_append_comm
  refine lv_icmp_eq (tgt := 1342) hx hb dL_law_529 rfl (fun _ => ?_) (fun c9 => absurd rfl c9)
  exact W.widen (k := cells + 12000) (n := slots + 48000) (by show cells + 0 + 0 ≤ cells + 12000; omega) (by show slots + 0 + 0 ≤ slots + 48000; omega) (kk _ _ _ _ hI2 hH)
theorem hdl_X0_exchange : yX0_exchange.cls = RX0 ∧ yX0_exchange.cls ≠ "java/lang/invoke/MethodHandle" ∧ yX0_exchange.cls ≠ "java/lang/invoke/VarHandle" ∧ (parseMethodDescriptor yX0_exchange.desc).map (fun d => d.parameters.length) = some 2 := by decide +kernel
theorem hdl_X8_exchange : yX8_exchange.cls = RX8 ∧ yX8_exchange.cls ≠ "java/lang/invoke/MethodHandle" ∧ yX8_exchange.cls ≠ "java/lang/invoke/VarHandle" ∧ (parseMethodDescriptor yX8_exchange.desc).map (fun d => d.parameters.length) = some 2 := by decide +kernel
set_option maxHeartbeats 4000000 in
theorem lawc_exchange {p : Program} {l : Launch} {e : Env} {s : State} {m : MethodId} {b L i j : Nat} {xs : Nat → Int32} {below : List Frame} {meth : Method} {c : Code} {H : Heap} {locs : List Loc} {cells slots : Nat} {Q : State → Prop} {ls : Array Slot} {D : va_G} {E : EvT} {ks vs : Nat → Nat} {fo mi ak av fo8 : Nat} {ad ad8 : Nat → Nat} {cA cA8 : Nat → ClassId} {w0 w8 : va_W} (hX : CallFix p m c cL_law 4 s #[.ref b] lw_all R_law) (hXX : va_X b L xs s s.heap) (hbl : b < s.heap.size) (hV : EvAll l E ks vs fo mi ak av fo8) (hK0 : va_K D vwA (cT cA) s) (hK8 : va_K D vwA (mT cA8) s) (hE : E (fun q => s.heap.size ≤ q) s s.heap) (hI : InvW ad cA ad8 cA8 j w0 w8) (hj : j < 64) (hH : MH D vwA (fun q => s.heap.size ≤ q) s.heap (w0 ++ w8) H locs) (hl : lv_has ls 4 [(0, .ref b), (1, .ref (ad 0)), (2, .ref (ad8 0)), (3, .int (nI i))]) (hi : i + 6 ≤ L) (hL : L ≤ 384) (hc : cells + 12000 ≤ 1200384) (hs : slots + 48000 ≤ 5489322)
    (kk : ∀ (w0' w8' : va_W) (H1 : Heap) (locs1 : List Loc), InvW ad cA ad8 cA8 (j + 1) w0' w8' → MH D vwA (fun q => s.heap.size ≤ q) s.heap (w0' ++ w8') H1 locs1 → W p l e room_1 s m #[.ref b] below meth c H1 locs1 (cells + 12000) (slots + 48000) Q (F0 m 1342 ls [])) : W p l e room_1 s m #[.ref b] below meth c H locs cells slots Q (F0 m 534 ls []) := by
  obtain ⟨ans, w8', hM0, hM8⟩ := op_exchange (l := l) (D := D) hV hI hj (xs (nI i + 1).toNatClampNeg) (xs (nI i + 2).toNatClampNeg)
  have hx := hX.1
  have hb := hX.2.1
  have hown := hX.2.2.2.1
  have hts := hX.2.2.2.2
  have hEv := hV.1.1.1
  have hbA : ¬ (fun q : Nat => s.heap.size ≤ q) b := Nat.not_le.mpr hbl
  refine lv_aload_n hx hb dL_law_534 rfl (lv_at hl 1 rfl) ?_
  refine lv_aload_n hx hb dL_law_535 rfl (lv_at hl 0 rfl) ?_
  refine lv_iload_n hx hb dL_law_536 rfl (lv_at hl 3 rfl) ?_
  refine lv_iconst (v := 1) hx hb dL_law_537 (by decide) ?_
  refine lv_iadd hx hb dL_law_538 ?_
  refine va_sld hx hb hXX hbl hbA hH.2.2.1 (vps (k := 1) (by omega) hL) dL_law_539 ?_
  refine lv_aload_n hx hb dL_law_540 rfl (lv_at hl 0 rfl) ?_
  refine lv_iload_n hx hb dL_law_541 rfl (lv_at hl 3 rfl) ?_
  refine lv_iconst (v := 2) hx hb dL_law_542 (by decide) ?_
  refine lv_iadd hx hb dL_law_543 ?_
  refine va_sld hx hb hXX hbl hbA hH.2.2.1 (vps (k := 2) (by omega) hL) dL_law_544 ?_
  refine mxVF hX hK0 hEv hE hH hM0 (rc0 hI hK0 hH) (lw_V q1112 q1113 q1114 q129 q1115) hdl_X0_exchange ⟨Nat.le_of_ble_eq_true rfl, Nat.le_of_ble_eq_true rfl⟩ rfl rfl hl (Nat.le_of_ble_eq_true rfl) dL_law_545 ⟨(by show cells + 0 ≤ 1200384; omega), (by show slots + 0 ≤ 5489322; omega)⟩ (fun w0z H locs hI2 hH => ?_)
  refine lv_aload_n hx hb dL_law_548 rfl (lv_at hl 2 rfl) ?_
  refine lv_aload_n hx hb dL_law_549 rfl (lv_at hl 0 rfl) ?_
  refine lv_iload_n hx hb dL_law_550 rfl (lv_at hl 3 rfl) ?_
  refine lv_iconst (v := 1) hx hb dL_law_551 (by decide) ?_
  refine lv_iadd hx hb dL_law_552 ?_
  refine va_sld hx hb hXX hbl hbA hH.2.2.1 (vps (k := 1) (by omega) hL) dL_law_553 ?_
  refine lv_aload_n hx hb dL_law_554 rfl (lv_at hl 0 rfl) ?_
  refine lv_iload_n hx hb dL_law_555 rfl (lv_at hl 3 rfl) ?_
  refine lv_iconst (v := 2) hx hb dL_law_556 (by decide) ?_
  refine lv_iadd hx hb dL_law_557 ?_
  refine va_sld hx hb hXX hbl hbA hH.2.2.1 (vps (k := 2) (by omega) hL) dL_law_558 ?_
  have hH := hH.perm List.perm_append_comm
  refine mxVF hX hK8 hEv hE hH hM8 (rc8 hI hK8 hH) (lw_V q1971 q1972 q1973 q142 q1974) hdl_X8_exchange ⟨Nat.le_of_ble_eq_true rfl, Nat.le_of_ble_eq_true rfl⟩ rfl rfl hl (Nat.le_of_ble_eq_true rfl) dL_law_559 ⟨(by show cells + 0 + 0 ≤ 1200384; omega), (by show slots + 0 + 0 ≤ 5489322; omega)⟩ (fun w8z H locs hw hH => ?_)
  subst hw
  have hH := hH.perm List.perm_append_comm
  refine lv_icmp_eq (tgt := 1342) hx hb dL_law_562 rfl (fun _ => ?_) (fun c9 => absurd rfl c9)
  exact W.widen (k := cells + 12000) (n := slots + 48000) (by show cells + 0 + 0 ≤ cells + 12000; omega) (by show slots + 0 + 0 ≤ slots + 48000; omega) (kk _ _ _ _ hI2 hH)
theorem hdl_X0_year : yX0_year.cls = RX0 ∧ yX0_year.cls ≠ "java/lang/invoke/MethodHandle" ∧ yX0_year.cls ≠ "java/lang/invoke/VarHandle" ∧ (parseMethodDescriptor yX0_year.desc).map (fun d => d.parameters.length) = some 0 := by decide +kernel
theorem hdl_X8_year : yX8_year.cls = RX8 ∧ yX8_year.cls ≠ "java/lang/invoke/MethodHandle" ∧ yX8_year.cls ≠ "java/lang/invoke/VarHandle" ∧ (parseMethodDescriptor yX8_year.desc).map (fun d => d.parameters.length) = some 0 := by decide +kernel
set_option maxHeartbeats 4000000 in
theorem lawc_year {p : Program} {l : Launch} {e : Env} {s : State} {m : MethodId} {b L i j : Nat} {xs : Nat → Int32} {below : List Frame} {meth : Method} {c : Code} {H : Heap} {locs : List Loc} {cells slots : Nat} {Q : State → Prop} {ls : Array Slot} {D : va_G} {E : EvT} {ks vs : Nat → Nat} {fo mi ak av fo8 : Nat} {ad ad8 : Nat → Nat} {cA cA8 : Nat → ClassId} {w0 w8 : va_W} (hX : CallFix p m c cL_law 4 s #[.ref b] lw_all R_law) (hXX : va_X b L xs s s.heap) (hbl : b < s.heap.size) (hV : EvAll l E ks vs fo mi ak av fo8) (hK0 : va_K D vwA (cT cA) s) (hK8 : va_K D vwA (mT cA8) s) (hE : E (fun q => s.heap.size ≤ q) s s.heap) (hI : InvW ad cA ad8 cA8 j w0 w8) (hj : j < 64) (hH : MH D vwA (fun q => s.heap.size ≤ q) s.heap (w0 ++ w8) H locs) (hl : lv_has ls 4 [(0, .ref b), (1, .ref (ad 0)), (2, .ref (ad8 0)), (3, .int (nI i))]) (hi : i + 6 ≤ L) (hL : L ≤ 384) (hc : cells + 12000 ≤ 1200384) (hs : slots + 48000 ≤ 5489322)
    (kk : ∀ (w0' w8' : va_W) (H1 : Heap) (locs1 : List Loc), InvW ad cA ad8 cA8 (j + 1) w0' w8' → MH D vwA (fun q => s.heap.size ≤ q) s.heap (w0' ++ w8') H1 locs1 → W p l e room_1 s m #[.ref b] below meth c H1 locs1 (cells + 12000) (slots + 48000) Q (F0 m 1342 ls [])) : W p l e room_1 s m #[.ref b] below meth c H locs cells slots Q (F0 m 567 ls []) := by
  obtain ⟨ans, w8', hM0, hM8⟩ := op_year (l := l) (D := D) hV hI hj 
  have hx := hX.1
  have hb := hX.2.1
  have hown := hX.2.2.2.1
  have hts := hX.2.2.2.2
  have hEv := hV.1.1.1
  have hbA : ¬ (fun q : Nat => s.heap.size ≤ q) b := Nat.not_le.mpr hbl
  refine lv_aload_n hx hb dL_law_567 rfl (lv_at hl 1 rfl) ?_
  refine mxVF hX hK0 hEv hE hH hM0 (rc0 hI hK0 hH) (lw_V q1121 q1122 q1123 q129 q1124) hdl_X0_year ⟨Nat.le_of_ble_eq_true rfl, Nat.le_of_ble_eq_true rfl⟩ rfl rfl hl (Nat.le_of_ble_eq_true rfl) dL_law_568 ⟨(by show cells + 0 ≤ 1200384; omega), (by show slots + 0 ≤ 5489322; omega)⟩ (fun w0z H locs hI2 hH => ?_)
  refine lv_aload_n hx hb dL_law_571 rfl (lv_at hl 2 rfl) ?_
  have hH := hH.perm List.perm_append_comm
  refine mxVF hX hK8 hEv hE hH hM8 (rc8 hI hK8 hH) (lw_V q1979 q1980 q1981 q142 q1982) hdl_X8_year ⟨Nat.le_of_ble_eq_true rfl, Nat.le_of_ble_eq_true rfl⟩ rfl rfl hl (Nat.le_of_ble_eq_true rfl) dL_law_572 ⟨(by show cells + 0 + 0 ≤ 1200384; omega), (by show slots + 0 + 0 ≤ 5489322; omega)⟩ (fun w8z H locs hw hH => ?_)
  subst hw
  have hH := hH.perm List.perm_append_comm
  refine lv_icmp_eq (tgt := 1342) hx hb dL_law_575 rfl (fun _ => ?_) (fun c9 => absurd rfl c9)
  exact W.widen (k := cells + 12000) (n := slots + 48000) (by show cells + 0 + 0 ≤ cells + 12000; omega) (by show slots + 0 + 0 ≤ slots + 48000; omega) (kk _ _ _ _ hI2 hH)
theorem hdl_X0_flood : yX0_flood.cls = RX0 ∧ yX0_flood.cls ≠ "java/lang/invoke/MethodHandle" ∧ yX0_flood.cls ≠ "java/lang/invoke/VarHandle" ∧ (parseMethodDescriptor yX0_flood.desc).map (fun d => d.parameters.length) = some 1 := by decide +kernel
theorem hdl_X8_flood : yX8_flood.cls = RX8 ∧ yX8_flood.cls ≠ "java/lang/invoke/MethodHandle" ∧ yX8_flood.cls ≠ "java/lang/invoke/VarHandle" ∧ (parseMethodDescriptor yX8_flood.desc).map (fun d => d.parameters.length) = some 1 := by decide +kernel
set_option maxHeartbeats 4000000 in
theorem lawc_flood {p : Program} {l : Launch} {e : Env} {s : State} {m : MethodId} {b L i j : Nat} {xs : Nat → Int32} {below : List Frame} {meth : Method} {c : Code} {H : Heap} {locs : List Loc} {cells slots : Nat} {Q : State → Prop} {ls : Array Slot} {D : va_G} {E : EvT} {ks vs : Nat → Nat} {fo mi ak av fo8 : Nat} {ad ad8 : Nat → Nat} {cA cA8 : Nat → ClassId} {w0 w8 : va_W} (hX : CallFix p m c cL_law 4 s #[.ref b] lw_all R_law) (hXX : va_X b L xs s s.heap) (hbl : b < s.heap.size) (hV : EvAll l E ks vs fo mi ak av fo8) (hK0 : va_K D vwA (cT cA) s) (hK8 : va_K D vwA (mT cA8) s) (hE : E (fun q => s.heap.size ≤ q) s s.heap) (hI : InvW ad cA ad8 cA8 j w0 w8) (hj : j < 64) (hH : MH D vwA (fun q => s.heap.size ≤ q) s.heap (w0 ++ w8) H locs) (hl : lv_has ls 4 [(0, .ref b), (1, .ref (ad 0)), (2, .ref (ad8 0)), (3, .int (nI i))]) (hi : i + 6 ≤ L) (hL : L ≤ 384) (hc : cells + 12000 ≤ 1200384) (hs : slots + 48000 ≤ 5489322)
    (kk : ∀ (w0' w8' : va_W) (H1 : Heap) (locs1 : List Loc), InvW ad cA ad8 cA8 (j + 1) w0' w8' → MH D vwA (fun q => s.heap.size ≤ q) s.heap (w0' ++ w8') H1 locs1 → W p l e room_1 s m #[.ref b] below meth c H1 locs1 (cells + 12000) (slots + 48000) Q (F0 m 1342 ls [])) : W p l e room_1 s m #[.ref b] below meth c H locs cells slots Q (F0 m 580 ls []) := by
  obtain ⟨ans, w8', hM0, hM8⟩ := op_flood (l := l) (D := D) hV hI hj (xs (nI i + 1).toNatClampNeg)
  have hx := hX.1
  have hb := hX.2.1
  have hown := hX.2.2.2.1
  have hts := hX.2.2.2.2
  have hEv := hV.1.1.1
  have hbA : ¬ (fun q : Nat => s.heap.size ≤ q) b := Nat.not_le.mpr hbl
  refine lv_aload_n hx hb dL_law_580 rfl (lv_at hl 1 rfl) ?_
  refine lv_aload_n hx hb dL_law_581 rfl (lv_at hl 0 rfl) ?_
  refine lv_iload_n hx hb dL_law_582 rfl (lv_at hl 3 rfl) ?_
  refine lv_iconst (v := 1) hx hb dL_law_583 (by decide) ?_
  refine lv_iadd hx hb dL_law_584 ?_
  refine va_sld hx hb hXX hbl hbA hH.2.2.1 (vps (k := 1) (by omega) hL) dL_law_585 ?_
  refine mxVF hX hK0 hEv hE hH hM0 (rc0 hI hK0 hH) (lw_V q1129 q1130 q1131 q129 q1132) hdl_X0_flood ⟨Nat.le_of_ble_eq_true rfl, Nat.le_of_ble_eq_true rfl⟩ rfl rfl hl (Nat.le_of_ble_eq_true rfl) dL_law_586 ⟨(by show cells + 0 ≤ 1200384; omega), (by show slots + 0 ≤ 5489322; omega)⟩ (fun w0z H locs hI2 hH => ?_)
  refine lv_aload_n hx hb dL_law_589 rfl (lv_at hl 2 rfl) ?_
  refine lv_aload_n hx hb dL_law_590 rfl (lv_at hl 0 rfl) ?_
  refine lv_iload_n hx hb dL_law_591 rfl (lv_at hl 3 rfl) ?_
  refine lv_iconst (v := 1) hx hb dL_law_592 (by decide) ?_
  refine lv_iadd hx hb dL_law_593 ?_
  refine va_sld hx hb hXX hbl hbA hH.2.2.1 (vps (k := 1) (by omega) hL) dL_law_594 ?_
  have hH := hH.perm List.perm_append_comm
  refine mxVF hX hK8 hEv hE hH hM8 (rc8 hI hK8 hH) (lw_V q1983 q1984 q1985 q142 q1986) hdl_X8_flood ⟨Nat.le_of_ble_eq_true rfl, Nat.le_of_ble_eq_true rfl⟩ rfl rfl hl (Nat.le_of_ble_eq_true rfl) dL_law_595 ⟨(by show cells + 0 + 0 ≤ 1200384; omega), (by show slots + 0 + 0 ≤ 5489322; omega)⟩ (fun w8z H locs hw hH => ?_)
  subst hw
  have hH := hH.perm List.perm_append_comm
  refine lv_icmp_eq (tgt := 1342) hx hb dL_law_598 rfl (fun _ => ?_) (fun c9 => absurd rfl c9)
  exact W.widen (k := cells + 12000) (n := slots + 48000) (by show cells + 0 + 0 ≤ cells + 12000; omega) (by show slots + 0 + 0 ≤ slots + 48000; omega) (kk _ _ _ _ hI2 hH)
