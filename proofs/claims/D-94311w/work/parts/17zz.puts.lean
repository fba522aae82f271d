set_option maxRecDepth 100000
abbrev rm_X7_puts : Room := { frames := 10, cells := 4, slots := 300, locals := 10300 }
set_option maxHeartbeats 4000000 in
theorem met_X7_puts_o0 {l : Launch} {D : va_G} {ad : Nat → Nat} {cA : Nat → ClassId} {sA ta ba na : Nat → Nat} {gi : Nat → Option Nat} {rh : Option Nat} {rt : Option Nat} {g_sort : Int32} {g_size : Int32} {g_from : Int32} {g_to : Int32} {g_level : Int32} {g_full : Int32} {a_tape : Nat → Int32} {a_hAt : Nat → Int32} {a_hMany : Nat → Int32} {a_tAt : Nat → Int32} {a_tMany : Nat → Int32} {a_least : Nat → Int32} {a_place : Nat → Int32} {a_to : Nat → Int32} {a_order : Nat → Int32} {a_fails : Nat → Int32} {a_sKeys : Nat → Int64} {a_sRow : Nat → Int64} {a_sSlots : Nat → Int32} {a_bKeys : Nat → Int64} {a_bRow : Nat → Int64} {a_bSlots : Nat → Int32} {a_easy : Nat → Int32} {a_wants : Nat → Int32} {a_wantedBy : Nat → Int32} {a_ring : Nat → Int32} {a_carried : Nat → Int32} {a_latest : Nat → Int32} {v_taped : Int32} {v_faultKind : Int32} {v_faultPlace : Int32} {v_x : Int32} {v_ordered : Int32} {v_sought : Int32} {v_lastSought : Int32} {v_hMoved : Int32} {v_hWithout : Int32} {v_tMoved : Int32} {v_tWithout : Int32} {v_places : Int32} {v_elsewhere : Int32} {v_sMany : Int32} {v_bMany : Int32} {v_year : Int32} {y_lies : Int64} {a_rsort : Nat → Int32} {a_rmany : Nat → Int32} {a_nums : Nat → Nat → Int64}  {pl : va_W} {E : EvT} (hEX : EvX E) {k : Nat} {p1 : Int32} {p2 : Int64} (hk : k < (4 : Int32).toNatClampNeg) (hs : a_rsort k = 0) (hin : vp_in p1 (a_rmany k).toNatClampNeg) : MX l yX7_puts (ws_ yX7_puts cX7_puts 4 none) rm_X7_puts D vwA (cT cA) E [.ref (ad (29 + k)), .int p1, .long p2] (cW ad cA sA ta ba na gi rh rt g_sort g_size g_from g_to g_level g_full a_tape a_hAt a_hMany a_tAt a_tMany a_least a_place a_to a_order a_fails a_sKeys a_sRow a_sSlots a_bKeys a_bRow a_bSlots a_easy a_wants a_wantedBy a_ring a_carried a_latest v_taped v_faultKind v_faultPlace v_x v_ordered v_sought v_lastSought v_hMoved v_hWithout v_tMoved v_tWithout v_places v_elsewhere v_sMany v_bMany v_year y_lies a_rsort a_rmany a_nums pl) (fun z => z = (cW ad cA sA ta ba na gi rh rt g_sort g_size g_from g_to g_level g_full a_tape a_hAt a_hMany a_tAt a_tMany a_least a_place a_to a_order a_fails a_sKeys a_sRow a_sSlots a_bKeys a_bRow a_bSlots a_easy a_wants a_wantedBy a_ring a_carried a_latest v_taped v_faultKind v_faultPlace v_x v_ordered v_sought v_lastSought v_hMoved v_hWithout v_tMoved v_tWithout v_places v_elsewhere v_sMany v_bMany v_year y_lies a_rsort a_rmany (putN a_nums k p1.toNatClampNeg (cutN 0 p2)) pl)) none := by
  refine MX.ofV (by decide) (Nat.le_of_ble_eq_true rfl) ?_
  intro p e s m args below meth c Q A hX hK hE0 hname hret H locs ls hH hl
  have hX : CallFix p m c cX7_puts 4 s args lw_all RX7 := hX
  have hx := hX.1
  have hb := hX.2.1
  have hown := hX.2.2.2.1
  have hts := hX.2.2.2.2
  have hE := hEX.1
  have hl : lv_has ls 4 [(0, .ref (ad (29 + k))), (1, .int p1), (2, .long p2)] := hl
  have hEv := hE.1
  have hNC := hE.2.2.1 _ _ _ hE0
  have hNW := hE.2.1 _ _ _ hE0
  refine lv_aload_n hx hb dX7_puts_0 rfl (lv_at hl 0 rfl) ?_
  refine cgn_held hX hK hH hk (by rw [hs]; decide) dX7_puts_1 ?_
  refine va_instE hx hb hown (hts _ q1196) (cn_at0 hK hH hk hs) dX7_puts_4 ?_
  refine lv_if_eq (tgt := 25) hx hb dX7_puts_7 rfl (fun c9 => absurd c9 (by decide)) (fun _ => ?_)
  refine lv_aload_n hx hb dX7_puts_10 rfl (lv_at hl 0 rfl) ?_
  refine cgn_held hX hK hH hk (by rw [hs]; decide) dX7_puts_11 ?_
  refine va_castE hx hb hown (hts _ q1196) (cn_at0 hK hH hk hs) dX7_puts_14 ?_
  refine lv_iload_n hx hb dX7_puts_17 rfl (lv_at hl 1 rfl) ?_
  refine lv_lload_n hx hb dX7_puts_18 rfl (lv_at hl 2 rfl) ?_
  refine lv_l2i (v := p2.toInt32) hx hb dX7_puts_19 rfl ?_
  refine lv_i2b (v := cvB p2.toInt32) hx hb dX7_puts_20 rfl ?_
  refine cn_st0 (v := cutN 0 p2) hX hK hH hk hs (cut_b _) hin dX7_puts_21 (fun H locs hH => ?_)
  refine lv_goto (tgt := 84) hx hb dX7_puts_22 rfl ?_
  refine W.widen (k := 4) (n := 300) (Nat.le_of_ble_eq_true rfl) (Nat.le_of_ble_eq_true rfl) ?_
  exact hret _ _ _ _ _ rfl hH dX7_puts_84
set_option maxHeartbeats 4000000 in
theorem met_X7_puts_x0 {l : Launch} {D : va_G} {ad : Nat → Nat} {cA : Nat → ClassId} {sA ta ba na : Nat → Nat} {gi : Nat → Option Nat} {rh : Option Nat} {rt : Option Nat} {g_sort : Int32} {g_size : Int32} {g_from : Int32} {g_to : Int32} {g_level : Int32} {g_full : Int32} {a_tape : Nat → Int32} {a_hAt : Nat → Int32} {a_hMany : Nat → Int32} {a_tAt : Nat → Int32} {a_tMany : Nat → Int32} {a_least : Nat → Int32} {a_place : Nat → Int32} {a_to : Nat → Int32} {a_order : Nat → Int32} {a_fails : Nat → Int32} {a_sKeys : Nat → Int64} {a_sRow : Nat → Int64} {a_sSlots : Nat → Int32} {a_bKeys : Nat → Int64} {a_bRow : Nat → Int64} {a_bSlots : Nat → Int32} {a_easy : Nat → Int32} {a_wants : Nat → Int32} {a_wantedBy : Nat → Int32} {a_ring : Nat → Int32} {a_carried : Nat → Int32} {a_latest : Nat → Int32} {v_taped : Int32} {v_faultKind : Int32} {v_faultPlace : Int32} {v_x : Int32} {v_ordered : Int32} {v_sought : Int32} {v_lastSought : Int32} {v_hMoved : Int32} {v_hWithout : Int32} {v_tMoved : Int32} {v_tWithout : Int32} {v_places : Int32} {v_elsewhere : Int32} {v_sMany : Int32} {v_bMany : Int32} {v_year : Int32} {y_lies : Int64} {a_rsort : Nat → Int32} {a_rmany : Nat → Int32} {a_nums : Nat → Nat → Int64}  {pl : va_W} {E : EvT} (hEX : EvX E) (hfl : l.stackTraces = false) {k : Nat} {p1 : Int32} {p2 : Int64} (hk : k < (4 : Int32).toNatClampNeg) (hs : a_rsort k = 0) (hin : ¬ vp_in p1 (a_rmany k).toNatClampNeg) : MXX l yX7_puts (ws_ yX7_puts cX7_puts 4 none) rm_X7_puts D vwA (cT cA) E [.ref (ad (29 + k)), .int p1, .long p2] (cW ad cA sA ta ba na gi rh rt g_sort g_size g_from g_to g_level g_full a_tape a_hAt a_hMany a_tAt a_tMany a_least a_place a_to a_order a_fails a_sKeys a_sRow a_sSlots a_bKeys a_bRow a_bSlots a_easy a_wants a_wantedBy a_ring a_carried a_latest v_taped v_faultKind v_faultPlace v_x v_ordered v_sought v_lastSought v_hMoved v_hWithout v_tMoved v_tWithout v_places v_elsewhere v_sMany v_bMany v_year y_lies a_rsort a_rmany a_nums pl) "java/lang/ArrayIndexOutOfBoundsException" := by
  refine MXX.of (by decide) (Nat.le_of_ble_eq_true rfl) ?_
  intro p e s m args below meth c Q A hX hK hE0 hlo hret H locs ls hH hl
  have hX : CallFix p m c cX7_puts 4 s args lw_all RX7 := hX
  have hx := hX.1
  have hb := hX.2.1
  have hown := hX.2.2.2.1
  have hts := hX.2.2.2.2
  have hE := hEX.1
  have hl : lv_has ls 4 [(0, .ref (ad (29 + k))), (1, .int p1), (2, .long p2)] := hl
  have hEv := hE.1
  have hNC := hE.2.2.1 _ _ _ hE0
  have hNW := hE.2.1 _ _ _ hE0
  refine lv_aload_n hx hb dX7_puts_0 rfl (lv_at hl 0 rfl) ?_
  refine cgn_held hX hK hH hk (by rw [hs]; decide) dX7_puts_1 ?_
  refine va_instE hx hb hown (hts _ q1196) (cn_at0 hK hH hk hs) dX7_puts_4 ?_
  refine lv_if_eq (tgt := 25) hx hb dX7_puts_7 rfl (fun c9 => absurd c9 (by decide)) (fun _ => ?_)
  refine lv_aload_n hx hb dX7_puts_10 rfl (lv_at hl 0 rfl) ?_
  refine cgn_held hX hK hH hk (by rw [hs]; decide) dX7_puts_11 ?_
  refine va_castE hx hb hown (hts _ q1196) (cn_at0 hK hH hk hs) dX7_puts_14 ?_
  refine lv_iload_n hx hb dX7_puts_17 rfl (lv_at hl 1 rfl) ?_
  refine lv_lload_n hx hb dX7_puts_18 rfl (lv_at hl 2 rfl) ?_
  refine lv_l2i (v := p2.toInt32) hx hb dX7_puts_19 rfl ?_
  refine lv_i2b (v := cvB p2.toInt32) hx hb dX7_puts_20 rfl ?_
  refine cn_out0 hX hfl hEX hE0 hK hH hl hlo hk hs hin dX7_puts_21 (Nat.le_of_ble_eq_true rfl) (Nat.le_of_ble_eq_true rfl) (Nat.le_of_ble_eq_true rfl) (Nat.le_of_ble_eq_true rfl) (fun H1 q9 ce hH hq hv hcl => ?_)
  refine vx_widen (k := 4) (n := 300) (Nat.le_of_ble_eq_true rfl) (Nat.le_of_ble_eq_true rfl) ?_
  exact hret _ _ _ _ _ _ _ hH hq hv hcl
set_option maxHeartbeats 4000000 in
theorem met_X7_puts_o1 {l : Launch} {D : va_G} {ad : Nat → Nat} {cA : Nat → ClassId} {sA ta ba na : Nat → Nat} {gi : Nat → Option Nat} {rh : Option Nat} {rt : Option Nat} {g_sort : Int32} {g_size : Int32} {g_from : Int32} {g_to : Int32} {g_level : Int32} {g_full : Int32} {a_tape : Nat → Int32} {a_hAt : Nat → Int32} {a_hMany : Nat → Int32} {a_tAt : Nat → Int32} {a_tMany : Nat → Int32} {a_least : Nat → Int32} {a_place : Nat → Int32} {a_to : Nat → Int32} {a_order : Nat → Int32} {a_fails : Nat → Int32} {a_sKeys : Nat → Int64} {a_sRow : Nat → Int64} {a_sSlots : Nat → Int32} {a_bKeys : Nat → Int64} {a_bRow : Nat → Int64} {a_bSlots : Nat → Int32} {a_easy : Nat → Int32} {a_wants : Nat → Int32} {a_wantedBy : Nat → Int32} {a_ring : Nat → Int32} {a_carried : Nat → Int32} {a_latest : Nat → Int32} {v_taped : Int32} {v_faultKind : Int32} {v_faultPlace : Int32} {v_x : Int32} {v_ordered : Int32} {v_sought : Int32} {v_lastSought : Int32} {v_hMoved : Int32} {v_hWithout : Int32} {v_tMoved : Int32} {v_tWithout : Int32} {v_places : Int32} {v_elsewhere : Int32} {v_sMany : Int32} {v_bMany : Int32} {v_year : Int32} {y_lies : Int64} {a_rsort : Nat → Int32} {a_rmany : Nat → Int32} {a_nums : Nat → Nat → Int64}  {pl : va_W} {E : EvT} (hEX : EvX E) {k : Nat} {p1 : Int32} {p2 : Int64} (hk : k < (4 : Int32).toNatClampNeg) (hs : a_rsort k = 1) (hin : vp_in p1 (a_rmany k).toNatClampNeg) : MX l yX7_puts (ws_ yX7_puts cX7_puts 4 none) rm_X7_puts D vwA (cT cA) E [.ref (ad (29 + k)), .int p1, .long p2] (cW ad cA sA ta ba na gi rh rt g_sort g_size g_from g_to g_level g_full a_tape a_hAt a_hMany a_tAt a_tMany a_least a_place a_to a_order a_fails a_sKeys a_sRow a_sSlots a_bKeys a_bRow a_bSlots a_easy a_wants a_wantedBy a_ring a_carried a_latest v_taped v_faultKind v_faultPlace v_x v_ordered v_sought v_lastSought v_hMoved v_hWithout v_tMoved v_tWithout v_places v_elsewhere v_sMany v_bMany v_year y_lies a_rsort a_rmany a_nums pl) (fun z => z = (cW ad cA sA ta ba na gi rh rt g_sort g_size g_from g_to g_level g_full a_tape a_hAt a_hMany a_tAt a_tMany a_least a_place a_to a_order a_fails a_sKeys a_sRow a_sSlots a_bKeys a_bRow a_bSlots a_easy a_wants a_wantedBy a_ring a_carried a_latest v_taped v_faultKind v_faultPlace v_x v_ordered v_sought v_lastSought v_hMoved v_hWithout v_tMoved v_tWithout v_places v_elsewhere v_sMany v_bMany v_year y_lies a_rsort a_rmany (putN a_nums k p1.toNatClampNeg (cutN 1 p2)) pl)) none := by
  refine MX.ofV (by decide) (Nat.le_of_ble_eq_true rfl) ?_
  intro p e s m args below meth c Q A hX hK hE0 hname hret H locs ls hH hl
  have hX : CallFix p m c cX7_puts 4 s args lw_all RX7 := hX
  have hx := hX.1
  have hb := hX.2.1
  have hown := hX.2.2.2.1
  have hts := hX.2.2.2.2
  have hE := hEX.1
  have hl : lv_has ls 4 [(0, .ref (ad (29 + k))), (1, .int p1), (2, .long p2)] := hl
  have hEv := hE.1
  have hNC := hE.2.2.1 _ _ _ hE0
  have hNW := hE.2.1 _ _ _ hE0
  refine lv_aload_n hx hb dX7_puts_0 rfl (lv_at hl 0 rfl) ?_
  refine cgn_held hX hK hH hk (by rw [hs]; decide) dX7_puts_1 ?_
  refine va_instNo hx hb hown (hts _ q1196) (hNC _ (List.mem_of_getElem? (i := 5) rfl)) (cn_at1 hK hH hk hs) dX7_puts_4 ?_
  refine lv_if_eq (tgt := 25) hx hb dX7_puts_7 rfl (fun _ => ?_) (fun c9 => absurd c9 (by decide))
  refine lv_aload_n hx hb dX7_puts_25 rfl (lv_at hl 0 rfl) ?_
  refine cgn_held hX hK hH hk (by rw [hs]; decide) dX7_puts_26 ?_
  refine va_instE hx hb hown (hts _ q1197) (cn_at1 hK hH hk hs) dX7_puts_29 ?_
  refine lv_if_eq (tgt := 50) hx hb dX7_puts_32 rfl (fun c9 => absurd c9 (by decide)) (fun _ => ?_)
  refine lv_aload_n hx hb dX7_puts_35 rfl (lv_at hl 0 rfl) ?_
  refine cgn_held hX hK hH hk (by rw [hs]; decide) dX7_puts_36 ?_
  refine va_castE hx hb hown (hts _ q1197) (cn_at1 hK hH hk hs) dX7_puts_39 ?_
  refine lv_iload_n hx hb dX7_puts_42 rfl (lv_at hl 1 rfl) ?_
  refine lv_lload_n hx hb dX7_puts_43 rfl (lv_at hl 2 rfl) ?_
  refine lv_l2i (v := p2.toInt32) hx hb dX7_puts_44 rfl ?_
  refine lv_i2s (v := cvS p2.toInt32) hx hb dX7_puts_45 rfl ?_
  refine cn_st1 (v := cutN 1 p2) hX hK hH hk hs (cut_s _) hin dX7_puts_46 (fun H locs hH => ?_)
  refine lv_goto (tgt := 84) hx hb dX7_puts_47 rfl ?_
  refine W.widen (k := 4) (n := 300) (Nat.le_of_ble_eq_true rfl) (Nat.le_of_ble_eq_true rfl) ?_
  exact hret _ _ _ _ _ rfl hH dX7_puts_84
set_option maxHeartbeats 4000000 in
theorem met_X7_puts_x1 {l : Launch} {D : va_G} {ad : Nat → Nat} {cA : Nat → ClassId} {sA ta ba na : Nat → Nat} {gi : Nat → Option Nat} {rh : Option Nat} {rt : Option Nat} {g_sort : Int32} {g_size : Int32} {g_from : Int32} {g_to : Int32} {g_level : Int32} {g_full : Int32} {a_tape : Nat → Int32} {a_hAt : Nat → Int32} {a_hMany : Nat → Int32} {a_tAt : Nat → Int32} {a_tMany : Nat → Int32} {a_least : Nat → Int32} {a_place : Nat → Int32} {a_to : Nat → Int32} {a_order : Nat → Int32} {a_fails : Nat → Int32} {a_sKeys : Nat → Int64} {a_sRow : Nat → Int64} {a_sSlots : Nat → Int32} {a_bKeys : Nat → Int64} {a_bRow : Nat → Int64} {a_bSlots : Nat → Int32} {a_easy : Nat → Int32} {a_wants : Nat → Int32} {a_wantedBy : Nat → Int32} {a_ring : Nat → Int32} {a_carried : Nat → Int32} {a_latest : Nat → Int32} {v_taped : Int32} {v_faultKind : Int32} {v_faultPlace : Int32} {v_x : Int32} {v_ordered : Int32} {v_sought : Int32} {v_lastSought : Int32} {v_hMoved : Int32} {v_hWithout : Int32} {v_tMoved : Int32} {v_tWithout : Int32} {v_places : Int32} {v_elsewhere : Int32} {v_sMany : Int32} {v_bMany : Int32} {v_year : Int32} {y_lies : Int64} {a_rsort : Nat → Int32} {a_rmany : Nat → Int32} {a_nums : Nat → Nat → Int64}  {pl : va_W} {E : EvT} (hEX : EvX E) (hfl : l.stackTraces = false) {k : Nat} {p1 : Int32} {p2 : Int64} (hk : k < (4 : Int32).toNatClampNeg) (hs : a_rsort k = 1) (hin : ¬ vp_in p1 (a_rmany k).toNatClampNeg) : MXX l yX7_puts (ws_ yX7_puts cX7_puts 4 none) rm_X7_puts D vwA (cT cA) E [.ref (ad (29 + k)), .int p1, .long p2] (cW ad cA sA ta ba na gi rh rt g_sort g_size g_from g_to g_level g_full a_tape a_hAt a_hMany a_tAt a_tMany a_least a_place a_to a_order a_fails a_sKeys a_sRow a_sSlots a_bKeys a_bRow a_bSlots a_easy a_wants a_wantedBy a_ring a_carried a_latest v_taped v_faultKind v_faultPlace v_x v_ordered v_sought v_lastSought v_hMoved v_hWithout v_tMoved v_tWithout v_places v_elsewhere v_sMany v_bMany v_year y_lies a_rsort a_rmany a_nums pl) "java/lang/ArrayIndexOutOfBoundsException" := by
  refine MXX.of (by decide) (Nat.le_of_ble_eq_true rfl) ?_
  intro p e s m args below meth c Q A hX hK hE0 hlo hret H locs ls hH hl
  have hX : CallFix p m c cX7_puts 4 s args lw_all RX7 := hX
  have hx := hX.1
  have hb := hX.2.1
  have hown := hX.2.2.2.1
  have hts := hX.2.2.2.2
  have hE := hEX.1
  have hl : lv_has ls 4 [(0, .ref (ad (29 + k))), (1, .int p1), (2, .long p2)] := hl
  have hEv := hE.1
  have hNC := hE.2.2.1 _ _ _ hE0
  have hNW := hE.2.1 _ _ _ hE0
  refine lv_aload_n hx hb dX7_puts_0 rfl (lv_at hl 0 rfl) ?_
  refine cgn_held hX hK hH hk (by rw [hs]; decide) dX7_puts_1 ?_
  refine va_instNo hx hb hown (hts _ q1196) (hNC _ (List.mem_of_getElem? (i := 5) rfl)) (cn_at1 hK hH hk hs) dX7_puts_4 ?_
  refine lv_if_eq (tgt := 25) hx hb dX7_puts_7 rfl (fun _ => ?_) (fun c9 => absurd c9 (by decide))
  refine lv_aload_n hx hb dX7_puts_25 rfl (lv_at hl 0 rfl) ?_
  refine cgn_held hX hK hH hk (by rw [hs]; decide) dX7_puts_26 ?_
  refine va_instE hx hb hown (hts _ q1197) (cn_at1 hK hH hk hs) dX7_puts_29 ?_
  refine lv_if_eq (tgt := 50) hx hb dX7_puts_32 rfl (fun c9 => absurd c9 (by decide)) (fun _ => ?_)
  refine lv_aload_n hx hb dX7_puts_35 rfl (lv_at hl 0 rfl) ?_
  refine cgn_held hX hK hH hk (by rw [hs]; decide) dX7_puts_36 ?_
  refine va_castE hx hb hown (hts _ q1197) (cn_at1 hK hH hk hs) dX7_puts_39 ?_
  refine lv_iload_n hx hb dX7_puts_42 rfl (lv_at hl 1 rfl) ?_
  refine lv_lload_n hx hb dX7_puts_43 rfl (lv_at hl 2 rfl) ?_
  refine lv_l2i (v := p2.toInt32) hx hb dX7_puts_44 rfl ?_
  refine lv_i2s (v := cvS p2.toInt32) hx hb dX7_puts_45 rfl ?_
  refine cn_out1 hX hfl hEX hE0 hK hH hl hlo hk hs hin dX7_puts_46 (Nat.le_of_ble_eq_true rfl) (Nat.le_of_ble_eq_true rfl) (Nat.le_of_ble_eq_true rfl) (Nat.le_of_ble_eq_true rfl) (fun H1 q9 ce hH hq hv hcl => ?_)
  refine vx_widen (k := 4) (n := 300) (Nat.le_of_ble_eq_true rfl) (Nat.le_of_ble_eq_true rfl) ?_
  exact hret _ _ _ _ _ _ _ hH hq hv hcl
set_option maxHeartbeats 4000000 in
theorem met_X7_puts_o2 {l : Launch} {D : va_G} {ad : Nat → Nat} {cA : Nat → ClassId} {sA ta ba na : Nat → Nat} {gi : Nat → Option Nat} {rh : Option Nat} {rt : Option Nat} {g_sort : Int32} {g_size : Int32} {g_from : Int32} {g_to : Int32} {g_level : Int32} {g_full : Int32} {a_tape : Nat → Int32} {a_hAt : Nat → Int32} {a_hMany : Nat → Int32} {a_tAt : Nat → Int32} {a_tMany : Nat → Int32} {a_least : Nat → Int32} {a_place : Nat → Int32} {a_to : Nat → Int32} {a_order : Nat → Int32} {a_fails : Nat → Int32} {a_sKeys : Nat → Int64} {a_sRow : Nat → Int64} {a_sSlots : Nat → Int32} {a_bKeys : Nat → Int64} {a_bRow : Nat → Int64} {a_bSlots : Nat → Int32} {a_easy : Nat → Int32} {a_wants : Nat → Int32} {a_wantedBy : Nat → Int32} {a_ring : Nat → Int32} {a_carried : Nat → Int32} {a_latest : Nat → Int32} {v_taped : Int32} {v_faultKind : Int32} {v_faultPlace : Int32} {v_x : Int32} {v_ordered : Int32} {v_sought : Int32} {v_lastSought : Int32} {v_hMoved : Int32} {v_hWithout : Int32} {v_tMoved : Int32} {v_tWithout : Int32} {v_places : Int32} {v_elsewhere : Int32} {v_sMany : Int32} {v_bMany : Int32} {v_year : Int32} {y_lies : Int64} {a_rsort : Nat → Int32} {a_rmany : Nat → Int32} {a_nums : Nat → Nat → Int64}  {pl : va_W} {E : EvT} (hEX : EvX E) {k : Nat} {p1 : Int32} {p2 : Int64} (hk : k < (4 : Int32).toNatClampNeg) (hs : a_rsort k = 2) (hin : vp_in p1 (a_rmany k).toNatClampNeg) : MX l yX7_puts (ws_ yX7_puts cX7_puts 4 none) rm_X7_puts D vwA (cT cA) E [.ref (ad (29 + k)), .int p1, .long p2] (cW ad cA sA ta ba na gi rh rt g_sort g_size g_from g_to g_level g_full a_tape a_hAt a_hMany a_tAt a_tMany a_least a_place a_to a_order a_fails a_sKeys a_sRow a_sSlots a_bKeys a_bRow a_bSlots a_easy a_wants a_wantedBy a_ring a_carried a_latest v_taped v_faultKind v_faultPlace v_x v_ordered v_sought v_lastSought v_hMoved v_hWithout v_tMoved v_tWithout v_places v_elsewhere v_sMany v_bMany v_year y_lies a_rsort a_rmany a_nums pl) (fun z => z = (cW ad cA sA ta ba na gi rh rt g_sort g_size g_from g_to g_level g_full a_tape a_hAt a_hMany a_tAt a_tMany a_least a_place a_to a_order a_fails a_sKeys a_sRow a_sSlots a_bKeys a_bRow a_bSlots a_easy a_wants a_wantedBy a_ring a_carried a_latest v_taped v_faultKind v_faultPlace v_x v_ordered v_sought v_lastSought v_hMoved v_hWithout v_tMoved v_tWithout v_places v_elsewhere v_sMany v_bMany v_year y_lies a_rsort a_rmany (putN a_nums k p1.toNatClampNeg (cutN 2 p2)) pl)) none := by
  refine MX.ofV (by decide) (Nat.le_of_ble_eq_true rfl) ?_
  intro p e s m args below meth c Q A hX hK hE0 hname hret H locs ls hH hl
  have hX : CallFix p m c cX7_puts 4 s args lw_all RX7 := hX
  have hx := hX.1
  have hb := hX.2.1
  have hown := hX.2.2.2.1
  have hts := hX.2.2.2.2
  have hE := hEX.1
  have hl : lv_has ls 4 [(0, .ref (ad (29 + k))), (1, .int p1), (2, .long p2)] := hl
  have hEv := hE.1
  have hNC := hE.2.2.1 _ _ _ hE0
  have hNW := hE.2.1 _ _ _ hE0
  refine lv_aload_n hx hb dX7_puts_0 rfl (lv_at hl 0 rfl) ?_
  refine cgn_held hX hK hH hk (by rw [hs]; decide) dX7_puts_1 ?_
  refine va_instNo hx hb hown (hts _ q1196) (hNC _ (List.mem_of_getElem? (i := 0) rfl)) (cn_at2 hK hH hk hs) dX7_puts_4 ?_
  refine lv_if_eq (tgt := 25) hx hb dX7_puts_7 rfl (fun _ => ?_) (fun c9 => absurd c9 (by decide))
  refine lv_aload_n hx hb dX7_puts_25 rfl (lv_at hl 0 rfl) ?_
  refine cgn_held hX hK hH hk (by rw [hs]; decide) dX7_puts_26 ?_
  refine va_instNo hx hb hown (hts _ q1197) (hNC _ (List.mem_of_getElem? (i := 1) rfl)) (cn_at2 hK hH hk hs) dX7_puts_29 ?_
  refine lv_if_eq (tgt := 50) hx hb dX7_puts_32 rfl (fun _ => ?_) (fun c9 => absurd c9 (by decide))
  refine lv_aload_n hx hb dX7_puts_50 rfl (lv_at hl 0 rfl) ?_
  refine cgn_held hX hK hH hk (by rw [hs]; decide) dX7_puts_51 ?_
  refine va_instE hx hb hown (hts _ q1198) (cn_at2 hK hH hk hs) dX7_puts_54 ?_
  refine lv_if_eq (tgt := 74) hx hb dX7_puts_57 rfl (fun c9 => absurd c9 (by decide)) (fun _ => ?_)
  refine lv_aload_n hx hb dX7_puts_60 rfl (lv_at hl 0 rfl) ?_
  refine cgn_held hX hK hH hk (by rw [hs]; decide) dX7_puts_61 ?_
  refine va_castE hx hb hown (hts _ q1198) (cn_at2 hK hH hk hs) dX7_puts_64 ?_
  refine lv_iload_n hx hb dX7_puts_67 rfl (lv_at hl 1 rfl) ?_
  refine lv_lload_n hx hb dX7_puts_68 rfl (lv_at hl 2 rfl) ?_
  refine lv_l2i (v := p2.toInt32) hx hb dX7_puts_69 rfl ?_
  refine cn_st2 (v := cutN 2 p2) hX hK hH hk hs (cut_i _) hin dX7_puts_70 (fun H locs hH => ?_)
  refine lv_goto (tgt := 84) hx hb dX7_puts_71 rfl ?_
  refine W.widen (k := 4) (n := 300) (Nat.le_of_ble_eq_true rfl) (Nat.le_of_ble_eq_true rfl) ?_
  exact hret _ _ _ _ _ rfl hH dX7_puts_84
set_option maxHeartbeats 4000000 in
theorem met_X7_puts_x2 {l : Launch} {D : va_G} {ad : Nat → Nat} {cA : Nat → ClassId} {sA ta ba na : Nat → Nat} {gi : Nat → Option Nat} {rh : Option Nat} {rt : Option Nat} {g_sort : Int32} {g_size : Int32} {g_from : Int32} {g_to : Int32} {g_level : Int32} {g_full : Int32} {a_tape : Nat → Int32} {a_hAt : Nat → Int32} {a_hMany : Nat → Int32} {a_tAt : Nat → Int32} {a_tMany : Nat → Int32} {a_least : Nat → Int32} {a_place : Nat → Int32} {a_to : Nat → Int32} {a_order : Nat → Int32} {a_fails : Nat → Int32} {a_sKeys : Nat → Int64} {a_sRow : Nat → Int64} {a_sSlots : Nat → Int32} {a_bKeys : Nat → Int64} {a_bRow : Nat → Int64} {a_bSlots : Nat → Int32} {a_easy : Nat → Int32} {a_wants : Nat → Int32} {a_wantedBy : Nat → Int32} {a_ring : Nat → Int32} {a_carried : Nat → Int32} {a_latest : Nat → Int32} {v_taped : Int32} {v_faultKind : Int32} {v_faultPlace : Int32} {v_x : Int32} {v_ordered : Int32} {v_sought : Int32} {v_lastSought : Int32} {v_hMoved : Int32} {v_hWithout : Int32} {v_tMoved : Int32} {v_tWithout : Int32} {v_places : Int32} {v_elsewhere : Int32} {v_sMany : Int32} {v_bMany : Int32} {v_year : Int32} {y_lies : Int64} {a_rsort : Nat → Int32} {a_rmany : Nat → Int32} {a_nums : Nat → Nat → Int64}  {pl : va_W} {E : EvT} (hEX : EvX E) (hfl : l.stackTraces = false) {k : Nat} {p1 : Int32} {p2 : Int64} (hk : k < (4 : Int32).toNatClampNeg) (hs : a_rsort k = 2) (hin : ¬ vp_in p1 (a_rmany k).toNatClampNeg) : MXX l yX7_puts (ws_ yX7_puts cX7_puts 4 none) rm_X7_puts D vwA (cT cA) E [.ref (ad (29 + k)), .int p1, .long p2] (cW ad cA sA ta ba na gi rh rt g_sort g_size g_from g_to g_level g_full a_tape a_hAt a_hMany a_tAt a_tMany a_least a_place a_to a_order a_fails a_sKeys a_sRow a_sSlots a_bKeys a_bRow a_bSlots a_easy a_wants a_wantedBy a_ring a_carried a_latest v_taped v_faultKind v_faultPlace v_x v_ordered v_sought v_lastSought v_hMoved v_hWithout v_tMoved v_tWithout v_places v_elsewhere v_sMany v_bMany v_year y_lies a_rsort a_rmany a_nums pl) "java/lang/ArrayIndexOutOfBoundsException" := by
  refine MXX.of (by decide) (Nat.le_of_ble_eq_true rfl) ?_
  intro p e s m args below meth c Q A hX hK hE0 hlo hret H locs ls hH hl
  have hX : CallFix p m c cX7_puts 4 s args lw_all RX7 := hX
  have hx := hX.1
  have hb := hX.2.1
  have hown := hX.2.2.2.1
  have hts := hX.2.2.2.2
  have hE := hEX.1
  have hl : lv_has ls 4 [(0, .ref (ad (29 + k))), (1, .int p1), (2, .long p2)] := hl
  have hEv := hE.1
  have hNC := hE.2.2.1 _ _ _ hE0
  have hNW := hE.2.1 _ _ _ hE0
  refine lv_aload_n hx hb dX7_puts_0 rfl (lv_at hl 0 rfl) ?_
  refine cgn_held hX hK hH hk (by rw [hs]; decide) dX7_puts_1 ?_
  refine va_instNo hx hb hown (hts _ q1196) (hNC _ (List.mem_of_getElem? (i := 0) rfl)) (cn_at2 hK hH hk hs) dX7_puts_4 ?_
  refine lv_if_eq (tgt := 25) hx hb dX7_puts_7 rfl (fun _ => ?_) (fun c9 => absurd c9 (by decide))
  refine lv_aload_n hx hb dX7_puts_25 rfl (lv_at hl 0 rfl) ?_
  refine cgn_held hX hK hH hk (by rw [hs]; decide) dX7_puts_26 ?_
  refine va_instNo hx hb hown (hts _ q1197) (hNC _ (List.mem_of_getElem? (i := 1) rfl)) (cn_at2 hK hH hk hs) dX7_puts_29 ?_
  refine lv_if_eq (tgt := 50) hx hb dX7_puts_32 rfl (fun _ => ?_) (fun c9 => absurd c9 (by decide))
  refine lv_aload_n hx hb dX7_puts_50 rfl (lv_at hl 0 rfl) ?_
  refine cgn_held hX hK hH hk (by rw [hs]; decide) dX7_puts_51 ?_
  refine va_instE hx hb hown (hts _ q1198) (cn_at2 hK hH hk hs) dX7_puts_54 ?_
  refine lv_if_eq (tgt := 74) hx hb dX7_puts_57 rfl (fun c9 => absurd c9 (by decide)) (fun _ => ?_)
  refine lv_aload_n hx hb dX7_puts_60 rfl (lv_at hl 0 rfl) ?_
  refine cgn_held hX hK hH hk (by rw [hs]; decide) dX7_puts_61 ?_
  refine va_castE hx hb hown (hts _ q1198) (cn_at2 hK hH hk hs) dX7_puts_64 ?_
  refine lv_iload_n hx hb dX7_puts_67 rfl (lv_at hl 1 rfl) ?_
  refine lv_lload_n hx hb dX7_puts_68 rfl (lv_at hl 2 rfl) ?_
  refine lv_l2i (v := p2.toInt32) hx hb dX7_puts_69 rfl ?_
  refine cn_out2 hX hfl hEX hE0 hK hH hl hlo hk hs hin dX7_puts_70 (Nat.le_of_ble_eq_true rfl) (Nat.le_of_ble_eq_true rfl) (Nat.le_of_ble_eq_true rfl) (Nat.le_of_ble_eq_true rfl) (fun H1 q9 ce hH hq hv hcl => ?_)
  refine vx_widen (k := 4) (n := 300) (Nat.le_of_ble_eq_true rfl) (Nat.le_of_ble_eq_true rfl) ?_
  exact hret _ _ _ _ _ _ _ hH hq hv hcl
set_option maxHeartbeats 4000000 in
theorem met_X7_puts_o3 {l : Launch} {D : va_G} {ad : Nat → Nat} {cA : Nat → ClassId} {sA ta ba na : Nat → Nat} {gi : Nat → Option Nat} {rh : Option Nat} {rt : Option Nat} {g_sort : Int32} {g_size : Int32} {g_from : Int32} {g_to : Int32} {g_level : Int32} {g_full : Int32} {a_tape : Nat → Int32} {a_hAt : Nat → Int32} {a_hMany : Nat → Int32} {a_tAt : Nat → Int32} {a_tMany : Nat → Int32} {a_least : Nat → Int32} {a_place : Nat → Int32} {a_to : Nat → Int32} {a_order : Nat → Int32} {a_fails : Nat → Int32} {a_sKeys : Nat → Int64} {a_sRow : Nat → Int64} {a_sSlots : Nat → Int32} {a_bKeys : Nat → Int64} {a_bRow : Nat → Int64} {a_bSlots : Nat → Int32} {a_easy : Nat → Int32} {a_wants : Nat → Int32} {a_wantedBy : Nat → Int32} {a_ring : Nat → Int32} {a_carried : Nat → Int32} {a_latest : Nat → Int32} {v_taped : Int32} {v_faultKind : Int32} {v_faultPlace : Int32} {v_x : Int32} {v_ordered : Int32} {v_sought : Int32} {v_lastSought : Int32} {v_hMoved : Int32} {v_hWithout : Int32} {v_tMoved : Int32} {v_tWithout : Int32} {v_places : Int32} {v_elsewhere : Int32} {v_sMany : Int32} {v_bMany : Int32} {v_year : Int32} {y_lies : Int64} {a_rsort : Nat → Int32} {a_rmany : Nat → Int32} {a_nums : Nat → Nat → Int64}  {pl : va_W} {E : EvT} (hEX : EvX E) {k : Nat} {p1 : Int32} {p2 : Int64} (hk : k < (4 : Int32).toNatClampNeg) (hs : a_rsort k = 3) (hin : vp_in p1 (a_rmany k).toNatClampNeg) : MX l yX7_puts (ws_ yX7_puts cX7_puts 4 none) rm_X7_puts D vwA (cT cA) E [.ref (ad (29 + k)), .int p1, .long p2] (cW ad cA sA ta ba na gi rh rt g_sort g_size g_from g_to g_level g_full a_tape a_hAt a_hMany a_tAt a_tMany a_least a_place a_to a_order a_fails a_sKeys a_sRow a_sSlots a_bKeys a_bRow a_bSlots a_easy a_wants a_wantedBy a_ring a_carried a_latest v_taped v_faultKind v_faultPlace v_x v_ordered v_sought v_lastSought v_hMoved v_hWithout v_tMoved v_tWithout v_places v_elsewhere v_sMany v_bMany v_year y_lies a_rsort a_rmany a_nums pl) (fun z => z = (cW ad cA sA ta ba na gi rh rt g_sort g_size g_from g_to g_level g_full a_tape a_hAt a_hMany a_tAt a_tMany a_least a_place a_to a_order a_fails a_sKeys a_sRow a_sSlots a_bKeys a_bRow a_bSlots a_easy a_wants a_wantedBy a_ring a_carried a_latest v_taped v_faultKind v_faultPlace v_x v_ordered v_sought v_lastSought v_hMoved v_hWithout v_tMoved v_tWithout v_places v_elsewhere v_sMany v_bMany v_year y_lies a_rsort a_rmany (putN a_nums k p1.toNatClampNeg (cutN 3 p2)) pl)) none := by
  refine MX.ofV (by decide) (Nat.le_of_ble_eq_true rfl) ?_
  intro p e s m args below meth c Q A hX hK hE0 hname hret H locs ls hH hl
  have hX : CallFix p m c cX7_puts 4 s args lw_all RX7 := hX
  have hx := hX.1
  have hb := hX.2.1
  have hown := hX.2.2.2.1
  have hts := hX.2.2.2.2
  have hE := hEX.1
  have hl : lv_has ls 4 [(0, .ref (ad (29 + k))), (1, .int p1), (2, .long p2)] := hl
  have hEv := hE.1
  have hNC := hE.2.2.1 _ _ _ hE0
  have hNW := hE.2.1 _ _ _ hE0
  refine lv_aload_n hx hb dX7_puts_0 rfl (lv_at hl 0 rfl) ?_
  refine cgn_held hX hK hH hk (by rw [hs]; decide) dX7_puts_1 ?_
  refine va_instNo hx hb hown (hts _ q1196) (hNC _ (List.mem_of_getElem? (i := 2) rfl)) (cn_at3 hK hH hk hs) dX7_puts_4 ?_
  refine lv_if_eq (tgt := 25) hx hb dX7_puts_7 rfl (fun _ => ?_) (fun c9 => absurd c9 (by decide))
  refine lv_aload_n hx hb dX7_puts_25 rfl (lv_at hl 0 rfl) ?_
  refine cgn_held hX hK hH hk (by rw [hs]; decide) dX7_puts_26 ?_
  refine va_instNo hx hb hown (hts _ q1197) (hNC _ (List.mem_of_getElem? (i := 4) rfl)) (cn_at3 hK hH hk hs) dX7_puts_29 ?_
  refine lv_if_eq (tgt := 50) hx hb dX7_puts_32 rfl (fun _ => ?_) (fun c9 => absurd c9 (by decide))
  refine lv_aload_n hx hb dX7_puts_50 rfl (lv_at hl 0 rfl) ?_
  refine cgn_held hX hK hH hk (by rw [hs]; decide) dX7_puts_51 ?_
  refine va_instNo hx hb hown (hts _ q1198) (hNC _ (List.mem_of_getElem? (i := 3) rfl)) (cn_at3 hK hH hk hs) dX7_puts_54 ?_
  refine lv_if_eq (tgt := 74) hx hb dX7_puts_57 rfl (fun _ => ?_) (fun c9 => absurd c9 (by decide))
  refine lv_aload_n hx hb dX7_puts_74 rfl (lv_at hl 0 rfl) ?_
  refine cgn_held hX hK hH hk (by rw [hs]; decide) dX7_puts_75 ?_
  refine va_castE hx hb hown (hts _ q1199) (cn_at3 hK hH hk hs) dX7_puts_78 ?_
  refine lv_iload_n hx hb dX7_puts_81 rfl (lv_at hl 1 rfl) ?_
  refine lv_lload_n hx hb dX7_puts_82 rfl (lv_at hl 2 rfl) ?_
  refine cn_st3 (v := cutN 3 p2) hX hK hH hk hs hin dX7_puts_83 (fun H locs hH => ?_)
  refine W.widen (k := 4) (n := 300) (Nat.le_of_ble_eq_true rfl) (Nat.le_of_ble_eq_true rfl) ?_
  exact hret _ _ _ _ _ rfl hH dX7_puts_84
set_option maxHeartbeats 4000000 in
theorem met_X7_puts_x3 {l : Launch} {D : va_G} {ad : Nat → Nat} {cA : Nat → ClassId} {sA ta ba na : Nat → Nat} {gi : Nat → Option Nat} {rh : Option Nat} {rt : Option Nat} {g_sort : Int32} {g_size : Int32} {g_from : Int32} {g_to : Int32} {g_level : Int32} {g_full : Int32} {a_tape : Nat → Int32} {a_hAt : Nat → Int32} {a_hMany : Nat → Int32} {a_tAt : Nat → Int32} {a_tMany : Nat → Int32} {a_least : Nat → Int32} {a_place : Nat → Int32} {a_to : Nat → Int32} {a_order : Nat → Int32} {a_fails : Nat → Int32} {a_sKeys : Nat → Int64} {a_sRow : Nat → Int64} {a_sSlots : Nat → Int32} {a_bKeys : Nat → Int64} {a_bRow : Nat → Int64} {a_bSlots : Nat → Int32} {a_easy : Nat → Int32} {a_wants : Nat → Int32} {a_wantedBy : Nat → Int32} {a_ring : Nat → Int32} {a_carried : Nat → Int32} {a_latest : Nat → Int32} {v_taped : Int32} {v_faultKind : Int32} {v_faultPlace : Int32} {v_x : Int32} {v_ordered : Int32} {v_sought : Int32} {v_lastSought : Int32} {v_hMoved : Int32} {v_hWithout : Int32} {v_tMoved : Int32} {v_tWithout : Int32} {v_places : Int32} {v_elsewhere : Int32} {v_sMany : Int32} {v_bMany : Int32} {v_year : Int32} {y_lies : Int64} {a_rsort : Nat → Int32} {a_rmany : Nat → Int32} {a_nums : Nat → Nat → Int64}  {pl : va_W} {E : EvT} (hEX : EvX E) (hfl : l.stackTraces = false) {k : Nat} {p1 : Int32} {p2 : Int64} (hk : k < (4 : Int32).toNatClampNeg) (hs : a_rsort k = 3) (hin : ¬ vp_in p1 (a_rmany k).toNatClampNeg) : MXX l yX7_puts (ws_ yX7_puts cX7_puts 4 none) rm_X7_puts D vwA (cT cA) E [.ref (ad (29 + k)), .int p1, .long p2] (cW ad cA sA ta ba na gi rh rt g_sort g_size g_from g_to g_level g_full a_tape a_hAt a_hMany a_tAt a_tMany a_least a_place a_to a_order a_fails a_sKeys a_sRow a_sSlots a_bKeys a_bRow a_bSlots a_easy a_wants a_wantedBy a_ring a_carried a_latest v_taped v_faultKind v_faultPlace v_x v_ordered v_sought v_lastSought v_hMoved v_hWithout v_tMoved v_tWithout v_places v_elsewhere v_sMany v_bMany v_year y_lies a_rsort a_rmany a_nums pl) "java/lang/ArrayIndexOutOfBoundsException" := by
  refine MXX.of (by decide) (Nat.le_of_ble_eq_true rfl) ?_
  intro p e s m args below meth c Q A hX hK hE0 hlo hret H locs ls hH hl
  have hX : CallFix p m c cX7_puts 4 s args lw_all RX7 := hX
  have hx := hX.1
  have hb := hX.2.1
  have hown := hX.2.2.2.1
  have hts := hX.2.2.2.2
  have hE := hEX.1
  have hl : lv_has ls 4 [(0, .ref (ad (29 + k))), (1, .int p1), (2, .long p2)] := hl
  have hEv := hE.1
  have hNC := hE.2.2.1 _ _ _ hE0
  have hNW := hE.2.1 _ _ _ hE0
  refine lv_aload_n hx hb dX7_puts_0 rfl (lv_at hl 0 rfl) ?_
  refine cgn_held hX hK hH hk (by rw [hs]; decide) dX7_puts_1 ?_
  refine va_instNo hx hb hown (hts _ q1196) (hNC _ (List.mem_of_getElem? (i := 2) rfl)) (cn_at3 hK hH hk hs) dX7_puts_4 ?_
  refine lv_if_eq (tgt := 25) hx hb dX7_puts_7 rfl (fun _ => ?_) (fun c9 => absurd c9 (by decide))
  refine lv_aload_n hx hb dX7_puts_25 rfl (lv_at hl 0 rfl) ?_
  refine cgn_held hX hK hH hk (by rw [hs]; decide) dX7_puts_26 ?_
  refine va_instNo hx hb hown (hts _ q1197) (hNC _ (List.mem_of_getElem? (i := 4) rfl)) (cn_at3 hK hH hk hs) dX7_puts_29 ?_
  refine lv_if_eq (tgt := 50) hx hb dX7_puts_32 rfl (fun _ => ?_) (fun c9 => absurd c9 (by decide))
  refine lv_aload_n hx hb dX7_puts_50 rfl (lv_at hl 0 rfl) ?_
  refine cgn_held hX hK hH hk (by rw [hs]; decide) dX7_puts_51 ?_
  refine va_instNo hx hb hown (hts _ q1198) (hNC _ (List.mem_of_getElem? (i := 3) rfl)) (cn_at3 hK hH hk hs) dX7_puts_54 ?_
  refine lv_if_eq (tgt := 74) hx hb dX7_puts_57 rfl (fun _ => ?_) (fun c9 => absurd c9 (by decide))
  refine lv_aload_n hx hb dX7_puts_74 rfl (lv_at hl 0 rfl) ?_
  refine cgn_held hX hK hH hk (by rw [hs]; decide) dX7_puts_75 ?_
  refine va_castE hx hb hown (hts _ q1199) (cn_at3 hK hH hk hs) dX7_puts_78 ?_
  refine lv_iload_n hx hb dX7_puts_81 rfl (lv_at hl 1 rfl) ?_
  refine lv_lload_n hx hb dX7_puts_82 rfl (lv_at hl 2 rfl) ?_
  refine cn_out3 hX hfl hEX hE0 hK hH hl hlo hk hs hin dX7_puts_83 (Nat.le_of_ble_eq_true rfl) (Nat.le_of_ble_eq_true rfl) (Nat.le_of_ble_eq_true rfl) (Nat.le_of_ble_eq_true rfl) (fun H1 q9 ce hH hq hv hcl => ?_)
  refine vx_widen (k := 4) (n := 300) (Nat.le_of_ble_eq_true rfl) (Nat.le_of_ble_eq_true rfl) ?_
  exact hret _ _ _ _ _ _ _ hH hq hv hcl
set_option maxHeartbeats 4000000 in
theorem met_X7_puts_n {l : Launch} {D : va_G} {ad : Nat → Nat} {cA : Nat → ClassId} {sA ta ba na : Nat → Nat} {gi : Nat → Option Nat} {rh : Option Nat} {rt : Option Nat} {g_sort : Int32} {g_size : Int32} {g_from : Int32} {g_to : Int32} {g_level : Int32} {g_full : Int32} {a_tape : Nat → Int32} {a_hAt : Nat → Int32} {a_hMany : Nat → Int32} {a_tAt : Nat → Int32} {a_tMany : Nat → Int32} {a_least : Nat → Int32} {a_place : Nat → Int32} {a_to : Nat → Int32} {a_order : Nat → Int32} {a_fails : Nat → Int32} {a_sKeys : Nat → Int64} {a_sRow : Nat → Int64} {a_sSlots : Nat → Int32} {a_bKeys : Nat → Int64} {a_bRow : Nat → Int64} {a_bSlots : Nat → Int32} {a_easy : Nat → Int32} {a_wants : Nat → Int32} {a_wantedBy : Nat → Int32} {a_ring : Nat → Int32} {a_carried : Nat → Int32} {a_latest : Nat → Int32} {v_taped : Int32} {v_faultKind : Int32} {v_faultPlace : Int32} {v_x : Int32} {v_ordered : Int32} {v_sought : Int32} {v_lastSought : Int32} {v_hMoved : Int32} {v_hWithout : Int32} {v_tMoved : Int32} {v_tWithout : Int32} {v_places : Int32} {v_elsewhere : Int32} {v_sMany : Int32} {v_bMany : Int32} {v_year : Int32} {y_lies : Int64} {a_rsort : Nat → Int32} {a_rmany : Nat → Int32} {a_nums : Nat → Nat → Int64}  {pl : va_W} {E : EvT} (hEX : EvX E) (hfl : l.stackTraces = false) {k : Nat} {p1 : Int32} {p2 : Int64} (hk : k < (4 : Int32).toNatClampNeg) (hs : a_rsort k = (-1)) : MXX l yX7_puts (ws_ yX7_puts cX7_puts 4 none) rm_X7_puts D vwA (cT cA) E [.ref (ad (29 + k)), .int p1, .long p2] (cW ad cA sA ta ba na gi rh rt g_sort g_size g_from g_to g_level g_full a_tape a_hAt a_hMany a_tAt a_tMany a_least a_place a_to a_order a_fails a_sKeys a_sRow a_sSlots a_bKeys a_bRow a_bSlots a_easy a_wants a_wantedBy a_ring a_carried a_latest v_taped v_faultKind v_faultPlace v_x v_ordered v_sought v_lastSought v_hMoved v_hWithout v_tMoved v_tWithout v_places v_elsewhere v_sMany v_bMany v_year y_lies a_rsort a_rmany a_nums pl) "java/lang/NullPointerException" := by
  refine MXX.of (by decide) (Nat.le_of_ble_eq_true rfl) ?_
  intro p e s m args below meth c Q A hX hK hE0 hlo hret H locs ls hH hl
  have hX : CallFix p m c cX7_puts 4 s args lw_all RX7 := hX
  have hx := hX.1
  have hb := hX.2.1
  have hown := hX.2.2.2.1
  have hts := hX.2.2.2.2
  have hE := hEX.1
  have hl : lv_has ls 4 [(0, .ref (ad (29 + k))), (1, .int p1), (2, .long p2)] := hl
  have hEv := hE.1
  have hNC := hE.2.2.1 _ _ _ hE0
  have hNW := hE.2.1 _ _ _ hE0
  refine lv_aload_n hx hb dX7_puts_0 rfl (lv_at hl 0 rfl) ?_
  refine cgn_null hX hK hH hk hs dX7_puts_1 ?_
  refine lv_instN hx hb dX7_puts_4 ?_
  refine lv_if_eq (tgt := 25) hx hb dX7_puts_7 rfl (fun _ => ?_) (fun c9 => absurd rfl c9)
  refine lv_aload_n hx hb dX7_puts_25 rfl (lv_at hl 0 rfl) ?_
  refine cgn_null hX hK hH hk hs dX7_puts_26 ?_
  refine lv_instN hx hb dX7_puts_29 ?_
  refine lv_if_eq (tgt := 50) hx hb dX7_puts_32 rfl (fun _ => ?_) (fun c9 => absurd rfl c9)
  refine lv_aload_n hx hb dX7_puts_50 rfl (lv_at hl 0 rfl) ?_
  refine cgn_null hX hK hH hk hs dX7_puts_51 ?_
  refine lv_instN hx hb dX7_puts_54 ?_
  refine lv_if_eq (tgt := 74) hx hb dX7_puts_57 rfl (fun _ => ?_) (fun c9 => absurd rfl c9)
  refine lv_aload_n hx hb dX7_puts_74 rfl (lv_at hl 0 rfl) ?_
  refine cgn_null hX hK hH hk hs dX7_puts_75 ?_
  refine lv_castN hx hb dX7_puts_78 ?_
  refine lv_iload_n hx hb dX7_puts_81 rfl (lv_at hl 1 rfl) ?_
  refine lv_lload_n hx hb dX7_puts_82 rfl (lv_at hl 2 rfl) ?_
  refine ex_npe hX hfl hEX hE0 hH hl hlo dX7_puts_83 (Nat.le_of_ble_eq_true rfl) (Nat.le_of_ble_eq_true rfl) (Nat.le_of_ble_eq_true rfl) (Nat.le_of_ble_eq_true rfl) (fun H1 q9 ce hH hq hv hcl => ?_)
  refine vx_widen (k := 4) (n := 300) (Nat.le_of_ble_eq_true rfl) (Nat.le_of_ble_eq_true rfl) ?_
  exact hret _ _ _ _ _ _ _ hH hq hv hcl
noncomputable def FX0_write (rs rm : Nat → Int32) (nu : Nat → Nat → Int64) (p1 p2 : Int32) (p3 : Int64) : Option (Int64 × (Nat → Nat → Int64)) :=
  bd1 (FX0_isNumbers p1) fun b => if b2i b = 0 then some (-2, nu) else
  bd0 (alg 4 p1) (if rs p1.toNatClampNeg = -1 then some (-6, nu) else if 0 ≤ rs p1.toNatClampNeg ∧ rs p1.toNatClampNeg ≤ 3 then (if ¬ (p2 < 0 ∨ (rm p1.toNatClampNeg).toNatClampNeg ≤ p2.toNatClampNeg) then bd1 (numAt rs rm (putN nu p1.toNatClampNeg p2.toNatClampNeg (cutN (rs p1.toNatClampNeg) p3)) p1.toNatClampNeg p2) fun r => some (r, putN nu p1.toNatClampNeg p2.toNatClampNeg (cutN (rs p1.toNatClampNeg) p3)) else some (-7, nu)) else none)
abbrev rm_X0_write : Room := { frames := 12, cells := 4, slots := 300, locals := 10400 }
theorem hd_puts : yX7_puts.cls = RX7 ∧ yX7_puts.cls ≠ "java/lang/invoke/MethodHandle" ∧ yX7_puts.cls ≠ "java/lang/invoke/VarHandle" ∧ (parseMethodDescriptor yX7_puts.desc).map (fun d => d.parameters.length) = some 2 := by decide +kernel
theorem re2w {a b : Int64} {g h : Nat → Nat → Int64} (k : some (a, g) = some (b, h)) : a = b ∧ g = h := by cases k; exact ⟨rfl, rfl⟩
set_option maxHeartbeats 4000000 in
theorem met_X0_write {l : Launch} {D : va_G} {ad : Nat → Nat} {cA : Nat → ClassId} {sA ta ba na : Nat → Nat} {gi : Nat → Option Nat} {rh : Option Nat} {rt : Option Nat} {g_sort : Int32} {g_size : Int32} {g_from : Int32} {g_to : Int32} {g_level : Int32} {g_full : Int32} {a_tape : Nat → Int32} {a_hAt : Nat → Int32} {a_hMany : Nat → Int32} {a_tAt : Nat → Int32} {a_tMany : Nat → Int32} {a_least : Nat → Int32} {a_place : Nat → Int32} {a_to : Nat → Int32} {a_order : Nat → Int32} {a_fails : Nat → Int32} {a_sKeys : Nat → Int64} {a_sRow : Nat → Int64} {a_sSlots : Nat → Int32} {a_bKeys : Nat → Int64} {a_bRow : Nat → Int64} {a_bSlots : Nat → Int32} {a_easy : Nat → Int32} {a_wants : Nat → Int32} {a_wantedBy : Nat → Int32} {a_ring : Nat → Int32} {a_carried : Nat → Int32} {a_latest : Nat → Int32} {v_taped : Int32} {v_faultKind : Int32} {v_faultPlace : Int32} {v_x : Int32} {v_ordered : Int32} {v_sought : Int32} {v_lastSought : Int32} {v_hMoved : Int32} {v_hWithout : Int32} {v_tMoved : Int32} {v_tWithout : Int32} {v_places : Int32} {v_elsewhere : Int32} {v_sMany : Int32} {v_bMany : Int32} {v_year : Int32} {y_lies : Int64} {a_rsort : Nat → Int32} {a_rmany : Nat → Int32} {a_nums : Nat → Nat → Int64}  {pl : va_W} {E : EvT} {t : Nat → Int32} {nb : Int32} {bv : Nat → Int32 → Int32 → Int32 → Int32 → Int32 → Int32 → Bool} {p1 p2 : Int32} {p3 q_ans : Int64} {q_nu : Nat → Nat → Int64} (hEX : EvX E) (hfl : l.stackTraces = false) (hPO : PO cA pl ta ba t nb bv) (hF : FX0_write a_rsort a_rmany a_nums p1 p2 p3 = some (q_ans, q_nu)) : MX l yX0_write (wsW_ yX0_write cX0_write 6 (some .long) [(11, 32, 33, 516), (11, 32, 39, 520)]) rm_X0_write D vwA (cT cA) E [.ref (ad 0), .int p1, .int p2, .long p3] (cW ad cA sA ta ba na gi rh rt g_sort g_size g_from g_to g_level g_full a_tape a_hAt a_hMany a_tAt a_tMany a_least a_place a_to a_order a_fails a_sKeys a_sRow a_sSlots a_bKeys a_bRow a_bSlots a_easy a_wants a_wantedBy a_ring a_carried a_latest v_taped v_faultKind v_faultPlace v_x v_ordered v_sought v_lastSought v_hMoved v_hWithout v_tMoved v_tWithout v_places v_elsewhere v_sMany v_bMany v_year y_lies a_rsort a_rmany a_nums pl) (fun z => z = (cW ad cA sA ta ba na gi rh rt g_sort g_size g_from g_to g_level g_full a_tape a_hAt a_hMany a_tAt a_tMany a_least a_place a_to a_order a_fails a_sKeys a_sRow a_sSlots a_bKeys a_bRow a_bSlots a_easy a_wants a_wantedBy a_ring a_carried a_latest v_taped v_faultKind v_faultPlace v_x v_ordered v_sought v_lastSought v_hMoved v_hWithout v_tMoved v_tWithout v_places v_elsewhere v_sMany v_bMany v_year y_lies a_rsort a_rmany q_nu pl)) (some (.long q_ans)) := by
  refine MX.ofLW (hh := [(11, 32, 33, 516), (11, 32, 39, 520)]) (by decide) (Nat.le_of_ble_eq_true rfl) ?_
  intro p e s m args below meth c Q A hX hK hE0 htab hlo hret H locs ls hH hl
  have hX : CallFix p m c cX0_write 6 s args lw_all RX0 := hX
  have hx := hX.1
  have hb := hX.2.1
  have hown := hX.2.2.2.1
  have hts := hX.2.2.2.2
  have hE := hEX.1
  have hEv := hE.1
  have hNW := hE.2.1 _ _ _ hE0
  have hNc := (hEX.2 _ _ _ hE0).2.2
  have hl : lv_has ls 6 [(0, .ref (ad 0)), (1, .int p1), (2, .int p2), (3, .long p3)] := hl
  delta FX0_write at hF
  refine lv_iload_n hx hb dX0_write_0 rfl (lv_at hl 1 rfl) ?_
  obtain ⟨b1, he, hF⟩ := bd1e hF
  refine mxS hX hK hEv hE0 hH (met_X0_isNumbers hE hPO he) gw_StoneYear_305 hd_yX0_isNumbers ⟨Nat.le_of_ble_eq_true rfl, Nat.le_of_ble_eq_true rfl⟩ rfl rfl hl (Nat.le_of_ble_eq_true rfl) dX0_write_1 ⟨Nat.le_of_ble_eq_true rfl, Nat.le_of_ble_eq_true rfl⟩ (fun w2 H locs hw hH => ?_)
  subst hw
  refine lv_if_ne (tgt := 11) hx hb dX0_write_4 rfl (fun c1 => ?_) (fun c1 => ?_)
  rotate_left
  · have hF := itp c1 hF
    refine lv_ldc2 (v := -2) hx hb hown (hts _ q1591) dX0_write_7 ?_
    obtain ⟨rfl, rfl⟩ := re2w hF
    refine W.widen (k := 4) (n := 300) (Nat.le_of_ble_eq_true rfl) (Nat.le_of_ble_eq_true rfl) ?_
    exact hret _ _ _ _ _ rfl hH dX0_write_10
  have hF := itn c1 hF
  obtain ⟨hg, hF⟩ := bd0e hF
  have hk : p1.toNatClampNeg < (4 : Int32).toNatClampNeg := alg_lt hg
  refine lv_aload_n hx hb dX0_write_11 rfl (lv_at hl 0 rfl) ?_
  refine cg_Y_this_rows hX hK hNW hH dX0_write_12 ?_
  refine lv_iload_n hx hb dX0_write_15 rfl (lv_at hl 1 rfl) ?_
  refine cl_rows hX hK hH hg dX0_write_16 ?_
  refine lv_iload_n hx hb dX0_write_17 rfl (lv_at hl 2 rfl) ?_
  refine lv_lload_n hx hb dX0_write_18 rfl (lv_at hl 3 rfl) ?_
  by_cases hm1 : a_rsort p1.toNatClampNeg = -1
  · have hF := itp hm1 hF
    obtain ⟨rfl, rfl⟩ := re2w hF
    refine mxVX hX hK hEv hE0 hH (met_X7_puts_n hEX hfl hk hm1) (nrecv hK hH hk) (lw_V q1592 q1593 q1594 q139 q1595) hd_puts ⟨Nat.le_of_ble_eq_true rfl, Nat.le_of_ble_eq_true rfl⟩ rfl rfl hl (Nat.le_of_ble_eq_true rfl) dX0_write_19 ⟨Nat.le_of_ble_eq_true rfl, Nat.le_of_ble_eq_true rfl⟩ (fun H1 locs1 q9 ce hH hq hv hcl => ?_)
    refine vx_catch (name := "java/lang/NullPointerException") hown [] ⟨11, 32, 33, 516⟩ [⟨11, 32, 39, 520⟩] (htab.trans rfl) (fun z h => nomatch h) rfl (by decide) (hts _ q1547) (va_Nw.use rfl (hNW _ nw_q1569)) hq hv hcl ?_
    refine lv_astore (lv' := [(5, .ref q9), (0, .ref (ad 0)), (1, .int p1), (2, .int p2), (3, .long p3)]) hx hb dX0_write_33 hl (by decide) rfl (fun ls hl => ?_)
    refine lv_ldc2 (v := -6) hx hb hown (hts _ q1596) dX0_write_35 ?_
    refine W.widen (k := 4) (n := 300) (Nat.le_of_ble_eq_true rfl) (Nat.le_of_ble_eq_true rfl) ?_
    exact hret _ _ _ _ _ rfl hH dX0_write_38
  have hF := itn hm1 hF
  by_cases h03 : 0 ≤ a_rsort p1.toNatClampNeg ∧ a_rsort p1.toNatClampNeg ≤ 3
  rotate_left
  · have hF := itn h03 hF
    cases hF
  have hF := itp h03 hF
  rcases i32_03 h03 with h03 | h03 | h03 | h03
  · have hs : a_rsort p1.toNatClampNeg = 0 := h03
    by_cases hin : ¬ (p2 < 0 ∨ (a_rmany p1.toNatClampNeg).toNatClampNeg ≤ p2.toNatClampNeg)
    · have hF := itp hin hF
      rw [hs] at hF
      obtain ⟨r, he, hF⟩ := bd1e hF
      obtain ⟨rfl, rfl⟩ := re2w hF
      refine mxV hX hK hEv hE0 hH (met_X7_puts_o0 hEX hk hs hin) (nrecv hK hH hk) (lw_V q1592 q1593 q1594 q139 q1595) hd_puts ⟨Nat.le_of_ble_eq_true rfl, Nat.le_of_ble_eq_true rfl⟩ rfl rfl hl (Nat.le_of_ble_eq_true rfl) dX0_write_19 ⟨Nat.le_of_ble_eq_true rfl, Nat.le_of_ble_eq_true rfl⟩ (fun w2 H locs hw hH => ?_)
      subst hw
      refine lv_aload_n hx hb dX0_write_22 rfl (lv_at hl 0 rfl) ?_
      refine cg_Y_this_rows hX hK hNW hH dX0_write_23 ?_
      refine lv_iload_n hx hb dX0_write_26 rfl (lv_at hl 1 rfl) ?_
      refine cl_rows hX hK hH hg dX0_write_27 ?_
      refine lv_iload_n hx hb dX0_write_28 rfl (lv_at hl 2 rfl) ?_
      refine ck_number hPO hX hK hE hE0 hNW hH hk he q1200 hl ⟨Nat.le_of_ble_eq_true rfl, Nat.le_of_ble_eq_true rfl⟩ ⟨Nat.le_of_ble_eq_true rfl, Nat.le_of_ble_eq_true rfl⟩ (Nat.le_of_ble_eq_true rfl) dX0_write_29 (fun H locs hH => ?_)
      refine W.widen (k := 4) (n := 300) (Nat.le_of_ble_eq_true rfl) (Nat.le_of_ble_eq_true rfl) ?_
      exact hret _ _ _ _ _ rfl hH dX0_write_32
    · have hF := itn hin hF
      obtain ⟨rfl, rfl⟩ := re2w hF
      refine mxVX hX hK hEv hE0 hH (met_X7_puts_x0 hEX hfl hk hs hin) (nrecv hK hH hk) (lw_V q1592 q1593 q1594 q139 q1595) hd_puts ⟨Nat.le_of_ble_eq_true rfl, Nat.le_of_ble_eq_true rfl⟩ rfl rfl hl (Nat.le_of_ble_eq_true rfl) dX0_write_19 ⟨Nat.le_of_ble_eq_true rfl, Nat.le_of_ble_eq_true rfl⟩ (fun H1 locs1 q9 ce hH hq hv hcl => ?_)
      refine vx_catch (name := "java/lang/ArrayIndexOutOfBoundsException") hown [⟨11, 32, 33, 516⟩] ⟨11, 32, 39, 520⟩ [] (htab.trans rfl) (fun z h => Or.inr (by cases List.mem_singleton.mp h; exact ⟨by decide, _, hts _ q1547, hNc⟩)) rfl (by decide) (hts _ q1572) (va_Nw.use rfl (hNW _ nw_q1587)) hq hv hcl ?_
      refine lv_astore (lv' := [(5, .ref q9), (0, .ref (ad 0)), (1, .int p1), (2, .int p2), (3, .long p3)]) hx hb dX0_write_39 hl (by decide) rfl (fun ls hl => ?_)
      refine lv_ldc2 (v := -7) hx hb hown (hts _ q1597) dX0_write_41 ?_
      refine W.widen (k := 4) (n := 300) (Nat.le_of_ble_eq_true rfl) (Nat.le_of_ble_eq_true rfl) ?_
      exact hret _ _ _ _ _ rfl hH dX0_write_44
  · have hs : a_rsort p1.toNatClampNeg = 1 := h03
    by_cases hin : ¬ (p2 < 0 ∨ (a_rmany p1.toNatClampNeg).toNatClampNeg ≤ p2.toNatClampNeg)
    · have hF := itp hin hF
      rw [hs] at hF
      obtain ⟨r, he, hF⟩ := bd1e hF
      obtain ⟨rfl, rfl⟩ := re2w hF
      refine mxV hX hK hEv hE0 hH (met_X7_puts_o1 hEX hk hs hin) (nrecv hK hH hk) (lw_V q1592 q1593 q1594 q139 q1595) hd_puts ⟨Nat.le_of_ble_eq_true rfl, Nat.le_of_ble_eq_true rfl⟩ rfl rfl hl (Nat.le_of_ble_eq_true rfl) dX0_write_19 ⟨Nat.le_of_ble_eq_true rfl, Nat.le_of_ble_eq_true rfl⟩ (fun w2 H locs hw hH => ?_)
      subst hw
      refine lv_aload_n hx hb dX0_write_22 rfl (lv_at hl 0 rfl) ?_
      refine cg_Y_this_rows hX hK hNW hH dX0_write_23 ?_
      refine lv_iload_n hx hb dX0_write_26 rfl (lv_at hl 1 rfl) ?_
      refine cl_rows hX hK hH hg dX0_write_27 ?_
      refine lv_iload_n hx hb dX0_write_28 rfl (lv_at hl 2 rfl) ?_
      refine ck_number hPO hX hK hE hE0 hNW hH hk he q1200 hl ⟨Nat.le_of_ble_eq_true rfl, Nat.le_of_ble_eq_true rfl⟩ ⟨Nat.le_of_ble_eq_true rfl, Nat.le_of_ble_eq_true rfl⟩ (Nat.le_of_ble_eq_true rfl) dX0_write_29 (fun H locs hH => ?_)
      refine W.widen (k := 4) (n := 300) (Nat.le_of_ble_eq_true rfl) (Nat.le_of_ble_eq_true rfl) ?_
      exact hret _ _ _ _ _ rfl hH dX0_write_32
    · have hF := itn hin hF
      obtain ⟨rfl, rfl⟩ := re2w hF
      refine mxVX hX hK hEv hE0 hH (met_X7_puts_x1 hEX hfl hk hs hin) (nrecv hK hH hk) (lw_V q1592 q1593 q1594 q139 q1595) hd_puts ⟨Nat.le_of_ble_eq_true rfl, Nat.le_of_ble_eq_true rfl⟩ rfl rfl hl (Nat.le_of_ble_eq_true rfl) dX0_write_19 ⟨Nat.le_of_ble_eq_true rfl, Nat.le_of_ble_eq_true rfl⟩ (fun H1 locs1 q9 ce hH hq hv hcl => ?_)
      refine vx_catch (name := "java/lang/ArrayIndexOutOfBoundsException") hown [⟨11, 32, 33, 516⟩] ⟨11, 32, 39, 520⟩ [] (htab.trans rfl) (fun z h => Or.inr (by cases List.mem_singleton.mp h; exact ⟨by decide, _, hts _ q1547, hNc⟩)) rfl (by decide) (hts _ q1572) (va_Nw.use rfl (hNW _ nw_q1587)) hq hv hcl ?_
      refine lv_astore (lv' := [(5, .ref q9), (0, .ref (ad 0)), (1, .int p1), (2, .int p2), (3, .long p3)]) hx hb dX0_write_39 hl (by decide) rfl (fun ls hl => ?_)
      refine lv_ldc2 (v := -7) hx hb hown (hts _ q1597) dX0_write_41 ?_
      refine W.widen (k := 4) (n := 300) (Nat.le_of_ble_eq_true rfl) (Nat.le_of_ble_eq_true rfl) ?_
      exact hret _ _ _ _ _ rfl hH dX0_write_44
  · have hs : a_rsort p1.toNatClampNeg = 2 := h03
    by_cases hin : ¬ (p2 < 0 ∨ (a_rmany p1.toNatClampNeg).toNatClampNeg ≤ p2.toNatClampNeg)
    · have hF := itp hin hF
      rw [hs] at hF
      obtain ⟨r, he, hF⟩ := bd1e hF
      obtain ⟨rfl, rfl⟩ := re2w hF
      refine mxV hX hK hEv hE0 hH (met_X7_puts_o2 hEX hk hs hin) (nrecv hK hH hk) (lw_V q1592 q1593 q1594 q139 q1595) hd_puts ⟨Nat.le_of_ble_eq_true rfl, Nat.le_of_ble_eq_true rfl⟩ rfl rfl hl (Nat.le_of_ble_eq_true rfl) dX0_write_19 ⟨Nat.le_of_ble_eq_true rfl, Nat.le_of_ble_eq_true rfl⟩ (fun w2 H locs hw hH => ?_)
      subst hw
      refine lv_aload_n hx hb dX0_write_22 rfl (lv_at hl 0 rfl) ?_
      refine cg_Y_this_rows hX hK hNW hH dX0_write_23 ?_
      refine lv_iload_n hx hb dX0_write_26 rfl (lv_at hl 1 rfl) ?_
      refine cl_rows hX hK hH hg dX0_write_27 ?_
      refine lv_iload_n hx hb dX0_write_28 rfl (lv_at hl 2 rfl) ?_
      refine ck_number hPO hX hK hE hE0 hNW hH hk he q1200 hl ⟨Nat.le_of_ble_eq_true rfl, Nat.le_of_ble_eq_true rfl⟩ ⟨Nat.le_of_ble_eq_true rfl, Nat.le_of_ble_eq_true rfl⟩ (Nat.le_of_ble_eq_true rfl) dX0_write_29 (fun H locs hH => ?_)
      refine W.widen (k := 4) (n := 300) (Nat.le_of_ble_eq_true rfl) (Nat.le_of_ble_eq_true rfl) ?_
      exact hret _ _ _ _ _ rfl hH dX0_write_32
    · have hF := itn hin hF
      obtain ⟨rfl, rfl⟩ := re2w hF
      refine mxVX hX hK hEv hE0 hH (met_X7_puts_x2 hEX hfl hk hs hin) (nrecv hK hH hk) (lw_V q1592 q1593 q1594 q139 q1595) hd_puts ⟨Nat.le_of_ble_eq_true rfl, Nat.le_of_ble_eq_true rfl⟩ rfl rfl hl (Nat.le_of_ble_eq_true rfl) dX0_write_19 ⟨Nat.le_of_ble_eq_true rfl, Nat.le_of_ble_eq_true rfl⟩ (fun H1 locs1 q9 ce hH hq hv hcl => ?_)
      refine vx_catch (name := "java/lang/ArrayIndexOutOfBoundsException") hown [⟨11, 32, 33, 516⟩] ⟨11, 32, 39, 520⟩ [] (htab.trans rfl) (fun z h => Or.inr (by cases List.mem_singleton.mp h; exact ⟨by decide, _, hts _ q1547, hNc⟩)) rfl (by decide) (hts _ q1572) (va_Nw.use rfl (hNW _ nw_q1587)) hq hv hcl ?_
      refine lv_astore (lv' := [(5, .ref q9), (0, .ref (ad 0)), (1, .int p1), (2, .int p2), (3, .long p3)]) hx hb dX0_write_39 hl (by decide) rfl (fun ls hl => ?_)
      refine lv_ldc2 (v := -7) hx hb hown (hts _ q1597) dX0_write_41 ?_
      refine W.widen (k := 4) (n := 300) (Nat.le_of_ble_eq_true rfl) (Nat.le_of_ble_eq_true rfl) ?_
      exact hret _ _ _ _ _ rfl hH dX0_write_44
  · have hs : a_rsort p1.toNatClampNeg = 3 := h03
    by_cases hin : ¬ (p2 < 0 ∨ (a_rmany p1.toNatClampNeg).toNatClampNeg ≤ p2.toNatClampNeg)
    · have hF := itp hin hF
      rw [hs] at hF
      obtain ⟨r, he, hF⟩ := bd1e hF
      obtain ⟨rfl, rfl⟩ := re2w hF
      refine mxV hX hK hEv hE0 hH (met_X7_puts_o3 hEX hk hs hin) (nrecv hK hH hk) (lw_V q1592 q1593 q1594 q139 q1595) hd_puts ⟨Nat.le_of_ble_eq_true rfl, Nat.le_of_ble_eq_true rfl⟩ rfl rfl hl (Nat.le_of_ble_eq_true rfl) dX0_write_19 ⟨Nat.le_of_ble_eq_true rfl, Nat.le_of_ble_eq_true rfl⟩ (fun w2 H locs hw hH => ?_)
      subst hw
      refine lv_aload_n hx hb dX0_write_22 rfl (lv_at hl 0 rfl) ?_
      refine cg_Y_this_rows hX hK hNW hH dX0_write_23 ?_
      refine lv_iload_n hx hb dX0_write_26 rfl (lv_at hl 1 rfl) ?_
      refine cl_rows hX hK hH hg dX0_write_27 ?_
      refine lv_iload_n hx hb dX0_write_28 rfl (lv_at hl 2 rfl) ?_
      refine ck_number hPO hX hK hE hE0 hNW hH hk he q1200 hl ⟨Nat.le_of_ble_eq_true rfl, Nat.le_of_ble_eq_true rfl⟩ ⟨Nat.le_of_ble_eq_true rfl, Nat.le_of_ble_eq_true rfl⟩ (Nat.le_of_ble_eq_true rfl) dX0_write_29 (fun H locs hH => ?_)
      refine W.widen (k := 4) (n := 300) (Nat.le_of_ble_eq_true rfl) (Nat.le_of_ble_eq_true rfl) ?_
      exact hret _ _ _ _ _ rfl hH dX0_write_32
    · have hF := itn hin hF
      obtain ⟨rfl, rfl⟩ := re2w hF
      refine mxVX hX hK hEv hE0 hH (met_X7_puts_x3 hEX hfl hk hs hin) (nrecv hK hH hk) (lw_V q1592 q1593 q1594 q139 q1595) hd_puts ⟨Nat.le_of_ble_eq_true rfl, Nat.le_of_ble_eq_true rfl⟩ rfl rfl hl (Nat.le_of_ble_eq_true rfl) dX0_write_19 ⟨Nat.le_of_ble_eq_true rfl, Nat.le_of_ble_eq_true rfl⟩ (fun H1 locs1 q9 ce hH hq hv hcl => ?_)
      refine vx_catch (name := "java/lang/ArrayIndexOutOfBoundsException") hown [⟨11, 32, 33, 516⟩] ⟨11, 32, 39, 520⟩ [] (htab.trans rfl) (fun z h => Or.inr (by cases List.mem_singleton.mp h; exact ⟨by decide, _, hts _ q1547, hNc⟩)) rfl (by decide) (hts _ q1572) (va_Nw.use rfl (hNW _ nw_q1587)) hq hv hcl ?_
      refine lv_astore (lv' := [(5, .ref q9), (0, .ref (ad 0)), (1, .int p1), (2, .int p2), (3, .long p3)]) hx hb dX0_write_39 hl (by decide) rfl (fun ls hl => ?_)
      refine lv_ldc2 (v := -7) hx hb hown (hts _ q1597) dX0_write_41 ?_
      refine W.widen (k := 4) (n := 300) (Nat.le_of_ble_eq_true rfl) (Nat.le_of_ble_eq_true rfl) ?_
      exact hret _ _ _ _ _ rfl hH dX0_write_44
