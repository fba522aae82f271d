set_option maxRecDepth 100000
abbrev rm_X7_begins : Room := { frames := 10, cells := 4, slots := 100, locals := 10300 }
set_option maxHeartbeats 4000000 in
theorem met_X7_begins_n0 {l : Launch} {D : va_G} {ad : Nat → Nat} {cA : Nat → ClassId} {sA ta ba na : Nat → Nat} {gi : Nat → Option Nat} {rh : Option Nat} {rt : Option Nat} {g_sort : Int32} {g_size : Int32} {g_from : Int32} {g_to : Int32} {g_level : Int32} {g_full : Int32} {a_tape : Nat → Int32} {a_hAt : Nat → Int32} {a_hMany : Nat → Int32} {a_tAt : Nat → Int32} {a_tMany : Nat → Int32} {a_least : Nat → Int32} {a_place : Nat → Int32} {a_to : Nat → Int32} {a_order : Nat → Int32} {a_fails : Nat → Int32} {a_sKeys : Nat → Int64} {a_sRow : Nat → Int64} {a_sSlots : Nat → Int32} {a_bKeys : Nat → Int64} {a_bRow : Nat → Int64} {a_bSlots : Nat → Int32} {a_easy : Nat → Int32} {a_wants : Nat → Int32} {a_wantedBy : Nat → Int32} {a_ring : Nat → Int32} {a_carried : Nat → Int32} {a_latest : Nat → Int32} {v_taped : Int32} {v_faultKind : Int32} {v_faultPlace : Int32} {v_x : Int32} {v_ordered : Int32} {v_sought : Int32} {v_lastSought : Int32} {v_hMoved : Int32} {v_hWithout : Int32} {v_tMoved : Int32} {v_tWithout : Int32} {v_places : Int32} {v_elsewhere : Int32} {v_sMany : Int32} {v_bMany : Int32} {v_year : Int32} {y_lies : Int64} {a_rsort : Nat → Int32} {a_rmany : Nat → Int32} {a_nums : Nat → Nat → Int64}  {pl : va_W} {E : EvT} (hEX : EvX E) (hfl : l.stackTraces = false) {k : Nat} {p2 : Int32} (hn : p2 < 0) : MX l yX7_begins (wsW_ yX7_begins cX7_begins 4 (some .boolean) [(0, 66, 67, 13)]) rm_X7_begins D vwA (cT cA) E [.ref (ad (29 + k)), .int 0, .int p2] (cW ad cA sA ta ba na gi rh rt g_sort g_size g_from g_to g_level g_full a_tape a_hAt a_hMany a_tAt a_tMany a_least a_place a_to a_order a_fails a_sKeys a_sRow a_sSlots a_bKeys a_bRow a_bSlots a_easy a_wants a_wantedBy a_ring a_carried a_latest v_taped v_faultKind v_faultPlace v_x v_ordered v_sought v_lastSought v_hMoved v_hWithout v_tMoved v_tWithout v_places v_elsewhere v_sMany v_bMany v_year y_lies a_rsort a_rmany a_nums pl) (fun z => z = (cW ad cA sA ta ba na gi rh rt g_sort g_size g_from g_to g_level g_full a_tape a_hAt a_hMany a_tAt a_tMany a_least a_place a_to a_order a_fails a_sKeys a_sRow a_sSlots a_bKeys a_bRow a_bSlots a_easy a_wants a_wantedBy a_ring a_carried a_latest v_taped v_faultKind v_faultPlace v_x v_ordered v_sought v_lastSought v_hMoved v_hWithout v_tMoved v_tWithout v_places v_elsewhere v_sMany v_bMany v_year y_lies a_rsort a_rmany a_nums pl)) (some (.int (b2i false))) := by
  refine MX.ofZW (hh := [(0, 66, 67, 13)]) (by decide) (Nat.le_of_ble_eq_true rfl) ?_
  intro p e s m args below meth c Q A hX hK hE0 htab hlo hret H locs ls hH hl
  have hX : CallFix p m c cX7_begins 4 s args lw_all RX7 := hX
  have hx := hX.1
  have hb := hX.2.1
  have hown := hX.2.2.2.1
  have hts := hX.2.2.2.2
  have hNW := hEX.1.2.1 _ _ _ hE0
  have hl : lv_has ls 4 [(0, .ref (ad (29 + k))), (1, .int 0), (2, .int p2)] := hl
  refine lv_iload_n hx hb dX7_begins_0 rfl (lv_at hl 1 rfl) ?_
  refine lv_tableIn (tgt := 28) hx hb dX7_begins_1 (by decide) (by decide) rfl rfl ?_
  refine lv_aload_n hx hb dX7_begins_28 rfl (lv_at hl 0 rfl) ?_
  refine lv_iload_n hx hb dX7_begins_29 rfl (lv_at hl 2 rfl) ?_
  refine ex_nas hX hfl hEX hE0 hH hl hlo hn dX7_begins_30 (Nat.le_of_ble_eq_true rfl) (Nat.le_of_ble_eq_true rfl) (Nat.le_of_ble_eq_true rfl) (Nat.le_of_ble_eq_true rfl) (fun H1 q9 ce hH hq hv hcl => ?_)
  refine vx_catch (name := "java/lang/NegativeArraySizeException") hown [] ⟨0, 66, 67, 13⟩ [] (htab.trans rfl) (fun z h => nomatch h) rfl (by decide) (hts _ q1459) (va_Nw.use rfl (hNW _ nw_q1520)) hq hv hcl ?_
  refine lv_astore_n (lv' := [(3, .ref q9), (0, .ref (ad (29 + k))), (1, .int 0), (2, .int p2)]) hx hb dX7_begins_67 rfl hl (by decide) rfl (fun ls hl => ?_)
  refine lv_iconst (v := 0) hx hb dX7_begins_68 kyi_0 ?_
  refine W.widen (k := 4) (n := 100) (Nat.le_of_ble_eq_true rfl) (Nat.le_of_ble_eq_true rfl) ?_
  exact hret _ _ _ _ _ rfl hH dX7_begins_69
set_option maxHeartbeats 4000000 in
theorem met_X7_begins_p0 {l : Launch} {D : va_G} {ad : Nat → Nat} {cA : Nat → ClassId} {sA ta ba na : Nat → Nat} {gi : Nat → Option Nat} {rh : Option Nat} {rt : Option Nat} {g_sort : Int32} {g_size : Int32} {g_from : Int32} {g_to : Int32} {g_level : Int32} {g_full : Int32} {a_tape : Nat → Int32} {a_hAt : Nat → Int32} {a_hMany : Nat → Int32} {a_tAt : Nat → Int32} {a_tMany : Nat → Int32} {a_least : Nat → Int32} {a_place : Nat → Int32} {a_to : Nat → Int32} {a_order : Nat → Int32} {a_fails : Nat → Int32} {a_sKeys : Nat → Int64} {a_sRow : Nat → Int64} {a_sSlots : Nat → Int32} {a_bKeys : Nat → Int64} {a_bRow : Nat → Int64} {a_bSlots : Nat → Int32} {a_easy : Nat → Int32} {a_wants : Nat → Int32} {a_wantedBy : Nat → Int32} {a_ring : Nat → Int32} {a_carried : Nat → Int32} {a_latest : Nat → Int32} {v_taped : Int32} {v_faultKind : Int32} {v_faultPlace : Int32} {v_x : Int32} {v_ordered : Int32} {v_sought : Int32} {v_lastSought : Int32} {v_hMoved : Int32} {v_hWithout : Int32} {v_tMoved : Int32} {v_tWithout : Int32} {v_places : Int32} {v_elsewhere : Int32} {v_sMany : Int32} {v_bMany : Int32} {v_year : Int32} {y_lies : Int64} {a_rsort : Nat → Int32} {a_rmany : Nat → Int32} {a_nums : Nat → Nat → Int64}  {pl : va_W} {E : EvT} (hEX : EvX E) {k : Nat} (hk : k < 4) {p2 : Int32} (hn : ¬ p2 < 0) (h40 : p2.toNatClampNeg ≤ 40) : MX l yX7_begins (wsW_ yX7_begins cX7_begins 4 (some .boolean) [(0, 66, 67, 13)]) rm_X7_begins D vwA (cT cA) E [.ref (ad (29 + k)), .int 0, .int p2] (cW ad cA sA ta ba na gi rh rt g_sort g_size g_from g_to g_level g_full a_tape a_hAt a_hMany a_tAt a_tMany a_least a_place a_to a_order a_fails a_sKeys a_sRow a_sSlots a_bKeys a_bRow a_bSlots a_easy a_wants a_wantedBy a_ring a_carried a_latest v_taped v_faultKind v_faultPlace v_x v_ordered v_sought v_lastSought v_hMoved v_hWithout v_tMoved v_tWithout v_places v_elsewhere v_sMany v_bMany v_year y_lies a_rsort a_rmany a_nums pl) (fun z => ∃ q : Nat, z = (cW ad cA sA ta ba (up na k q) gi rh rt g_sort g_size g_from g_to g_level g_full a_tape a_hAt a_hMany a_tAt a_tMany a_least a_place a_to a_order a_fails a_sKeys a_sRow a_sSlots a_bKeys a_bRow a_bSlots a_easy a_wants a_wantedBy a_ring a_carried a_latest v_taped v_faultKind v_faultPlace v_x v_ordered v_sought v_lastSought v_hMoved v_hWithout v_tMoved v_tWithout v_places v_elsewhere v_sMany v_bMany v_year y_lies (upd a_rsort k 0) (upd a_rmany k p2) (up a_nums k (fun _ => 0)) pl)) (some (.int (b2i true))) := by
  refine MX.ofZW (hh := [(0, 66, 67, 13)]) (by decide) (Nat.le_of_ble_eq_true rfl) ?_
  intro p e s m args below meth c Q A hX hK hE0 htab hlo hret H locs ls hH hl
  have hX : CallFix p m c cX7_begins 4 s args lw_all RX7 := hX
  have hx := hX.1
  have hb := hX.2.1
  have hown := hX.2.2.2.1
  have hts := hX.2.2.2.2
  have hNW := hEX.1.2.1 _ _ _ hE0
  have hl : lv_has ls 4 [(0, .ref (ad (29 + k))), (1, .int 0), (2, .int p2)] := hl
  refine lv_iload_n hx hb dX7_begins_0 rfl (lv_at hl 1 rfl) ?_
  refine lv_tableIn (tgt := 28) hx hb dX7_begins_1 (by decide) (by decide) rfl rfl ?_
  refine lv_aload_n hx hb dX7_begins_28 rfl (lv_at hl 0 rfl) ?_
  refine lv_iload_n hx hb dX7_begins_29 rfl (lv_at hl 2 rfl) ?_
  refine mnewa (atype := .byte) (ty := .byte) (N' := p2.toNatClampNeg) (a0 := (p2.toNatClampNeg, .inl fun _ => 0)) hX q325 rfl (fun _ h => h) hK hH 24 rfl (fun _ => rfl) hn rfl (Nat.le_trans (Nat.mul_le_mul_right _ h40) (Nat.le_of_ble_eq_true rfl)) (Nat.le_of_ble_eq_true rfl) (by show 0 + p2.toNatClampNeg ≤ 100; omega) dX7_begins_30 (fun q H hH => ?_)
  refine num_put (k := k) (q := q) (s0 := 0) (n0 := p2) (f := fun _ => 0) (arr := (p2.toNatClampNeg, .inl fun _ => 0)) hk hX hK (by decide) (by first | rfl | (rw [if_neg (by decide)]; rfl) | (rw [if_pos rfl]; rfl)) hH dX7_begins_32 (fun H locs hH => ?_)
  refine lv_goto (tgt := 65) hx hb dX7_begins_35 rfl ?_
  refine lv_iconst (v := 1) hx hb dX7_begins_65 kyi_1 ?_
  refine W.widen (k := 4) (n := 100) (Nat.le_of_ble_eq_true rfl) (by show 0 + p2.toNatClampNeg ≤ 100; omega) ?_
  exact hret _ _ _ _ _ ⟨q, rfl⟩ hH dX7_begins_66
set_option maxHeartbeats 4000000 in
theorem met_X7_begins_n1 {l : Launch} {D : va_G} {ad : Nat → Nat} {cA : Nat → ClassId} {sA ta ba na : Nat → Nat} {gi : Nat → Option Nat} {rh : Option Nat} {rt : Option Nat} {g_sort : Int32} {g_size : Int32} {g_from : Int32} {g_to : Int32} {g_level : Int32} {g_full : Int32} {a_tape : Nat → Int32} {a_hAt : Nat → Int32} {a_hMany : Nat → Int32} {a_tAt : Nat → Int32} {a_tMany : Nat → Int32} {a_least : Nat → Int32} {a_place : Nat → Int32} {a_to : Nat → Int32} {a_order : Nat → Int32} {a_fails : Nat → Int32} {a_sKeys : Nat → Int64} {a_sRow : Nat → Int64} {a_sSlots : Nat → Int32} {a_bKeys : Nat → Int64} {a_bRow : Nat → Int64} {a_bSlots : Nat → Int32} {a_easy : Nat → Int32} {a_wants : Nat → Int32} {a_wantedBy : Nat → Int32} {a_ring : Nat → Int32} {a_carried : Nat → Int32} {a_latest : Nat → Int32} {v_taped : Int32} {v_faultKind : Int32} {v_faultPlace : Int32} {v_x : Int32} {v_ordered : Int32} {v_sought : Int32} {v_lastSought : Int32} {v_hMoved : Int32} {v_hWithout : Int32} {v_tMoved : Int32} {v_tWithout : Int32} {v_places : Int32} {v_elsewhere : Int32} {v_sMany : Int32} {v_bMany : Int32} {v_year : Int32} {y_lies : Int64} {a_rsort : Nat → Int32} {a_rmany : Nat → Int32} {a_nums : Nat → Nat → Int64}  {pl : va_W} {E : EvT} (hEX : EvX E) (hfl : l.stackTraces = false) {k : Nat} {p2 : Int32} (hn : p2 < 0) : MX l yX7_begins (wsW_ yX7_begins cX7_begins 4 (some .boolean) [(0, 66, 67, 13)]) rm_X7_begins D vwA (cT cA) E [.ref (ad (29 + k)), .int 1, .int p2] (cW ad cA sA ta ba na gi rh rt g_sort g_size g_from g_to g_level g_full a_tape a_hAt a_hMany a_tAt a_tMany a_least a_place a_to a_order a_fails a_sKeys a_sRow a_sSlots a_bKeys a_bRow a_bSlots a_easy a_wants a_wantedBy a_ring a_carried a_latest v_taped v_faultKind v_faultPlace v_x v_ordered v_sought v_lastSought v_hMoved v_hWithout v_tMoved v_tWithout v_places v_elsewhere v_sMany v_bMany v_year y_lies a_rsort a_rmany a_nums pl) (fun z => z = (cW ad cA sA ta ba na gi rh rt g_sort g_size g_from g_to g_level g_full a_tape a_hAt a_hMany a_tAt a_tMany a_least a_place a_to a_order a_fails a_sKeys a_sRow a_sSlots a_bKeys a_bRow a_bSlots a_easy a_wants a_wantedBy a_ring a_carried a_latest v_taped v_faultKind v_faultPlace v_x v_ordered v_sought v_lastSought v_hMoved v_hWithout v_tMoved v_tWithout v_places v_elsewhere v_sMany v_bMany v_year y_lies a_rsort a_rmany a_nums pl)) (some (.int (b2i false))) := by
  refine MX.ofZW (hh := [(0, 66, 67, 13)]) (by decide) (Nat.le_of_ble_eq_true rfl) ?_
  intro p e s m args below meth c Q A hX hK hE0 htab hlo hret H locs ls hH hl
  have hX : CallFix p m c cX7_begins 4 s args lw_all RX7 := hX
  have hx := hX.1
  have hb := hX.2.1
  have hown := hX.2.2.2.1
  have hts := hX.2.2.2.2
  have hNW := hEX.1.2.1 _ _ _ hE0
  have hl : lv_has ls 4 [(0, .ref (ad (29 + k))), (1, .int 1), (2, .int p2)] := hl
  refine lv_iload_n hx hb dX7_begins_0 rfl (lv_at hl 1 rfl) ?_
  refine lv_tableIn (tgt := 38) hx hb dX7_begins_1 (by decide) (by decide) rfl rfl ?_
  refine lv_aload_n hx hb dX7_begins_38 rfl (lv_at hl 0 rfl) ?_
  refine lv_iload_n hx hb dX7_begins_39 rfl (lv_at hl 2 rfl) ?_
  refine ex_nas hX hfl hEX hE0 hH hl hlo hn dX7_begins_40 (Nat.le_of_ble_eq_true rfl) (Nat.le_of_ble_eq_true rfl) (Nat.le_of_ble_eq_true rfl) (Nat.le_of_ble_eq_true rfl) (fun H1 q9 ce hH hq hv hcl => ?_)
  refine vx_catch (name := "java/lang/NegativeArraySizeException") hown [] ⟨0, 66, 67, 13⟩ [] (htab.trans rfl) (fun z h => nomatch h) rfl (by decide) (hts _ q1459) (va_Nw.use rfl (hNW _ nw_q1520)) hq hv hcl ?_
  refine lv_astore_n (lv' := [(3, .ref q9), (0, .ref (ad (29 + k))), (1, .int 1), (2, .int p2)]) hx hb dX7_begins_67 rfl hl (by decide) rfl (fun ls hl => ?_)
  refine lv_iconst (v := 0) hx hb dX7_begins_68 kyi_0 ?_
  refine W.widen (k := 4) (n := 100) (Nat.le_of_ble_eq_true rfl) (Nat.le_of_ble_eq_true rfl) ?_
  exact hret _ _ _ _ _ rfl hH dX7_begins_69
set_option maxHeartbeats 4000000 in
theorem met_X7_begins_p1 {l : Launch} {D : va_G} {ad : Nat → Nat} {cA : Nat → ClassId} {sA ta ba na : Nat → Nat} {gi : Nat → Option Nat} {rh : Option Nat} {rt : Option Nat} {g_sort : Int32} {g_size : Int32} {g_from : Int32} {g_to : Int32} {g_level : Int32} {g_full : Int32} {a_tape : Nat → Int32} {a_hAt : Nat → Int32} {a_hMany : Nat → Int32} {a_tAt : Nat → Int32} {a_tMany : Nat → Int32} {a_least : Nat → Int32} {a_place : Nat → Int32} {a_to : Nat → Int32} {a_order : Nat → Int32} {a_fails : Nat → Int32} {a_sKeys : Nat → Int64} {a_sRow : Nat → Int64} {a_sSlots : Nat → Int32} {a_bKeys : Nat → Int64} {a_bRow : Nat → Int64} {a_bSlots : Nat → Int32} {a_easy : Nat → Int32} {a_wants : Nat → Int32} {a_wantedBy : Nat → Int32} {a_ring : Nat → Int32} {a_carried : Nat → Int32} {a_latest : Nat → Int32} {v_taped : Int32} {v_faultKind : Int32} {v_faultPlace : Int32} {v_x : Int32} {v_ordered : Int32} {v_sought : Int32} {v_lastSought : Int32} {v_hMoved : Int32} {v_hWithout : Int32} {v_tMoved : Int32} {v_tWithout : Int32} {v_places : Int32} {v_elsewhere : Int32} {v_sMany : Int32} {v_bMany : Int32} {v_year : Int32} {y_lies : Int64} {a_rsort : Nat → Int32} {a_rmany : Nat → Int32} {a_nums : Nat → Nat → Int64}  {pl : va_W} {E : EvT} (hEX : EvX E) {k : Nat} (hk : k < 4) {p2 : Int32} (hn : ¬ p2 < 0) (h40 : p2.toNatClampNeg ≤ 40) : MX l yX7_begins (wsW_ yX7_begins cX7_begins 4 (some .boolean) [(0, 66, 67, 13)]) rm_X7_begins D vwA (cT cA) E [.ref (ad (29 + k)), .int 1, .int p2] (cW ad cA sA ta ba na gi rh rt g_sort g_size g_from g_to g_level g_full a_tape a_hAt a_hMany a_tAt a_tMany a_least a_place a_to a_order a_fails a_sKeys a_sRow a_sSlots a_bKeys a_bRow a_bSlots a_easy a_wants a_wantedBy a_ring a_carried a_latest v_taped v_faultKind v_faultPlace v_x v_ordered v_sought v_lastSought v_hMoved v_hWithout v_tMoved v_tWithout v_places v_elsewhere v_sMany v_bMany v_year y_lies a_rsort a_rmany a_nums pl) (fun z => ∃ q : Nat, z = (cW ad cA sA ta ba (up na k q) gi rh rt g_sort g_size g_from g_to g_level g_full a_tape a_hAt a_hMany a_tAt a_tMany a_least a_place a_to a_order a_fails a_sKeys a_sRow a_sSlots a_bKeys a_bRow a_bSlots a_easy a_wants a_wantedBy a_ring a_carried a_latest v_taped v_faultKind v_faultPlace v_x v_ordered v_sought v_lastSought v_hMoved v_hWithout v_tMoved v_tWithout v_places v_elsewhere v_sMany v_bMany v_year y_lies (upd a_rsort k 1) (upd a_rmany k p2) (up a_nums k (fun _ => 0)) pl)) (some (.int (b2i true))) := by
  refine MX.ofZW (hh := [(0, 66, 67, 13)]) (by decide) (Nat.le_of_ble_eq_true rfl) ?_
  intro p e s m args below meth c Q A hX hK hE0 htab hlo hret H locs ls hH hl
  have hX : CallFix p m c cX7_begins 4 s args lw_all RX7 := hX
  have hx := hX.1
  have hb := hX.2.1
  have hown := hX.2.2.2.1
  have hts := hX.2.2.2.2
  have hNW := hEX.1.2.1 _ _ _ hE0
  have hl : lv_has ls 4 [(0, .ref (ad (29 + k))), (1, .int 1), (2, .int p2)] := hl
  refine lv_iload_n hx hb dX7_begins_0 rfl (lv_at hl 1 rfl) ?_
  refine lv_tableIn (tgt := 38) hx hb dX7_begins_1 (by decide) (by decide) rfl rfl ?_
  refine lv_aload_n hx hb dX7_begins_38 rfl (lv_at hl 0 rfl) ?_
  refine lv_iload_n hx hb dX7_begins_39 rfl (lv_at hl 2 rfl) ?_
  refine mnewa (atype := .short) (ty := .short) (N' := p2.toNatClampNeg) (a0 := (p2.toNatClampNeg, .inl fun _ => 0)) hX q1542 rfl (fun _ h => h) hK hH 25 rfl (fun _ => rfl) hn rfl (Nat.le_trans (Nat.mul_le_mul_right _ h40) (Nat.le_of_ble_eq_true rfl)) (Nat.le_of_ble_eq_true rfl) (by show 0 + p2.toNatClampNeg ≤ 100; omega) dX7_begins_40 (fun q H hH => ?_)
  refine num_put (k := k) (q := q) (s0 := 1) (n0 := p2) (f := fun _ => 0) (arr := (p2.toNatClampNeg, .inl fun _ => 0)) hk hX hK (by decide) (by first | rfl | (rw [if_neg (by decide)]; rfl) | (rw [if_pos rfl]; rfl)) hH dX7_begins_42 (fun H locs hH => ?_)
  refine lv_goto (tgt := 65) hx hb dX7_begins_45 rfl ?_
  refine lv_iconst (v := 1) hx hb dX7_begins_65 kyi_1 ?_
  refine W.widen (k := 4) (n := 100) (Nat.le_of_ble_eq_true rfl) (by show 0 + p2.toNatClampNeg ≤ 100; omega) ?_
  exact hret _ _ _ _ _ ⟨q, rfl⟩ hH dX7_begins_66
set_option maxHeartbeats 4000000 in
theorem met_X7_begins_n2 {l : Launch} {D : va_G} {ad : Nat → Nat} {cA : Nat → ClassId} {sA ta ba na : Nat → Nat} {gi : Nat → Option Nat} {rh : Option Nat} {rt : Option Nat} {g_sort : Int32} {g_size : Int32} {g_from : Int32} {g_to : Int32} {g_level : Int32} {g_full : Int32} {a_tape : Nat → Int32} {a_hAt : Nat → Int32} {a_hMany : Nat → Int32} {a_tAt : Nat → Int32} {a_tMany : Nat → Int32} {a_least : Nat → Int32} {a_place : Nat → Int32} {a_to : Nat → Int32} {a_order : Nat → Int32} {a_fails : Nat → Int32} {a_sKeys : Nat → Int64} {a_sRow : Nat → Int64} {a_sSlots : Nat → Int32} {a_bKeys : Nat → Int64} {a_bRow : Nat → Int64} {a_bSlots : Nat → Int32} {a_easy : Nat → Int32} {a_wants : Nat → Int32} {a_wantedBy : Nat → Int32} {a_ring : Nat → Int32} {a_carried : Nat → Int32} {a_latest : Nat → Int32} {v_taped : Int32} {v_faultKind : Int32} {v_faultPlace : Int32} {v_x : Int32} {v_ordered : Int32} {v_sought : Int32} {v_lastSought : Int32} {v_hMoved : Int32} {v_hWithout : Int32} {v_tMoved : Int32} {v_tWithout : Int32} {v_places : Int32} {v_elsewhere : Int32} {v_sMany : Int32} {v_bMany : Int32} {v_year : Int32} {y_lies : Int64} {a_rsort : Nat → Int32} {a_rmany : Nat → Int32} {a_nums : Nat → Nat → Int64}  {pl : va_W} {E : EvT} (hEX : EvX E) (hfl : l.stackTraces = false) {k : Nat} {p2 : Int32} (hn : p2 < 0) : MX l yX7_begins (wsW_ yX7_begins cX7_begins 4 (some .boolean) [(0, 66, 67, 13)]) rm_X7_begins D vwA (cT cA) E [.ref (ad (29 + k)), .int 2, .int p2] (cW ad cA sA ta ba na gi rh rt g_sort g_size g_from g_to g_level g_full a_tape a_hAt a_hMany a_tAt a_tMany a_least a_place a_to a_order a_fails a_sKeys a_sRow a_sSlots a_bKeys a_bRow a_bSlots a_easy a_wants a_wantedBy a_ring a_carried a_latest v_taped v_faultKind v_faultPlace v_x v_ordered v_sought v_lastSought v_hMoved v_hWithout v_tMoved v_tWithout v_places v_elsewhere v_sMany v_bMany v_year y_lies a_rsort a_rmany a_nums pl) (fun z => z = (cW ad cA sA ta ba na gi rh rt g_sort g_size g_from g_to g_level g_full a_tape a_hAt a_hMany a_tAt a_tMany a_least a_place a_to a_order a_fails a_sKeys a_sRow a_sSlots a_bKeys a_bRow a_bSlots a_easy a_wants a_wantedBy a_ring a_carried a_latest v_taped v_faultKind v_faultPlace v_x v_ordered v_sought v_lastSought v_hMoved v_hWithout v_tMoved v_tWithout v_places v_elsewhere v_sMany v_bMany v_year y_lies a_rsort a_rmany a_nums pl)) (some (.int (b2i false))) := by
  refine MX.ofZW (hh := [(0, 66, 67, 13)]) (by decide) (Nat.le_of_ble_eq_true rfl) ?_
  intro p e s m args below meth c Q A hX hK hE0 htab hlo hret H locs ls hH hl
  have hX : CallFix p m c cX7_begins 4 s args lw_all RX7 := hX
  have hx := hX.1
  have hb := hX.2.1
  have hown := hX.2.2.2.1
  have hts := hX.2.2.2.2
  have hNW := hEX.1.2.1 _ _ _ hE0
  have hl : lv_has ls 4 [(0, .ref (ad (29 + k))), (1, .int 2), (2, .int p2)] := hl
  refine lv_iload_n hx hb dX7_begins_0 rfl (lv_at hl 1 rfl) ?_
  refine lv_tableIn (tgt := 48) hx hb dX7_begins_1 (by decide) (by decide) rfl rfl ?_
  refine lv_aload_n hx hb dX7_begins_48 rfl (lv_at hl 0 rfl) ?_
  refine lv_iload_n hx hb dX7_begins_49 rfl (lv_at hl 2 rfl) ?_
  refine ex_nas hX hfl hEX hE0 hH hl hlo hn dX7_begins_50 (Nat.le_of_ble_eq_true rfl) (Nat.le_of_ble_eq_true rfl) (Nat.le_of_ble_eq_true rfl) (Nat.le_of_ble_eq_true rfl) (fun H1 q9 ce hH hq hv hcl => ?_)
  refine vx_catch (name := "java/lang/NegativeArraySizeException") hown [] ⟨0, 66, 67, 13⟩ [] (htab.trans rfl) (fun z h => nomatch h) rfl (by decide) (hts _ q1459) (va_Nw.use rfl (hNW _ nw_q1520)) hq hv hcl ?_
  refine lv_astore_n (lv' := [(3, .ref q9), (0, .ref (ad (29 + k))), (1, .int 2), (2, .int p2)]) hx hb dX7_begins_67 rfl hl (by decide) rfl (fun ls hl => ?_)
  refine lv_iconst (v := 0) hx hb dX7_begins_68 kyi_0 ?_
  refine W.widen (k := 4) (n := 100) (Nat.le_of_ble_eq_true rfl) (Nat.le_of_ble_eq_true rfl) ?_
  exact hret _ _ _ _ _ rfl hH dX7_begins_69
set_option maxHeartbeats 4000000 in
theorem met_X7_begins_p2 {l : Launch} {D : va_G} {ad : Nat → Nat} {cA : Nat → ClassId} {sA ta ba na : Nat → Nat} {gi : Nat → Option Nat} {rh : Option Nat} {rt : Option Nat} {g_sort : Int32} {g_size : Int32} {g_from : Int32} {g_to : Int32} {g_level : Int32} {g_full : Int32} {a_tape : Nat → Int32} {a_hAt : Nat → Int32} {a_hMany : Nat → Int32} {a_tAt : Nat → Int32} {a_tMany : Nat → Int32} {a_least : Nat → Int32} {a_place : Nat → Int32} {a_to : Nat → Int32} {a_order : Nat → Int32} {a_fails : Nat → Int32} {a_sKeys : Nat → Int64} {a_sRow : Nat → Int64} {a_sSlots : Nat → Int32} {a_bKeys : Nat → Int64} {a_bRow : Nat → Int64} {a_bSlots : Nat → Int32} {a_easy : Nat → Int32} {a_wants : Nat → Int32} {a_wantedBy : Nat → Int32} {a_ring : Nat → Int32} {a_carried : Nat → Int32} {a_latest : Nat → Int32} {v_taped : Int32} {v_faultKind : Int32} {v_faultPlace : Int32} {v_x : Int32} {v_ordered : Int32} {v_sought : Int32} {v_lastSought : Int32} {v_hMoved : Int32} {v_hWithout : Int32} {v_tMoved : Int32} {v_tWithout : Int32} {v_places : Int32} {v_elsewhere : Int32} {v_sMany : Int32} {v_bMany : Int32} {v_year : Int32} {y_lies : Int64} {a_rsort : Nat → Int32} {a_rmany : Nat → Int32} {a_nums : Nat → Nat → Int64}  {pl : va_W} {E : EvT} (hEX : EvX E) {k : Nat} (hk : k < 4) {p2 : Int32} (hn : ¬ p2 < 0) (h40 : p2.toNatClampNeg ≤ 40) : MX l yX7_begins (wsW_ yX7_begins cX7_begins 4 (some .boolean) [(0, 66, 67, 13)]) rm_X7_begins D vwA (cT cA) E [.ref (ad (29 + k)), .int 2, .int p2] (cW ad cA sA ta ba na gi rh rt g_sort g_size g_from g_to g_level g_full a_tape a_hAt a_hMany a_tAt a_tMany a_least a_place a_to a_order a_fails a_sKeys a_sRow a_sSlots a_bKeys a_bRow a_bSlots a_easy a_wants a_wantedBy a_ring a_carried a_latest v_taped v_faultKind v_faultPlace v_x v_ordered v_sought v_lastSought v_hMoved v_hWithout v_tMoved v_tWithout v_places v_elsewhere v_sMany v_bMany v_year y_lies a_rsort a_rmany a_nums pl) (fun z => ∃ q : Nat, z = (cW ad cA sA ta ba (up na k q) gi rh rt g_sort g_size g_from g_to g_level g_full a_tape a_hAt a_hMany a_tAt a_tMany a_least a_place a_to a_order a_fails a_sKeys a_sRow a_sSlots a_bKeys a_bRow a_bSlots a_easy a_wants a_wantedBy a_ring a_carried a_latest v_taped v_faultKind v_faultPlace v_x v_ordered v_sought v_lastSought v_hMoved v_hWithout v_tMoved v_tWithout v_places v_elsewhere v_sMany v_bMany v_year y_lies (upd a_rsort k 2) (upd a_rmany k p2) (up a_nums k (fun _ => 0)) pl)) (some (.int (b2i true))) := by
  refine MX.ofZW (hh := [(0, 66, 67, 13)]) (by decide) (Nat.le_of_ble_eq_true rfl) ?_
  intro p e s m args below meth c Q A hX hK hE0 htab hlo hret H locs ls hH hl
  have hX : CallFix p m c cX7_begins 4 s args lw_all RX7 := hX
  have hx := hX.1
  have hb := hX.2.1
  have hown := hX.2.2.2.1
  have hts := hX.2.2.2.2
  have hNW := hEX.1.2.1 _ _ _ hE0
  have hl : lv_has ls 4 [(0, .ref (ad (29 + k))), (1, .int 2), (2, .int p2)] := hl
  refine lv_iload_n hx hb dX7_begins_0 rfl (lv_at hl 1 rfl) ?_
  refine lv_tableIn (tgt := 48) hx hb dX7_begins_1 (by decide) (by decide) rfl rfl ?_
  refine lv_aload_n hx hb dX7_begins_48 rfl (lv_at hl 0 rfl) ?_
  refine lv_iload_n hx hb dX7_begins_49 rfl (lv_at hl 2 rfl) ?_
  refine mnewa (atype := .int) (ty := .int) (N' := p2.toNatClampNeg) (a0 := (p2.toNatClampNeg, .inl fun _ => 0)) hX q292 rfl (fun _ h => h) hK hH 26 rfl (fun _ => rfl) hn rfl (Nat.le_trans (Nat.mul_le_mul_right _ h40) (Nat.le_of_ble_eq_true rfl)) (Nat.le_of_ble_eq_true rfl) (by show 0 + p2.toNatClampNeg ≤ 100; omega) dX7_begins_50 (fun q H hH => ?_)
  refine num_put (k := k) (q := q) (s0 := 2) (n0 := p2) (f := fun _ => 0) (arr := (p2.toNatClampNeg, .inl fun _ => 0)) hk hX hK (by decide) (by first | rfl | (rw [if_neg (by decide)]; rfl) | (rw [if_pos rfl]; rfl)) hH dX7_begins_52 (fun H locs hH => ?_)
  refine lv_goto (tgt := 65) hx hb dX7_begins_55 rfl ?_
  refine lv_iconst (v := 1) hx hb dX7_begins_65 kyi_1 ?_
  refine W.widen (k := 4) (n := 100) (Nat.le_of_ble_eq_true rfl) (by show 0 + p2.toNatClampNeg ≤ 100; omega) ?_
  exact hret _ _ _ _ _ ⟨q, rfl⟩ hH dX7_begins_66
set_option maxHeartbeats 4000000 in
theorem met_X7_begins_n3 {l : Launch} {D : va_G} {ad : Nat → Nat} {cA : Nat → ClassId} {sA ta ba na : Nat → Nat} {gi : Nat → Option Nat} {rh : Option Nat} {rt : Option Nat} {g_sort : Int32} {g_size : Int32} {g_from : Int32} {g_to : Int32} {g_level : Int32} {g_full : Int32} {a_tape : Nat → Int32} {a_hAt : Nat → Int32} {a_hMany : Nat → Int32} {a_tAt : Nat → Int32} {a_tMany : Nat → Int32} {a_least : Nat → Int32} {a_place : Nat → Int32} {a_to : Nat → Int32} {a_order : Nat → Int32} {a_fails : Nat → Int32} {a_sKeys : Nat → Int64} {a_sRow : Nat → Int64} {a_sSlots : Nat → Int32} {a_bKeys : Nat → Int64} {a_bRow : Nat → Int64} {a_bSlots : Nat → Int32} {a_easy : Nat → Int32} {a_wants : Nat → Int32} {a_wantedBy : Nat → Int32} {a_ring : Nat → Int32} {a_carried : Nat → Int32} {a_latest : Nat → Int32} {v_taped : Int32} {v_faultKind : Int32} {v_faultPlace : Int32} {v_x : Int32} {v_ordered : Int32} {v_sought : Int32} {v_lastSought : Int32} {v_hMoved : Int32} {v_hWithout : Int32} {v_tMoved : Int32} {v_tWithout : Int32} {v_places : Int32} {v_elsewhere : Int32} {v_sMany : Int32} {v_bMany : Int32} {v_year : Int32} {y_lies : Int64} {a_rsort : Nat → Int32} {a_rmany : Nat → Int32} {a_nums : Nat → Nat → Int64}  {pl : va_W} {E : EvT} (hEX : EvX E) (hfl : l.stackTraces = false) {k : Nat} {p2 : Int32} (hn : p2 < 0) : MX l yX7_begins (wsW_ yX7_begins cX7_begins 4 (some .boolean) [(0, 66, 67, 13)]) rm_X7_begins D vwA (cT cA) E [.ref (ad (29 + k)), .int 3, .int p2] (cW ad cA sA ta ba na gi rh rt g_sort g_size g_from g_to g_level g_full a_tape a_hAt a_hMany a_tAt a_tMany a_least a_place a_to a_order a_fails a_sKeys a_sRow a_sSlots a_bKeys a_bRow a_bSlots a_easy a_wants a_wantedBy a_ring a_carried a_latest v_taped v_faultKind v_faultPlace v_x v_ordered v_sought v_lastSought v_hMoved v_hWithout v_tMoved v_tWithout v_places v_elsewhere v_sMany v_bMany v_year y_lies a_rsort a_rmany a_nums pl) (fun z => z = (cW ad cA sA ta ba na gi rh rt g_sort g_size g_from g_to g_level g_full a_tape a_hAt a_hMany a_tAt a_tMany a_least a_place a_to a_order a_fails a_sKeys a_sRow a_sSlots a_bKeys a_bRow a_bSlots a_easy a_wants a_wantedBy a_ring a_carried a_latest v_taped v_faultKind v_faultPlace v_x v_ordered v_sought v_lastSought v_hMoved v_hWithout v_tMoved v_tWithout v_places v_elsewhere v_sMany v_bMany v_year y_lies a_rsort a_rmany a_nums pl)) (some (.int (b2i false))) := by
  refine MX.ofZW (hh := [(0, 66, 67, 13)]) (by decide) (Nat.le_of_ble_eq_true rfl) ?_
  intro p e s m args below meth c Q A hX hK hE0 htab hlo hret H locs ls hH hl
  have hX : CallFix p m c cX7_begins 4 s args lw_all RX7 := hX
  have hx := hX.1
  have hb := hX.2.1
  have hown := hX.2.2.2.1
  have hts := hX.2.2.2.2
  have hNW := hEX.1.2.1 _ _ _ hE0
  have hl : lv_has ls 4 [(0, .ref (ad (29 + k))), (1, .int 3), (2, .int p2)] := hl
  refine lv_iload_n hx hb dX7_begins_0 rfl (lv_at hl 1 rfl) ?_
  refine lv_tableOut (tgt := 58) hx hb dX7_begins_1 (Or.inr (by decide)) rfl ?_
  refine lv_aload_n hx hb dX7_begins_58 rfl (lv_at hl 0 rfl) ?_
  refine lv_iload_n hx hb dX7_begins_59 rfl (lv_at hl 2 rfl) ?_
  refine ex_nas hX hfl hEX hE0 hH hl hlo hn dX7_begins_60 (Nat.le_of_ble_eq_true rfl) (Nat.le_of_ble_eq_true rfl) (Nat.le_of_ble_eq_true rfl) (Nat.le_of_ble_eq_true rfl) (fun H1 q9 ce hH hq hv hcl => ?_)
  refine vx_catch (name := "java/lang/NegativeArraySizeException") hown [] ⟨0, 66, 67, 13⟩ [] (htab.trans rfl) (fun z h => nomatch h) rfl (by decide) (hts _ q1459) (va_Nw.use rfl (hNW _ nw_q1520)) hq hv hcl ?_
  refine lv_astore_n (lv' := [(3, .ref q9), (0, .ref (ad (29 + k))), (1, .int 3), (2, .int p2)]) hx hb dX7_begins_67 rfl hl (by decide) rfl (fun ls hl => ?_)
  refine lv_iconst (v := 0) hx hb dX7_begins_68 kyi_0 ?_
  refine W.widen (k := 4) (n := 100) (Nat.le_of_ble_eq_true rfl) (Nat.le_of_ble_eq_true rfl) ?_
  exact hret _ _ _ _ _ rfl hH dX7_begins_69
set_option maxHeartbeats 4000000 in
theorem met_X7_begins_p3 {l : Launch} {D : va_G} {ad : Nat → Nat} {cA : Nat → ClassId} {sA ta ba na : Nat → Nat} {gi : Nat → Option Nat} {rh : Option Nat} {rt : Option Nat} {g_sort : Int32} {g_size : Int32} {g_from : Int32} {g_to : Int32} {g_level : Int32} {g_full : Int32} {a_tape : Nat → Int32} {a_hAt : Nat → Int32} {a_hMany : Nat → Int32} {a_tAt : Nat → Int32} {a_tMany : Nat → Int32} {a_least : Nat → Int32} {a_place : Nat → Int32} {a_to : Nat → Int32} {a_order : Nat → Int32} {a_fails : Nat → Int32} {a_sKeys : Nat → Int64} {a_sRow : Nat → Int64} {a_sSlots : Nat → Int32} {a_bKeys : Nat → Int64} {a_bRow : Nat → Int64} {a_bSlots : Nat → Int32} {a_easy : Nat → Int32} {a_wants : Nat → Int32} {a_wantedBy : Nat → Int32} {a_ring : Nat → Int32} {a_carried : Nat → Int32} {a_latest : Nat → Int32} {v_taped : Int32} {v_faultKind : Int32} {v_faultPlace : Int32} {v_x : Int32} {v_ordered : Int32} {v_sought : Int32} {v_lastSought : Int32} {v_hMoved : Int32} {v_hWithout : Int32} {v_tMoved : Int32} {v_tWithout : Int32} {v_places : Int32} {v_elsewhere : Int32} {v_sMany : Int32} {v_bMany : Int32} {v_year : Int32} {y_lies : Int64} {a_rsort : Nat → Int32} {a_rmany : Nat → Int32} {a_nums : Nat → Nat → Int64}  {pl : va_W} {E : EvT} (hEX : EvX E) {k : Nat} (hk : k < 4) {p2 : Int32} (hn : ¬ p2 < 0) (h40 : p2.toNatClampNeg ≤ 40) : MX l yX7_begins (wsW_ yX7_begins cX7_begins 4 (some .boolean) [(0, 66, 67, 13)]) rm_X7_begins D vwA (cT cA) E [.ref (ad (29 + k)), .int 3, .int p2] (cW ad cA sA ta ba na gi rh rt g_sort g_size g_from g_to g_level g_full a_tape a_hAt a_hMany a_tAt a_tMany a_least a_place a_to a_order a_fails a_sKeys a_sRow a_sSlots a_bKeys a_bRow a_bSlots a_easy a_wants a_wantedBy a_ring a_carried a_latest v_taped v_faultKind v_faultPlace v_x v_ordered v_sought v_lastSought v_hMoved v_hWithout v_tMoved v_tWithout v_places v_elsewhere v_sMany v_bMany v_year y_lies a_rsort a_rmany a_nums pl) (fun z => ∃ q : Nat, z = (cW ad cA sA ta ba (up na k q) gi rh rt g_sort g_size g_from g_to g_level g_full a_tape a_hAt a_hMany a_tAt a_tMany a_least a_place a_to a_order a_fails a_sKeys a_sRow a_sSlots a_bKeys a_bRow a_bSlots a_easy a_wants a_wantedBy a_ring a_carried a_latest v_taped v_faultKind v_faultPlace v_x v_ordered v_sought v_lastSought v_hMoved v_hWithout v_tMoved v_tWithout v_places v_elsewhere v_sMany v_bMany v_year y_lies (upd a_rsort k 3) (upd a_rmany k p2) (up a_nums k (fun _ => 0)) pl)) (some (.int (b2i true))) := by
  refine MX.ofZW (hh := [(0, 66, 67, 13)]) (by decide) (Nat.le_of_ble_eq_true rfl) ?_
  intro p e s m args below meth c Q A hX hK hE0 htab hlo hret H locs ls hH hl
  have hX : CallFix p m c cX7_begins 4 s args lw_all RX7 := hX
  have hx := hX.1
  have hb := hX.2.1
  have hown := hX.2.2.2.1
  have hts := hX.2.2.2.2
  have hNW := hEX.1.2.1 _ _ _ hE0
  have hl : lv_has ls 4 [(0, .ref (ad (29 + k))), (1, .int 3), (2, .int p2)] := hl
  refine lv_iload_n hx hb dX7_begins_0 rfl (lv_at hl 1 rfl) ?_
  refine lv_tableOut (tgt := 58) hx hb dX7_begins_1 (Or.inr (by decide)) rfl ?_
  refine lv_aload_n hx hb dX7_begins_58 rfl (lv_at hl 0 rfl) ?_
  refine lv_iload_n hx hb dX7_begins_59 rfl (lv_at hl 2 rfl) ?_
  refine mnewa (atype := .long) (ty := .long) (N' := p2.toNatClampNeg) (a0 := (p2.toNatClampNeg, .inr (.inl fun _ => 0))) hX q405 rfl (fun _ h => h) hK hH 27 rfl (fun _ => rfl) hn rfl (Nat.le_trans (Nat.mul_le_mul_right _ h40) (Nat.le_of_ble_eq_true rfl)) (Nat.le_of_ble_eq_true rfl) (by show 0 + p2.toNatClampNeg ≤ 100; omega) dX7_begins_60 (fun q H hH => ?_)
  refine num_put (k := k) (q := q) (s0 := 3) (n0 := p2) (f := fun _ => 0) (arr := (p2.toNatClampNeg, .inr (.inl fun _ => 0))) hk hX hK (by decide) (by first | rfl | (rw [if_neg (by decide)]; rfl) | (rw [if_pos rfl]; rfl)) hH dX7_begins_62 (fun H locs hH => ?_)
  refine lv_iconst (v := 1) hx hb dX7_begins_65 kyi_1 ?_
  refine W.widen (k := 4) (n := 100) (Nat.le_of_ble_eq_true rfl) (by show 0 + p2.toNatClampNeg ≤ 100; omega) ?_
  exact hret _ _ _ _ _ ⟨q, rfl⟩ hH dX7_begins_66
noncomputable def FX0_numbers (rs rm : Nat → Int32) (nu : Nat → Nat → Int64) (p1 p2 p3 : Int32) : Option (Int32 × (Nat → Int32) × (Nat → Int32) × (Nat → Nat → Int64)) :=
  bd1 (FX0_isNumbers p1) fun b => if b2i b = 0 then some (-2, rs, rm, nu) else
  bd1 (FX0_in (Int32.toInt64 p2) 0 3) fun b2 => if b2i b2 = 0 then some (-2, rs, rm, nu) else
  if p3 ≤ 40 then bd0 (alg 4 p1) (if p3 < 0 then (if 0 ≤ p2 ∧ p2 ≤ 3 then some (-3, rs, rm, nu) else none) else if 0 ≤ p2 ∧ p2 ≤ 3 then some (0, upd rs p1.toNatClampNeg p2, upd rm p1.toNatClampNeg p3, up nu p1.toNatClampNeg (fun _ => 0)) else none) else some (-3, rs, rm, nu)
abbrev rm_X0_numbers : Room := { frames := 12, cells := 4, slots := 100, locals := 10400 }
theorem hd_begins : yX7_begins.cls = RX7 ∧ yX7_begins.cls ≠ "java/lang/invoke/MethodHandle" ∧ yX7_begins.cls ≠ "java/lang/invoke/VarHandle" ∧ (parseMethodDescriptor yX7_begins.desc).map (fun d => d.parameters.length) = some 2 := by decide +kernel
theorem le40 {x : Int32} (h : x ≤ 40) : x.toNatClampNeg ≤ 40 := by
  have h1 := Int32.le_iff_toInt_le.mp h
  have e : (40 : Int32).toInt = 40 := rfl
  rw [e] at h1
  show x.toInt.toNat ≤ 40
  omega
theorem re4n {a b : Int32} {c d e f : Nat → Int32} {g h : Nat → Nat → Int64} (k : some (a, c, e, g) = some (b, d, f, h)) : a = b ∧ c = d ∧ e = f ∧ g = h := by cases k; exact ⟨rfl, rfl, rfl, rfl⟩
set_option maxHeartbeats 4000000 in
theorem met_X0_numbers {l : Launch} {D : va_G} {ad : Nat → Nat} {cA : Nat → ClassId} {sA ta ba na : Nat → Nat} {gi : Nat → Option Nat} {rh : Option Nat} {rt : Option Nat} {g_sort : Int32} {g_size : Int32} {g_from : Int32} {g_to : Int32} {g_level : Int32} {g_full : Int32} {a_tape : Nat → Int32} {a_hAt : Nat → Int32} {a_hMany : Nat → Int32} {a_tAt : Nat → Int32} {a_tMany : Nat → Int32} {a_least : Nat → Int32} {a_place : Nat → Int32} {a_to : Nat → Int32} {a_order : Nat → Int32} {a_fails : Nat → Int32} {a_sKeys : Nat → Int64} {a_sRow : Nat → Int64} {a_sSlots : Nat → Int32} {a_bKeys : Nat → Int64} {a_bRow : Nat → Int64} {a_bSlots : Nat → Int32} {a_easy : Nat → Int32} {a_wants : Nat → Int32} {a_wantedBy : Nat → Int32} {a_ring : Nat → Int32} {a_carried : Nat → Int32} {a_latest : Nat → Int32} {v_taped : Int32} {v_faultKind : Int32} {v_faultPlace : Int32} {v_x : Int32} {v_ordered : Int32} {v_sought : Int32} {v_lastSought : Int32} {v_hMoved : Int32} {v_hWithout : Int32} {v_tMoved : Int32} {v_tWithout : Int32} {v_places : Int32} {v_elsewhere : Int32} {v_sMany : Int32} {v_bMany : Int32} {v_year : Int32} {y_lies : Int64} {a_rsort : Nat → Int32} {a_rmany : Nat → Int32} {a_nums : Nat → Nat → Int64}  {pl : va_W} {E : EvT} {t : Nat → Int32} {nb : Int32} {bv : Nat → Int32 → Int32 → Int32 → Int32 → Int32 → Int32 → Bool} {p1 p2 p3 q_ans : Int32} {q_rs q_rm : Nat → Int32} {q_nu : Nat → Nat → Int64} (hEX : EvX E) (hfl : l.stackTraces = false) (hPO : PO cA pl ta ba t nb bv) (hF : FX0_numbers a_rsort a_rmany a_nums p1 p2 p3 = some (q_ans, q_rs, q_rm, q_nu)) : MX l yX0_numbers (ws_ yX0_numbers cX0_numbers 4 (some .int)) rm_X0_numbers D vwA (cT cA) E [.ref (ad 0), .int p1, .int p2, .int p3] (cW ad cA sA ta ba na gi rh rt g_sort g_size g_from g_to g_level g_full a_tape a_hAt a_hMany a_tAt a_tMany a_least a_place a_to a_order a_fails a_sKeys a_sRow a_sSlots a_bKeys a_bRow a_bSlots a_easy a_wants a_wantedBy a_ring a_carried a_latest v_taped v_faultKind v_faultPlace v_x v_ordered v_sought v_lastSought v_hMoved v_hWithout v_tMoved v_tWithout v_places v_elsewhere v_sMany v_bMany v_year y_lies a_rsort a_rmany a_nums pl) (fun z => ∃ na2 : Nat → Nat, z = (cW ad cA sA ta ba na2 gi rh rt g_sort g_size g_from g_to g_level g_full a_tape a_hAt a_hMany a_tAt a_tMany a_least a_place a_to a_order a_fails a_sKeys a_sRow a_sSlots a_bKeys a_bRow a_bSlots a_easy a_wants a_wantedBy a_ring a_carried a_latest v_taped v_faultKind v_faultPlace v_x v_ordered v_sought v_lastSought v_hMoved v_hWithout v_tMoved v_tWithout v_places v_elsewhere v_sMany v_bMany v_year y_lies q_rs q_rm q_nu pl)) (some (.int q_ans)) := by
  refine MX.ofI (by decide) (Nat.le_of_ble_eq_true rfl) ?_
  intro p e s m args below meth c Q A hX hK hE0 hname hret H locs ls hH hl
  have hX : CallFix p m c cX0_numbers 4 s args lw_all RX0 := hX
  have hx := hX.1
  have hb := hX.2.1
  have hown := hX.2.2.2.1
  have hts := hX.2.2.2.2
  have hE := hEX.1
  have hEv := hE.1
  have hNW := hE.2.1 _ _ _ hE0
  have hl : lv_has ls 4 [(0, .ref (ad 0)), (1, .int p1), (2, .int p2), (3, .int p3)] := hl
  delta FX0_numbers at hF
  refine lv_iload_n hx hb dX0_numbers_0 rfl (lv_at hl 1 rfl) ?_
  obtain ⟨b1, he, hF⟩ := bd1e hF
  refine mxS hX hK hEv hE0 hH (met_X0_isNumbers hE hPO he) gw_StoneYear_305 hd_yX0_isNumbers ⟨Nat.le_of_ble_eq_true rfl, Nat.le_of_ble_eq_true rfl⟩ rfl rfl hl (Nat.le_of_ble_eq_true rfl) dX0_numbers_1 ⟨Nat.le_of_ble_eq_true rfl, Nat.le_of_ble_eq_true rfl⟩ (fun w2 H locs hw hH => ?_)
  subst hw
  refine lv_if_eq (tgt := 19) hx hb dX0_numbers_4 rfl (fun c1 => ?_) (fun c1 => ?_)
  · have hF := itp c1 hF
    refine lv_bipush (v := (-2)) hx hb dX0_numbers_19 kyb_m2 ?_
    obtain ⟨rfl, rfl, rfl, rfl⟩ := re4n hF
    refine W.widen (k := 4) (n := 100) (Nat.le_of_ble_eq_true rfl) (Nat.le_of_ble_eq_true rfl) ?_
    exact hret _ _ _ _ _ ⟨_, rfl⟩ hH dX0_numbers_21
  have hF := itn c1 hF
  refine lv_iload_n hx hb dX0_numbers_7 rfl (lv_at hl 2 rfl) ?_
  refine lv_i2l (v := (Int32.toInt64 p2)) hx hb dX0_numbers_8 rfl ?_
  refine lv_lconst (v := 0) hx hb dX0_numbers_9 rfl ?_
  refine lv_ldc2 (v := 3) hx hb hown (hts _ q1191) dX0_numbers_10 ?_
  obtain ⟨b2, he, hF⟩ := bd1e hF
  refine mxS hX hK hEv hE0 hH (met_X0_in hE hPO he) gw_StoneYear_106 hd_yX0_in ⟨Nat.le_of_ble_eq_true rfl, Nat.le_of_ble_eq_true rfl⟩ rfl rfl hl (Nat.le_of_ble_eq_true rfl) dX0_numbers_13 ⟨Nat.le_of_ble_eq_true rfl, Nat.le_of_ble_eq_true rfl⟩ (fun w2 H locs hw hH => ?_)
  subst hw
  refine lv_if_ne (tgt := 22) hx hb dX0_numbers_16 rfl (fun c2 => ?_) (fun c2 => ?_)
  rotate_left
  · have hF := itp c2 hF
    refine lv_bipush (v := (-2)) hx hb dX0_numbers_19 kyb_m2 ?_
    obtain ⟨rfl, rfl, rfl, rfl⟩ := re4n hF
    refine W.widen (k := 4) (n := 100) (Nat.le_of_ble_eq_true rfl) (Nat.le_of_ble_eq_true rfl) ?_
    exact hret _ _ _ _ _ ⟨_, rfl⟩ hH dX0_numbers_21
  have hF := itn c2 hF
  refine lv_iload_n hx hb dX0_numbers_22 rfl (lv_at hl 3 rfl) ?_
  refine lv_bipush (v := 40) hx hb dX0_numbers_23 (by decide) ?_
  refine lv_icmp_le (tgt := 31) hx hb dX0_numbers_25 rfl (fun c3 => ?_) (fun c3 => ?_)
  rotate_left
  · have hF := itn c3 hF
    refine lv_bipush (v := (-3)) hx hb dX0_numbers_28 kyb_m3 ?_
    obtain ⟨rfl, rfl, rfl, rfl⟩ := re4n hF
    refine W.widen (k := 4) (n := 100) (Nat.le_of_ble_eq_true rfl) (Nat.le_of_ble_eq_true rfl) ?_
    exact hret _ _ _ _ _ ⟨_, rfl⟩ hH dX0_numbers_30
  have hF := itp c3 hF
  obtain ⟨hg, hF⟩ := bd0e hF
  refine lv_aload_n hx hb dX0_numbers_31 rfl (lv_at hl 0 rfl) ?_
  refine cg_Y_this_rows hX hK hNW hH dX0_numbers_32 ?_
  refine lv_iload_n hx hb dX0_numbers_35 rfl (lv_at hl 1 rfl) ?_
  refine cl_rows hX hK hH hg dX0_numbers_36 ?_
  refine lv_iload_n hx hb dX0_numbers_37 rfl (lv_at hl 2 rfl) ?_
  refine lv_iload_n hx hb dX0_numbers_38 rfl (lv_at hl 3 rfl) ?_
  by_cases hneg : p3 < 0
  · have hF := itp hneg hF
    by_cases h03 : 0 ≤ p2 ∧ p2 ≤ 3
    · have hF := itp h03 hF
      rcases i32_03 h03 with rfl | rfl | rfl | rfl
      · refine mxVW hX hK hEv hE0 hH (met_X7_begins_n0 hEX hfl hneg) (nrecv hK hH (alg_lt hg)) (lw_VW q1455 q1456 q1457 q139 q1458) hd_begins ⟨Nat.le_of_ble_eq_true rfl, Nat.le_of_ble_eq_true rfl⟩ rfl rfl hl (Nat.le_of_ble_eq_true rfl) dX0_numbers_39 ⟨Nat.le_of_ble_eq_true rfl, Nat.le_of_ble_eq_true rfl⟩ (fun w2 H locs hw hH => ?_)
        subst hw
        refine lv_if_eq (tgt := 49) hx hb dX0_numbers_42 rfl (fun _ => ?_) (fun c9 => absurd rfl c9)
        refine lv_bipush (v := (-3)) hx hb dX0_numbers_49 kyb_m3 ?_
        obtain ⟨rfl, rfl, rfl, rfl⟩ := re4n hF
        exact hret _ _ _ _ _ ⟨_, rfl⟩ hH dX0_numbers_51
      · refine mxVW hX hK hEv hE0 hH (met_X7_begins_n1 hEX hfl hneg) (nrecv hK hH (alg_lt hg)) (lw_VW q1455 q1456 q1457 q139 q1458) hd_begins ⟨Nat.le_of_ble_eq_true rfl, Nat.le_of_ble_eq_true rfl⟩ rfl rfl hl (Nat.le_of_ble_eq_true rfl) dX0_numbers_39 ⟨Nat.le_of_ble_eq_true rfl, Nat.le_of_ble_eq_true rfl⟩ (fun w2 H locs hw hH => ?_)
        subst hw
        refine lv_if_eq (tgt := 49) hx hb dX0_numbers_42 rfl (fun _ => ?_) (fun c9 => absurd rfl c9)
        refine lv_bipush (v := (-3)) hx hb dX0_numbers_49 kyb_m3 ?_
        obtain ⟨rfl, rfl, rfl, rfl⟩ := re4n hF
        exact hret _ _ _ _ _ ⟨_, rfl⟩ hH dX0_numbers_51
      · refine mxVW hX hK hEv hE0 hH (met_X7_begins_n2 hEX hfl hneg) (nrecv hK hH (alg_lt hg)) (lw_VW q1455 q1456 q1457 q139 q1458) hd_begins ⟨Nat.le_of_ble_eq_true rfl, Nat.le_of_ble_eq_true rfl⟩ rfl rfl hl (Nat.le_of_ble_eq_true rfl) dX0_numbers_39 ⟨Nat.le_of_ble_eq_true rfl, Nat.le_of_ble_eq_true rfl⟩ (fun w2 H locs hw hH => ?_)
        subst hw
        refine lv_if_eq (tgt := 49) hx hb dX0_numbers_42 rfl (fun _ => ?_) (fun c9 => absurd rfl c9)
        refine lv_bipush (v := (-3)) hx hb dX0_numbers_49 kyb_m3 ?_
        obtain ⟨rfl, rfl, rfl, rfl⟩ := re4n hF
        exact hret _ _ _ _ _ ⟨_, rfl⟩ hH dX0_numbers_51
      · refine mxVW hX hK hEv hE0 hH (met_X7_begins_n3 hEX hfl hneg) (nrecv hK hH (alg_lt hg)) (lw_VW q1455 q1456 q1457 q139 q1458) hd_begins ⟨Nat.le_of_ble_eq_true rfl, Nat.le_of_ble_eq_true rfl⟩ rfl rfl hl (Nat.le_of_ble_eq_true rfl) dX0_numbers_39 ⟨Nat.le_of_ble_eq_true rfl, Nat.le_of_ble_eq_true rfl⟩ (fun w2 H locs hw hH => ?_)
        subst hw
        refine lv_if_eq (tgt := 49) hx hb dX0_numbers_42 rfl (fun _ => ?_) (fun c9 => absurd rfl c9)
        refine lv_bipush (v := (-3)) hx hb dX0_numbers_49 kyb_m3 ?_
        obtain ⟨rfl, rfl, rfl, rfl⟩ := re4n hF
        exact hret _ _ _ _ _ ⟨_, rfl⟩ hH dX0_numbers_51
    · have hF := itn h03 hF
      cases hF
  · have hF := itn hneg hF
    by_cases h03 : 0 ≤ p2 ∧ p2 ≤ 3
    · have hF := itp h03 hF
      rcases i32_03 h03 with rfl | rfl | rfl | rfl
      · refine mxVW hX hK hEv hE0 hH (met_X7_begins_p0 hEX (alg_lt hg) hneg (le40 c3)) (nrecv hK hH (alg_lt hg)) (lw_VW q1455 q1456 q1457 q139 q1458) hd_begins ⟨Nat.le_of_ble_eq_true rfl, Nat.le_of_ble_eq_true rfl⟩ rfl rfl hl (Nat.le_of_ble_eq_true rfl) dX0_numbers_39 ⟨Nat.le_of_ble_eq_true rfl, Nat.le_of_ble_eq_true rfl⟩ (fun w2 H locs hw hH => ?_)
        obtain ⟨q, rfl⟩ := hw
        refine lv_if_eq (tgt := 49) hx hb dX0_numbers_42 rfl (fun c9 => absurd c9 (by decide)) (fun _ => ?_)
        refine lv_iconst (v := 0) hx hb dX0_numbers_45 kyi_0 ?_
        refine lv_goto (tgt := 51) hx hb dX0_numbers_46 rfl ?_
        obtain ⟨rfl, rfl, rfl, rfl⟩ := re4n hF
        exact hret _ _ _ _ _ ⟨_, rfl⟩ hH dX0_numbers_51
      · refine mxVW hX hK hEv hE0 hH (met_X7_begins_p1 hEX (alg_lt hg) hneg (le40 c3)) (nrecv hK hH (alg_lt hg)) (lw_VW q1455 q1456 q1457 q139 q1458) hd_begins ⟨Nat.le_of_ble_eq_true rfl, Nat.le_of_ble_eq_true rfl⟩ rfl rfl hl (Nat.le_of_ble_eq_true rfl) dX0_numbers_39 ⟨Nat.le_of_ble_eq_true rfl, Nat.le_of_ble_eq_true rfl⟩ (fun w2 H locs hw hH => ?_)
        obtain ⟨q, rfl⟩ := hw
        refine lv_if_eq (tgt := 49) hx hb dX0_numbers_42 rfl (fun c9 => absurd c9 (by decide)) (fun _ => ?_)
        refine lv_iconst (v := 0) hx hb dX0_numbers_45 kyi_0 ?_
        refine lv_goto (tgt := 51) hx hb dX0_numbers_46 rfl ?_
        obtain ⟨rfl, rfl, rfl, rfl⟩ := re4n hF
        exact hret _ _ _ _ _ ⟨_, rfl⟩ hH dX0_numbers_51
      · refine mxVW hX hK hEv hE0 hH (met_X7_begins_p2 hEX (alg_lt hg) hneg (le40 c3)) (nrecv hK hH (alg_lt hg)) (lw_VW q1455 q1456 q1457 q139 q1458) hd_begins ⟨Nat.le_of_ble_eq_true rfl, Nat.le_of_ble_eq_true rfl⟩ rfl rfl hl (Nat.le_of_ble_eq_true rfl) dX0_numbers_39 ⟨Nat.le_of_ble_eq_true rfl, Nat.le_of_ble_eq_true rfl⟩ (fun w2 H locs hw hH => ?_)
        obtain ⟨q, rfl⟩ := hw
        refine lv_if_eq (tgt := 49) hx hb dX0_numbers_42 rfl (fun c9 => absurd c9 (by decide)) (fun _ => ?_)
        refine lv_iconst (v := 0) hx hb dX0_numbers_45 kyi_0 ?_
        refine lv_goto (tgt := 51) hx hb dX0_numbers_46 rfl ?_
        obtain ⟨rfl, rfl, rfl, rfl⟩ := re4n hF
        exact hret _ _ _ _ _ ⟨_, rfl⟩ hH dX0_numbers_51
      · refine mxVW hX hK hEv hE0 hH (met_X7_begins_p3 hEX (alg_lt hg) hneg (le40 c3)) (nrecv hK hH (alg_lt hg)) (lw_VW q1455 q1456 q1457 q139 q1458) hd_begins ⟨Nat.le_of_ble_eq_true rfl, Nat.le_of_ble_eq_true rfl⟩ rfl rfl hl (Nat.le_of_ble_eq_true rfl) dX0_numbers_39 ⟨Nat.le_of_ble_eq_true rfl, Nat.le_of_ble_eq_true rfl⟩ (fun w2 H locs hw hH => ?_)
        obtain ⟨q, rfl⟩ := hw
        refine lv_if_eq (tgt := 49) hx hb dX0_numbers_42 rfl (fun c9 => absurd c9 (by decide)) (fun _ => ?_)
        refine lv_iconst (v := 0) hx hb dX0_numbers_45 kyi_0 ?_
        refine lv_goto (tgt := 51) hx hb dX0_numbers_46 rfl ?_
        obtain ⟨rfl, rfl, rfl, rfl⟩ := re4n hF
        exact hret _ _ _ _ _ ⟨_, rfl⟩ hH dX0_numbers_51
    · have hF := itn h03 hF
      cases hF
