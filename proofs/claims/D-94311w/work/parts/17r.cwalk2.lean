set_option maxRecDepth 100000
abbrev rm_X4_undoes_h : Room := { frames := 2, cells := 0, slots := 0, locals := 45 }
set_option maxHeartbeats 4000000 in
theorem met_X4_undoes_h {l : Launch} {D : va_G} {ad : Nat → Nat} {cA : Nat → ClassId} {sA ta ba na : Nat → Nat} {gi : Nat → Option Nat} {rt : Option Nat} {g_sort : Int32} {g_size : Int32} {g_from : Int32} {g_to : Int32} {g_level : Int32} {g_full : Int32} {a_tape : Nat → Int32} {a_hAt : Nat → Int32} {a_hMany : Nat → Int32} {a_tAt : Nat → Int32} {a_tMany : Nat → Int32} {a_least : Nat → Int32} {a_place : Nat → Int32} {a_to : Nat → Int32} {a_order : Nat → Int32} {a_fails : Nat → Int32} {a_sKeys : Nat → Int64} {a_sRow : Nat → Int64} {a_sSlots : Nat → Int32} {a_bKeys : Nat → Int64} {a_bRow : Nat → Int64} {a_bSlots : Nat → Int32} {a_easy : Nat → Int32} {a_wants : Nat → Int32} {a_wantedBy : Nat → Int32} {a_ring : Nat → Int32} {a_carried : Nat → Int32} {a_latest : Nat → Int32} {v_taped : Int32} {v_faultKind : Int32} {v_faultPlace : Int32} {v_x : Int32} {v_ordered : Int32} {v_sought : Int32} {v_lastSought : Int32} {v_hMoved : Int32} {v_hWithout : Int32} {v_tMoved : Int32} {v_tWithout : Int32} {v_places : Int32} {v_elsewhere : Int32} {v_sMany : Int32} {v_bMany : Int32} {v_year : Int32} {y_lies : Int64} {a_rsort : Nat → Int32} {a_rmany : Nat → Int32} {a_nums : Nat → Nat → Int64} {t : Nat → Int32} {nb : Int32} {bv : Nat → Int32 → Int32 → Int32 → Int32 → Int32 → Int32 → Bool} {pl : va_W} {tb : Nat → Nat} {u : Nat → Int32}  {p1 : Int32} {p2 : Int32} {p3 : Int32} {ra_hAt : Nat → Int32} {ra_hMany : Nat → Int32} {rv_hMoved : Int32} {E : EvT} (hE : EvN E) (hPO : PO cA pl ta ba t nb bv) (hU : TownAt cA pl tb u) (hF : FX4_undoes a_hAt a_hMany v_hMoved p1 p2 p3 = some (ra_hAt, ra_hMany, rv_hMoved)) : MX l yX4_undoes (ws_ yX4_undoes cX4_undoes 4 (Option.none : Option Jvm.ClassFile.FieldType)) rm_X4_undoes_h D vwA (cT cA) E [.ref (ad 4), .int p1, .int p2, .int p3] (cW ad cA sA ta ba na gi (some (tb 0)) rt g_sort g_size g_from g_to g_level g_full a_tape a_hAt a_hMany a_tAt a_tMany a_least a_place a_to a_order a_fails a_sKeys a_sRow a_sSlots a_bKeys a_bRow a_bSlots a_easy a_wants a_wantedBy a_ring a_carried a_latest v_taped v_faultKind v_faultPlace v_x v_ordered v_sought v_lastSought v_hMoved v_hWithout v_tMoved v_tWithout v_places v_elsewhere v_sMany v_bMany v_year y_lies a_rsort a_rmany a_nums pl) (fun z => z = (cW ad cA sA ta ba na gi (some (tb 0)) rt g_sort g_size g_from g_to g_level g_full a_tape ra_hAt ra_hMany a_tAt a_tMany a_least a_place a_to a_order a_fails a_sKeys a_sRow a_sSlots a_bKeys a_bRow a_bSlots a_easy a_wants a_wantedBy a_ring a_carried a_latest v_taped v_faultKind v_faultPlace v_x v_ordered v_sought v_lastSought rv_hMoved v_hWithout v_tMoved v_tWithout v_places v_elsewhere v_sMany v_bMany v_year y_lies a_rsort a_rmany a_nums pl)) none := by
  refine MX.ofV (by decide) (Nat.le_of_ble_eq_true rfl) ?_
  intro p e s m args below meth c Q A hX hK hE0 hname hret H locs ls hH hl
  have hX : CallFix p m c cX4_undoes 4 s args lw_all RX4 := hX
  have hx := hX.1
  have hb := hX.2.1
  have hown := hX.2.2.2.1
  have hts := hX.2.2.2.2
  have hl : lv_has ls 4 [(0, .ref (ad 4)), (1, .int p1), (2, .int p2), (3, .int p3)] := hl
  have hEv := hE.1
  have hNW := hE.2.1 _ _ _ hE0
  have hT := hPO.1
  have hB := hPO.2
  delta FX4_undoes at hF
  refine lv_aload_n hx hb dX4_undoes_0 rfl (lv_at hl 0 rfl) ?_
  refine lv_iload_n hx hb dX4_undoes_1 rfl (lv_at hl 2 rfl) ?_
  refine lv_iload_n hx hb dX4_undoes_2 rfl (lv_at hl 1 rfl) ?_
  refine lv_iconst (v := 0) hx hb dX4_undoes_3 kyi_0 ?_
  obtain ⟨x_58, a_hAt_59, a_hMany_60, v_hMoved_61, he, hF⟩ := bd4e hF
  refine mxV hX hK hEv hE0 hH (met_X4_carries_h hE hPO hU he) (crecv hK hH 4 4 rfl rfl) gw_StoneYear_Stacks_169 hd_yX4_carries ⟨Nat.le_of_ble_eq_true rfl, Nat.le_of_ble_eq_true rfl⟩ rfl rfl hl (Nat.le_of_ble_eq_true rfl) dX4_undoes_4 ⟨Nat.le_of_ble_eq_true rfl, Nat.le_of_ble_eq_true rfl⟩ (fun w2 H locs hw hH => ?_)
  subst hw
  refine lv_pop hx hb dX4_undoes_7 rfl ?_
  refine lv_aload_n hx hb dX4_undoes_8 rfl (lv_at hl 0 rfl) ?_
  refine lv_iload_n hx hb dX4_undoes_9 rfl (lv_at hl 3 rfl) ?_
  refine cp_Y_Stacks_stkh_moved hX hK hNW hH dX4_undoes_10 (fun H locs hH => ?_)
  obtain ⟨rfl, rfl, rfl⟩ := re3 hF
  exact hret _ _ _ _ _ rfl hH dX4_undoes_13
abbrev rm_X4_undoes_t : Room := { frames := 2, cells := 0, slots := 0, locals := 45 }
set_option maxHeartbeats 4000000 in
theorem met_X4_undoes_t {l : Launch} {D : va_G} {ad : Nat → Nat} {cA : Nat → ClassId} {sA ta ba na : Nat → Nat} {gi : Nat → Option Nat} {rh : Option Nat} {g_sort : Int32} {g_size : Int32} {g_from : Int32} {g_to : Int32} {g_level : Int32} {g_full : Int32} {a_tape : Nat → Int32} {a_hAt : Nat → Int32} {a_hMany : Nat → Int32} {a_tAt : Nat → Int32} {a_tMany : Nat → Int32} {a_least : Nat → Int32} {a_place : Nat → Int32} {a_to : Nat → Int32} {a_order : Nat → Int32} {a_fails : Nat → Int32} {a_sKeys : Nat → Int64} {a_sRow : Nat → Int64} {a_sSlots : Nat → Int32} {a_bKeys : Nat → Int64} {a_bRow : Nat → Int64} {a_bSlots : Nat → Int32} {a_easy : Nat → Int32} {a_wants : Nat → Int32} {a_wantedBy : Nat → Int32} {a_ring : Nat → Int32} {a_carried : Nat → Int32} {a_latest : Nat → Int32} {v_taped : Int32} {v_faultKind : Int32} {v_faultPlace : Int32} {v_x : Int32} {v_ordered : Int32} {v_sought : Int32} {v_lastSought : Int32} {v_hMoved : Int32} {v_hWithout : Int32} {v_tMoved : Int32} {v_tWithout : Int32} {v_places : Int32} {v_elsewhere : Int32} {v_sMany : Int32} {v_bMany : Int32} {v_year : Int32} {y_lies : Int64} {a_rsort : Nat → Int32} {a_rmany : Nat → Int32} {a_nums : Nat → Nat → Int64} {t : Nat → Int32} {nb : Int32} {bv : Nat → Int32 → Int32 → Int32 → Int32 → Int32 → Int32 → Bool} {pl : va_W} {tb : Nat → Nat} {u : Nat → Int32}  {p1 : Int32} {p2 : Int32} {p3 : Int32} {ra_tAt : Nat → Int32} {ra_tMany : Nat → Int32} {rv_tMoved : Int32} {E : EvT} (hE : EvN E) (hPO : PO cA pl ta ba t nb bv) (hU : TownAt cA pl tb u) (hF : FX4_undoes a_tAt a_tMany v_tMoved p1 p2 p3 = some (ra_tAt, ra_tMany, rv_tMoved)) : MX l yX4_undoes (ws_ yX4_undoes cX4_undoes 4 (Option.none : Option Jvm.ClassFile.FieldType)) rm_X4_undoes_t D vwA (cT cA) E [.ref (ad 7), .int p1, .int p2, .int p3] (cW ad cA sA ta ba na gi rh (some (tb 0)) g_sort g_size g_from g_to g_level g_full a_tape a_hAt a_hMany a_tAt a_tMany a_least a_place a_to a_order a_fails a_sKeys a_sRow a_sSlots a_bKeys a_bRow a_bSlots a_easy a_wants a_wantedBy a_ring a_carried a_latest v_taped v_faultKind v_faultPlace v_x v_ordered v_sought v_lastSought v_hMoved v_hWithout v_tMoved v_tWithout v_places v_elsewhere v_sMany v_bMany v_year y_lies a_rsort a_rmany a_nums pl) (fun z => z = (cW ad cA sA ta ba na gi rh (some (tb 0)) g_sort g_size g_from g_to g_level g_full a_tape a_hAt a_hMany ra_tAt ra_tMany a_least a_place a_to a_order a_fails a_sKeys a_sRow a_sSlots a_bKeys a_bRow a_bSlots a_easy a_wants a_wantedBy a_ring a_carried a_latest v_taped v_faultKind v_faultPlace v_x v_ordered v_sought v_lastSought v_hMoved v_hWithout rv_tMoved v_tWithout v_places v_elsewhere v_sMany v_bMany v_year y_lies a_rsort a_rmany a_nums pl)) none := by
  refine MX.ofV (by decide) (Nat.le_of_ble_eq_true rfl) ?_
  intro p e s m args below meth c Q A hX hK hE0 hname hret H locs ls hH hl
  have hX : CallFix p m c cX4_undoes 4 s args lw_all RX4 := hX
  have hx := hX.1
  have hb := hX.2.1
  have hown := hX.2.2.2.1
  have hts := hX.2.2.2.2
  have hl : lv_has ls 4 [(0, .ref (ad 7)), (1, .int p1), (2, .int p2), (3, .int p3)] := hl
  have hEv := hE.1
  have hNW := hE.2.1 _ _ _ hE0
  have hT := hPO.1
  have hB := hPO.2
  delta FX4_undoes at hF
  refine lv_aload_n hx hb dX4_undoes_0 rfl (lv_at hl 0 rfl) ?_
  refine lv_iload_n hx hb dX4_undoes_1 rfl (lv_at hl 2 rfl) ?_
  refine lv_iload_n hx hb dX4_undoes_2 rfl (lv_at hl 1 rfl) ?_
  refine lv_iconst (v := 0) hx hb dX4_undoes_3 kyi_0 ?_
  obtain ⟨x_58, a_tAt_59, a_tMany_60, v_tMoved_61, he, hF⟩ := bd4e hF
  refine mxV hX hK hEv hE0 hH (met_X4_carries_t hE hPO hU he) (crecv hK hH 7 4 rfl rfl) gw_StoneYear_Stacks_169 hd_yX4_carries ⟨Nat.le_of_ble_eq_true rfl, Nat.le_of_ble_eq_true rfl⟩ rfl rfl hl (Nat.le_of_ble_eq_true rfl) dX4_undoes_4 ⟨Nat.le_of_ble_eq_true rfl, Nat.le_of_ble_eq_true rfl⟩ (fun w2 H locs hw hH => ?_)
  subst hw
  refine lv_pop hx hb dX4_undoes_7 rfl ?_
  refine lv_aload_n hx hb dX4_undoes_8 rfl (lv_at hl 0 rfl) ?_
  refine lv_iload_n hx hb dX4_undoes_9 rfl (lv_at hl 3 rfl) ?_
  refine cp_Y_Stacks_stkt_moved hX hK hNW hH dX4_undoes_10 (fun H locs hH => ?_)
  obtain ⟨rfl, rfl, rfl⟩ := re3 hF
  exact hret _ _ _ _ _ rfl hH dX4_undoes_13
abbrev rm_X0_orders (d : Nat) : Room := { frames := 262 + d, cells := 0, slots := 0, locals := 6047 + 27 * d }
set_option maxHeartbeats 4000000 in
theorem met_X0_orders_b {l : Launch} {D : va_G} {ad : Nat → Nat} {cA : Nat → ClassId} {sA ta ba na : Nat → Nat} {gi : Nat → Option Nat} {rh : Option Nat} {g_sort : Int32} {g_size : Int32} {g_from : Int32} {g_to : Int32} {g_level : Int32} {g_full : Int32} {a_tape : Nat → Int32} {a_hAt : Nat → Int32} {a_hMany : Nat → Int32} {a_tAt : Nat → Int32} {a_tMany : Nat → Int32} {a_least : Nat → Int32} {a_place : Nat → Int32} {a_to : Nat → Int32} {a_order : Nat → Int32} {a_fails : Nat → Int32} {a_sKeys : Nat → Int64} {a_sRow : Nat → Int64} {a_sSlots : Nat → Int32} {a_bKeys : Nat → Int64} {a_bRow : Nat → Int64} {a_bSlots : Nat → Int32} {a_easy : Nat → Int32} {a_wants : Nat → Int32} {a_wantedBy : Nat → Int32} {a_ring : Nat → Int32} {a_carried : Nat → Int32} {a_latest : Nat → Int32} {v_taped : Int32} {v_faultKind : Int32} {v_faultPlace : Int32} {v_x : Int32} {v_ordered : Int32} {v_sought : Int32} {v_lastSought : Int32} {v_hMoved : Int32} {v_hWithout : Int32} {v_tMoved : Int32} {v_tWithout : Int32} {v_places : Int32} {v_elsewhere : Int32} {v_sMany : Int32} {v_bMany : Int32} {v_year : Int32} {y_lies : Int64} {a_rsort : Nat → Int32} {a_rmany : Nat → Int32} {a_nums : Nat → Nat → Int64} {t : Nat → Int32} {nb : Int32} {bv : Nat → Int32 → Int32 → Int32 → Int32 → Int32 → Int32 → Bool} {pl : va_W}  {p1 : Int32} {p2 : Int32} {p3 : Int32} {res : Bool} {ra_tAt : Nat → Int32} {ra_tMany : Nat → Int32} {ra_order : Nat → Int32} {ra_fails : Nat → Int32} {rv_tMoved : Int32} {E : EvT} (hE : EvN E) (hPO : PO cA pl ta ba t nb bv)  (d : Nat) {rf : (Nat → Int32) → (Nat → Int32) → (Nat → Int32) → (Nat → Int32) → (Nat → Int32) → Int32 → Int32 → Int64 → (Nat → Int32) → Int32 → (Nat → Int32 → Int32 → Int32 → Int32 → Int32 → Int32 → Bool) → Int32 → Int32 → Int32 → Option (Bool × (Nat → Int32) × (Nat → Int32) × (Nat → Int32) × (Nat → Int32) × Int32)} (hrf : ∀ {ad : Nat → Nat} {sA na : Nat → Nat} {gi : Nat → Option Nat} {rh : Option Nat} {g_sort : Int32} {g_size : Int32} {g_from : Int32} {g_to : Int32} {g_level : Int32} {g_full : Int32} {a_tape : Nat → Int32} {a_hAt : Nat → Int32} {a_hMany : Nat → Int32} {a_tAt : Nat → Int32} {a_tMany : Nat → Int32} {a_least : Nat → Int32} {a_place : Nat → Int32} {a_to : Nat → Int32} {a_order : Nat → Int32} {a_fails : Nat → Int32} {a_sKeys : Nat → Int64} {a_sRow : Nat → Int64} {a_sSlots : Nat → Int32} {a_bKeys : Nat → Int64} {a_bRow : Nat → Int64} {a_bSlots : Nat → Int32} {a_easy : Nat → Int32} {a_wants : Nat → Int32} {a_wantedBy : Nat → Int32} {a_ring : Nat → Int32} {a_carried : Nat → Int32} {a_latest : Nat → Int32} {v_taped : Int32} {v_faultKind : Int32} {v_faultPlace : Int32} {v_x : Int32} {v_ordered : Int32} {v_sought : Int32} {v_lastSought : Int32} {v_hMoved : Int32} {v_hWithout : Int32} {v_tMoved : Int32} {v_tWithout : Int32} {v_places : Int32} {v_elsewhere : Int32} {v_sMany : Int32} {v_bMany : Int32} {v_year : Int32} {y_lies : Int64} {a_rsort : Nat → Int32} {a_rmany : Nat → Int32} {a_nums : Nat → Nat → Int64}   {p1 : Int32} {p2 : Int32} {p3 : Int32} {res : Bool} {ra_tAt : Nat → Int32} {ra_tMany : Nat → Int32} {ra_order : Nat → Int32} {ra_fails : Nat → Int32} {rv_tMoved : Int32} , rf a_tAt a_tMany a_to a_order a_fails v_tMoved v_tWithout y_lies t nb bv p1 p2 p3 = some (res, ra_tAt, ra_tMany, ra_order, ra_fails, rv_tMoved) → MX l yX0_orders (ws_ yX0_orders cX0_orders 8 (Option.some Jvm.ClassFile.FieldType.boolean)) (rm_X0_orders d) D vwA (cT cA) E [.ref (ad 0), .int p1, .int p2, .int p3] (cW ad cA sA ta ba na gi rh (some (ta 0)) g_sort g_size g_from g_to g_level g_full a_tape a_hAt a_hMany a_tAt a_tMany a_least a_place a_to a_order a_fails a_sKeys a_sRow a_sSlots a_bKeys a_bRow a_bSlots a_easy a_wants a_wantedBy a_ring a_carried a_latest v_taped v_faultKind v_faultPlace v_x v_ordered v_sought v_lastSought v_hMoved v_hWithout v_tMoved v_tWithout v_places v_elsewhere v_sMany v_bMany v_year y_lies a_rsort a_rmany a_nums pl) (fun z => ∃ g_sort' : Int32, ∃ g_size' : Int32, ∃ g_from' : Int32, ∃ g_to' : Int32, ∃ g_level' : Int32, ∃ g_full' : Int32, z = (cW ad cA sA ta ba na gi rh (some (ta 0)) g_sort' g_size' g_from' g_to' g_level' g_full' a_tape a_hAt a_hMany ra_tAt ra_tMany a_least a_place a_to ra_order ra_fails a_sKeys a_sRow a_sSlots a_bKeys a_bRow a_bSlots a_easy a_wants a_wantedBy a_ring a_carried a_latest v_taped v_faultKind v_faultPlace v_x v_ordered v_sought v_lastSought v_hMoved v_hWithout rv_tMoved v_tWithout v_places v_elsewhere v_sMany v_bMany v_year y_lies a_rsort a_rmany a_nums pl)) (some (.int (b2i res)))) (hF : FX0_orders_b rf a_tAt a_tMany a_to a_order a_fails v_tMoved v_tWithout y_lies t nb bv p1 p2 p3 = some (res, ra_tAt, ra_tMany, ra_order, ra_fails, rv_tMoved)) : MX l yX0_orders (ws_ yX0_orders cX0_orders 8 (Option.some Jvm.ClassFile.FieldType.boolean)) (rm_X0_orders (d + 1)) D vwA (cT cA) E [.ref (ad 0), .int p1, .int p2, .int p3] (cW ad cA sA ta ba na gi rh (some (ta 0)) g_sort g_size g_from g_to g_level g_full a_tape a_hAt a_hMany a_tAt a_tMany a_least a_place a_to a_order a_fails a_sKeys a_sRow a_sSlots a_bKeys a_bRow a_bSlots a_easy a_wants a_wantedBy a_ring a_carried a_latest v_taped v_faultKind v_faultPlace v_x v_ordered v_sought v_lastSought v_hMoved v_hWithout v_tMoved v_tWithout v_places v_elsewhere v_sMany v_bMany v_year y_lies a_rsort a_rmany a_nums pl) (fun z => ∃ g_sort' : Int32, ∃ g_size' : Int32, ∃ g_from' : Int32, ∃ g_to' : Int32, ∃ g_level' : Int32, ∃ g_full' : Int32, z = (cW ad cA sA ta ba na gi rh (some (ta 0)) g_sort' g_size' g_from' g_to' g_level' g_full' a_tape a_hAt a_hMany ra_tAt ra_tMany a_least a_place a_to ra_order ra_fails a_sKeys a_sRow a_sSlots a_bKeys a_bRow a_bSlots a_easy a_wants a_wantedBy a_ring a_carried a_latest v_taped v_faultKind v_faultPlace v_x v_ordered v_sought v_lastSought v_hMoved v_hWithout rv_tMoved v_tWithout v_places v_elsewhere v_sMany v_bMany v_year y_lies a_rsort a_rmany a_nums pl)) (some (.int (b2i res))) := by
  refine MX.ofZ (by decide) (Nat.le_of_ble_eq_true rfl) ?_
  intro p e s m args below meth c Q A hX hK hE0 hname hret H locs ls hH hl
  have hX : CallFix p m c cX0_orders 8 s args lw_all RX0 := hX
  have hx := hX.1
  have hb := hX.2.1
  have hown := hX.2.2.2.1
  have hts := hX.2.2.2.2
  have hl : lv_has ls 8 [(0, .ref (ad 0)), (1, .int p1), (2, .int p2), (3, .int p3)] := hl
  have hEv := hE.1
  have hNW := hE.2.1 _ _ _ hE0
  have hT := hPO.1
  have hB := hPO.2
  delta FX0_orders_b at hF
  refine lv_iload_n hx hb dX0_orders_0 rfl (lv_at hl 2 rfl) ?_
  refine lv_iload_n hx hb dX0_orders_1 rfl (lv_at hl 1 rfl) ?_
  refine lv_icmp_ne (tgt := 7) hx hb dX0_orders_2 rfl (fun c_57 => ?_) (fun c_57 => ?_)
  · have hF := itn c_57 hF
    refine lv_aload_n hx hb dX0_orders_7 rfl (lv_at hl 0 rfl) ?_
    refine cg_Y_this_fails hX hK hNW hH dX0_orders_8 ?_
    refine lv_iload_n hx hb dX0_orders_11 rfl (lv_at hl 2 rfl) ?_
    obtain ⟨x_58, he, hF⟩ := bd1e hF
    refine cl_fails hX hK hH he dX0_orders_12 ?_
    refine lv_if_eq (tgt := 18) hx hb dX0_orders_13 rfl (fun c_59 => ?_) (fun c_59 => ?_)
    · have hF := itp c_59 hF
      refine lv_iconst (v := 0) hx hb dX0_orders_18 kyi_0 ?_
      refine lv_istore (lv' := [(4, .int 0), (0, .ref (ad 0)), (1, .int p1), (2, .int p2), (3, .int p3)]) hx hb dX0_orders_19 hl (by decide) rfl (fun ls hl => ?_)
      obtain ⟨xx21, ee21, kk21_0, kk21_1⟩ := bdS2e hF
      have k21_0 : ∀ (a_tAt_176 : Nat → Int32) (a_tMany_177 : Nat → Int32) (a_order_178 : Nat → Int32) (a_fails_179 : Nat → Int32) (v_tMoved_180 : Int32), xx21 = (.inl (a_tAt_176, a_tMany_177, a_order_178, a_fails_179, v_tMoved_180)) → ∀ (g_sort_181 : Int32) (g_size_182 : Int32) (g_from_183 : Int32) (g_to_184 : Int32) (g_level_185 : Int32) (g_full_186 : Int32), ∀ (H : Heap) (locs : List Loc) (ls : Array Slot), MH D vwA A s.heap (cW ad cA sA ta ba na gi rh (some (ta 0)) g_sort_181 g_size_182 g_from_183 g_to_184 g_level_185 g_full_186 a_tape a_hAt a_hMany a_tAt_176 a_tMany_177 a_least a_place a_to a_order_178 a_fails_179 a_sKeys a_sRow a_sSlots a_bKeys a_bRow a_bSlots a_easy a_wants a_wantedBy a_ring a_carried a_latest v_taped v_faultKind v_faultPlace v_x v_ordered v_sought v_lastSought v_hMoved v_hWithout v_tMoved_180 v_tWithout v_places v_elsewhere v_sMany v_bMany v_year y_lies a_rsort a_rmany a_nums pl) H locs → lv_has ls 8 [] → W p l e (rm_X0_orders (d + 1)) s m args below meth c H locs 0 0 Q (F0 m 182 ls []) := by
        intro a_tAt_176 a_tMany_177 a_order_178 a_fails_179 v_tMoved_180 hxx g_sort_181 g_size_182 g_from_183 g_to_184 g_level_185 g_full_186 H locs ls hH hl
        have hF := un5e (kk21_0 (a_tAt_176, a_tMany_177, a_order_178, a_fails_179, v_tMoved_180) hxx)
        refine lv_iconst (v := 1) hx hb dX0_orders_182 kyi_1 ?_
        obtain ⟨rfl, rfl, rfl, rfl, rfl, rfl⟩ := re6 hF
        exact hret _ _ _ _ _ ⟨_, _, _, _, _, _, rfl⟩ hH dX0_orders_183
      have k21_1 : ∀ (a_tAt_187 : Nat → Int32) (a_tMany_188 : Nat → Int32) (a_order_189 : Nat → Int32) (a_fails_190 : Nat → Int32) (v_tMoved_191 : Int32), xx21 = (.inr (a_tAt_187, a_tMany_188, a_order_189, a_fails_190, v_tMoved_191)) → ∀ (g_sort_192 : Int32) (g_size_193 : Int32) (g_from_194 : Int32) (g_to_195 : Int32) (g_level_196 : Int32) (g_full_197 : Int32), ∀ (H : Heap) (locs : List Loc) (ls : Array Slot), MH D vwA A s.heap (cW ad cA sA ta ba na gi rh (some (ta 0)) g_sort_192 g_size_193 g_from_194 g_to_195 g_level_196 g_full_197 a_tape a_hAt a_hMany a_tAt_187 a_tMany_188 a_least a_place a_to a_order_189 a_fails_190 a_sKeys a_sRow a_sSlots a_bKeys a_bRow a_bSlots a_easy a_wants a_wantedBy a_ring a_carried a_latest v_taped v_faultKind v_faultPlace v_x v_ordered v_sought v_lastSought v_hMoved v_hWithout v_tMoved_191 v_tWithout v_places v_elsewhere v_sMany v_bMany v_year y_lies a_rsort a_rmany a_nums pl) H locs → lv_has ls 8 [(0, .ref (ad 0)), (2, .int p2)] → W p l e (rm_X0_orders (d + 1)) s m args below meth c H locs 0 0 Q (F0 m 203 ls []) := by
        intro a_tAt_187 a_tMany_188 a_order_189 a_fails_190 v_tMoved_191 hxx g_sort_192 g_size_193 g_from_194 g_to_195 g_level_196 g_full_197 H locs ls hH hl
        have hF := un5e (kk21_1 (a_tAt_187, a_tMany_188, a_order_189, a_fails_190, v_tMoved_191) hxx)
        refine lv_aload_n hx hb dX0_orders_203 rfl (lv_at hl 0 rfl) ?_
        refine cg_Y_this_fails hX hK hNW hH dX0_orders_204 ?_
        refine lv_iload_n hx hb dX0_orders_207 rfl (lv_at hl 1 rfl) ?_
        refine lv_iconst (v := 1) hx hb dX0_orders_208 kyi_1 ?_
        obtain ⟨a_fails_198, he, hF⟩ := bd1e hF
        refine cs_fails hX hK hH he dX0_orders_209 (fun H locs hH => ?_)
        refine lv_iconst (v := 0) hx hb dX0_orders_210 kyi_0 ?_
        obtain ⟨rfl, rfl, rfl, rfl, rfl, rfl⟩ := re6 hF
        exact hret _ _ _ _ _ ⟨_, _, _, _, _, _, rfl⟩ hH dX0_orders_211
      obtain ⟨nn21, en21⟩ := loopC_some ee21
      have l21 : ∀ (n : Nat) (x_112 : Int32) (a_tAt_113 : Nat → Int32) (a_tMany_114 : Nat → Int32) (a_order_115 : Nat → Int32) (a_fails_116 : Nat → Int32) (v_tMoved_117 : Int32), loopN (fun s => FX0_orders_b_b21 rf a_to v_tWithout y_lies t nb bv p1 p2 p3 s.1 s.2.1 s.2.2.1 s.2.2.2.1 s.2.2.2.2.1 s.2.2.2.2.2) n (x_112, a_tAt_113, a_tMany_114, a_order_115, a_fails_116, v_tMoved_117) = some xx21 → ∀ (g_sort_118 : Int32) (g_size_119 : Int32) (g_from_120 : Int32) (g_to_121 : Int32) (g_level_122 : Int32) (g_full_123 : Int32), ∀ (H : Heap) (locs : List Loc) (ls : Array Slot), MH D vwA A s.heap (cW ad cA sA ta ba na gi rh (some (ta 0)) g_sort_118 g_size_119 g_from_120 g_to_121 g_level_122 g_full_123 a_tape a_hAt a_hMany a_tAt_113 a_tMany_114 a_least a_place a_to a_order_115 a_fails_116 a_sKeys a_sRow a_sSlots a_bKeys a_bRow a_bSlots a_easy a_wants a_wantedBy a_ring a_carried a_latest v_taped v_faultKind v_faultPlace v_x v_ordered v_sought v_lastSought v_hMoved v_hWithout v_tMoved_117 v_tWithout v_places v_elsewhere v_sMany v_bMany v_year y_lies a_rsort a_rmany a_nums pl) H locs → lv_has ls 8 [(0, .ref (ad 0)), (1, .int p1), (2, .int p2), (3, .int p3), (4, .int x_112)] → W p l e (rm_X0_orders (d + 1)) s m args below meth c H locs 0 0 Q (F0 m 21 ls []) := by
        intro n
        induction n with
        | zero =>
          intro x_112 a_tAt_113 a_tMany_114 a_order_115 a_fails_116 v_tMoved_117 hN
          exact absurd hN loopN_zero
        | succ n ih =>
          intro x_112 a_tAt_113 a_tMany_114 a_order_115 a_fails_116 v_tMoved_117 hN g_sort_118 g_size_119 g_from_120 g_to_121 g_level_122 g_full_123 H locs ls hH hl
          obtain ⟨yy21, hB21, hY21⟩ := loopN_succ hN
          have hF : FX0_orders_b_b21 rf a_to v_tWithout y_lies t nb bv p1 p2 p3 x_112 a_tAt_113 a_tMany_114 a_order_115 a_fails_116 v_tMoved_117 = some yy21 := hB21
          delta FX0_orders_b_b21 at hF
          refine lv_iload hx hb dX0_orders_21 (lv_at hl 4 rfl) ?_
          refine lv_bipush (v := 8) hx hb dX0_orders_23 kyb_8 ?_
          refine lv_icmp_ge (tgt := 203) hx hb dX0_orders_25 rfl (fun c_124 => ?_) (fun c_124 => ?_)
          · have hF := itp c_124 hF
            obtain rfl := Option.some.inj hF
            exact k21_1 a_tAt_113 a_tMany_114 a_order_115 a_fails_116 v_tMoved_117 hY21 _ _ _ _ _ _ _ _ _ hH (lv_sub hl [0, 2] rfl)
          · have hF := itn c_124 hF
            refine lv_iload_n hx hb dX0_orders_28 rfl (lv_at hl 1 rfl) ?_
            refine lv_iload hx hb dX0_orders_29 (lv_at hl 4 rfl) ?_
            obtain ⟨b_125, he, hF⟩ := bd1e hF
            refine mxS hX hK hEv hE0 hH (met_X0_has hE hPO he) gw_StoneYear_345 hd_yX0_has ⟨by dsimp only [rm_X0_has, rm_X0_orders]; omega, by dsimp only [rm_X0_has, rm_X0_orders]; omega⟩ rfl rfl hl (Nat.le_of_ble_eq_true rfl) dX0_orders_31 ⟨Nat.le_of_ble_eq_true rfl, Nat.le_of_ble_eq_true rfl⟩ (fun w2 H locs hw hH => ?_)
            subst hw
            have j197 : ∀ (a_tAt_165 : Nat → Int32) (a_tMany_166 : Nat → Int32) (a_order_167 : Nat → Int32) (a_fails_168 : Nat → Int32) (v_tMoved_169 : Int32), FX0_orders_b_j197 rf x_112 a_tAt_165 a_tMany_166 a_order_167 a_fails_168 v_tMoved_169 = some yy21 → ∀ (g_sort_170 : Int32) (g_size_171 : Int32) (g_from_172 : Int32) (g_to_173 : Int32) (g_level_174 : Int32) (g_full_175 : Int32), ∀ (H : Heap) (locs : List Loc) (ls : Array Slot), MH D vwA A s.heap (cW ad cA sA ta ba na gi rh (some (ta 0)) g_sort_170 g_size_171 g_from_172 g_to_173 g_level_174 g_full_175 a_tape a_hAt a_hMany a_tAt_165 a_tMany_166 a_least a_place a_to a_order_167 a_fails_168 a_sKeys a_sRow a_sSlots a_bKeys a_bRow a_bSlots a_easy a_wants a_wantedBy a_ring a_carried a_latest v_taped v_faultKind v_faultPlace v_x v_ordered v_sought v_lastSought v_hMoved v_hWithout v_tMoved_169 v_tWithout v_places v_elsewhere v_sMany v_bMany v_year y_lies a_rsort a_rmany a_nums pl) H locs → lv_has ls 8 [(0, .ref (ad 0)), (1, .int p1), (2, .int p2), (3, .int p3), (4, .int x_112)] → W p l e (rm_X0_orders (d + 1)) s m args below meth c H locs 0 0 Q (F0 m 197 ls []) := by
              intro a_tAt_165 a_tMany_166 a_order_167 a_fails_168 v_tMoved_169 hF g_sort_170 g_size_171 g_from_172 g_to_173 g_level_174 g_full_175 H locs ls hH hl
              delta FX0_orders_b_j197 at hF
              refine lv_iinc (v := (x_112 + 1)) (lv' := [(4, .int (x_112 + 1)), (0, .ref (ad 0)), (1, .int p1), (2, .int p2), (3, .int p3)]) hx hb dX0_orders_197 hl (k := 4) rfl (syc kyi_1) (by decide) rfl (fun ls hl => ?_)
              refine lv_goto (tgt := 21) hx hb dX0_orders_200 rfl ?_
              obtain rfl := Option.some.inj hF
              exact ih (x_112 + 1) a_tAt_165 a_tMany_166 a_order_167 a_fails_168 v_tMoved_169 hY21 _ _ _ _ _ _ _ _ _ hH (lv_sub hl [1, 2, 3, 4, 0] rfl)
            refine lv_if_eq (tgt := 197) hx hb dX0_orders_34 rfl (fun c_126 => ?_) (fun c_126 => ?_)
            · have hF := itp c_126 hF
              exact j197 a_tAt_113 a_tMany_114 a_order_115 a_fails_116 v_tMoved_117 hF _ _ _ _ _ _ _ _ _ hH (lv_sub hl [0, 1, 2, 3, 4] rfl)
            · have hF := itn c_126 hF
              refine lv_iload_n hx hb dX0_orders_37 rfl (lv_at hl 2 rfl) ?_
              refine lv_iload hx hb dX0_orders_38 (lv_at hl 4 rfl) ?_
              obtain ⟨b_127, he, hF⟩ := bd1e hF
              refine mxS hX hK hEv hE0 hH (met_X0_has hE hPO he) gw_StoneYear_345 hd_yX0_has ⟨by dsimp only [rm_X0_has, rm_X0_orders]; omega, by dsimp only [rm_X0_has, rm_X0_orders]; omega⟩ rfl rfl hl (Nat.le_of_ble_eq_true rfl) dX0_orders_40 ⟨Nat.le_of_ble_eq_true rfl, Nat.le_of_ble_eq_true rfl⟩ (fun w2 H locs hw hH => ?_)
              subst hw
              refine lv_if_eq (tgt := 49) hx hb dX0_orders_43 rfl (fun c_128 => ?_) (fun c_128 => ?_)
              · have hF := itp c_128 hF
                refine lv_aload_n hx hb dX0_orders_49 rfl (lv_at hl 0 rfl) ?_
                refine cg_Y_this_s hX hK hNW hH dX0_orders_50 ?_
                refine cg_Y_state_lies hX hK hNW hH dX0_orders_53 ?_
                refine lv_iload hx hb dX0_orders_56 (lv_at hl 4 rfl) ?_
                obtain ⟨x_129, he, hF⟩ := bd1e hF
                refine mxS hX hK hEv hE0 hH (met_X0_placeIn hE hPO he) gw_StoneYear_162 hd_yX0_placeIn ⟨by dsimp only [rm_X0_placeIn, rm_X0_orders]; omega, by dsimp only [rm_X0_placeIn, rm_X0_orders]; omega⟩ rfl rfl hl (Nat.le_of_ble_eq_true rfl) dX0_orders_58 ⟨Nat.le_of_ble_eq_true rfl, Nat.le_of_ble_eq_true rfl⟩ (fun w2 H locs hw hH => ?_)
                subst hw
                refine lv_iconst (v := 3) hx hb dX0_orders_61 kyi_3 ?_
                refine lv_idiv hx hb dX0_orders_62 (by decide) ?_
                refine lv_istore (lv' := [(5, .int (x_129 / 3)), (0, .ref (ad 0)), (1, .int p1), (2, .int p2), (3, .int p3), (4, .int x_112)]) hx hb dX0_orders_63 hl (by decide) rfl (fun ls hl => ?_)
                refine lv_aload_n hx hb dX0_orders_65 rfl (lv_at hl 1 rfl) ?_
                refine cg_Y_this_match hX hK hNW hH dX0_orders_66 ?_
                refine cg_Y_match_to hX hK hNW hH dX0_orders_69 ?_
                refine lv_iload hx hb dX0_orders_72 (lv_at hl 5 rfl) ?_
                obtain ⟨x_130, he, hF⟩ := bd1e hF
                refine cl_to hX hK hH he dX0_orders_74 ?_
                refine lv_iconst (v := 3) hx hb dX0_orders_75 kyi_3 ?_
                refine lv_idiv hx hb dX0_orders_76 (by decide) ?_
                refine lv_istore (lv' := [(6, .int (x_130 / 3)), (5, .int (x_129 / 3)), (0, .ref (ad 0)), (1, .int p1), (2, .int p2), (3, .int p3), (4, .int x_112)]) hx hb dX0_orders_77 hl (by decide) rfl (fun ls hl => ?_)
                refine lv_aload_n hx hb dX0_orders_79 rfl (lv_at hl 2 rfl) ?_
                refine cg_Y_this_trial hX hK hNW hH dX0_orders_80 ?_
                refine lv_iload hx hb dX0_orders_83 (lv_at hl 1 rfl) ?_
                obtain ⟨x_131, he, hF⟩ := bd1e hF
                refine mxV hX hK hEv hE0 hH (met_X4_top_t hE hPO hT he) (crecv hK hH 7 4 rfl rfl) gw_StoneYear_249 hd_yX4_top ⟨by dsimp only [rm_X4_top_t, rm_X0_orders]; omega, by dsimp only [rm_X4_top_t, rm_X0_orders]; omega⟩ rfl rfl hl (Nat.le_of_ble_eq_true rfl) dX0_orders_85 ⟨Nat.le_of_ble_eq_true rfl, Nat.le_of_ble_eq_true rfl⟩ (fun w2 H locs hw hH => ?_)
                subst hw
                refine lv_iload hx hb dX0_orders_88 (lv_at hl 6 rfl) ?_
                refine lv_icmp_ne (tgt := 197) hx hb dX0_orders_90 rfl (fun c_132 => ?_) (fun c_132 => ?_)
                · have hF := itn c_132 hF
                  exact j197 a_tAt_113 a_tMany_114 a_order_115 a_fails_116 v_tMoved_117 hF _ _ _ _ _ _ _ _ _ hH (lv_sub hl [2, 3, 4, 5, 6] rfl)
                · have hF := itp c_132 hF
                  refine lv_aload_n hx hb dX0_orders_93 rfl (lv_at hl 2 rfl) ?_
                  refine cg_Y_this_trial hX hK hNW hH dX0_orders_94 ?_
                  refine lv_iload hx hb dX0_orders_97 (lv_at hl 1 rfl) ?_
                  refine lv_iload hx hb dX0_orders_99 (lv_at hl 0 rfl) ?_
                  obtain ⟨x_133, he, hF⟩ := bd1e hF
                  refine mxV hX hK hEv hE0 hH (met_X4_may_t hE hPO hT he) (crecv hK hH 7 4 rfl rfl) gw_StoneYear_227 hd_yX4_may ⟨by dsimp only [rm_X4_may_t, rm_X0_orders]; omega, by dsimp only [rm_X4_may_t, rm_X0_orders]; omega⟩ rfl rfl hl (Nat.le_of_ble_eq_true rfl) dX0_orders_101 ⟨Nat.le_of_ble_eq_true rfl, Nat.le_of_ble_eq_true rfl⟩ (fun w2 H locs hw hH => ?_)
                  obtain ⟨g_sort_134, g_size_135, g_from_136, g_to_137, g_level_138, g_full_139, rfl⟩ := hw
                  refine lv_if_ne (tgt := 197) hx hb dX0_orders_104 rfl (fun c_140 => ?_) (fun c_140 => ?_)
                  · have hF := itn c_140 hF
                    exact j197 a_tAt_113 a_tMany_114 a_order_115 a_fails_116 v_tMoved_117 hF _ _ _ _ _ _ _ _ _ hH (lv_sub hl [2, 3, 4, 5, 6] rfl)
                  · have hF := itp c_140 hF
                    refine lv_aload_n hx hb dX0_orders_107 rfl (lv_at hl 2 rfl) ?_
                    refine cg_Y_this_trial hX hK hNW hH dX0_orders_108 ?_
                    refine cg_Y_stkt_many hX hK hNW hH dX0_orders_111 ?_
                    refine lv_iload hx hb dX0_orders_114 (lv_at hl 0 rfl) ?_
                    obtain ⟨x_141, he, hF⟩ := bd1e hF
                    refine cl_tMany hX hK hH he dX0_orders_116 ?_
                    refine lv_aload_n hx hb dX0_orders_117 rfl (lv_at hl 2 rfl) ?_
                    refine cg_Y_this_match hX hK hNW hH dX0_orders_118 ?_
                    refine cg_Y_match_to hX hK hNW hH dX0_orders_121 ?_
                    refine lv_iload hx hb dX0_orders_124 (lv_at hl 6 rfl) ?_
                    obtain ⟨x_142, he, hF⟩ := bd1e hF
                    refine cl_to hX hK hH he dX0_orders_126 ?_
                    refine lv_iconst (v := 3) hx hb dX0_orders_127 kyi_3 ?_
                    refine lv_irem hx hb dX0_orders_128 (by decide) ?_
                    refine lv_icmp_eq (tgt := 135) hx hb dX0_orders_129 rfl (fun c_143 => ?_) (fun c_143 => ?_)
                    · have hF := itp c_143 hF
                      refine lv_aload_n hx hb dX0_orders_135 rfl (lv_at hl 2 rfl) ?_
                      refine cg_Y_this_trial hX hK hNW hH dX0_orders_136 ?_
                      refine cg_Y_stkt_moved hX hK hNW hH dX0_orders_139 ?_
                      refine lv_istore (lv' := [(7, .int v_tMoved_117), (6, .int (x_130 / 3)), (5, .int (x_129 / 3)), (0, .ref (ad 0)), (1, .int p1), (2, .int p2), (3, .int p3), (4, .int x_112)]) hx hb dX0_orders_142 hl (by decide) rfl (fun ls hl => ?_)
                      refine lv_aload_n hx hb dX0_orders_144 rfl (lv_at hl 3 rfl) ?_
                      refine cg_Y_this_trial hX hK hNW hH dX0_orders_145 ?_
                      refine lv_iload hx hb dX0_orders_148 (lv_at hl 2 rfl) ?_
                      refine lv_iload hx hb dX0_orders_150 (lv_at hl 1 rfl) ?_
                      refine lv_iconst (v := 1) hx hb dX0_orders_152 kyi_1 ?_
                      obtain ⟨x_144, a_tAt_145, a_tMany_146, v_tMoved_147, he, hF⟩ := bd4e hF
                      refine mxV hX hK hEv hE0 hH (met_X4_carries_t hE hPO hT he) (crecv hK hH 7 4 rfl rfl) gw_StoneYear_236 hd_yX4_carries ⟨by dsimp only [rm_X4_carries_t, rm_X0_orders]; omega, by dsimp only [rm_X4_carries_t, rm_X0_orders]; omega⟩ rfl rfl hl (Nat.le_of_ble_eq_true rfl) dX0_orders_153 ⟨Nat.le_of_ble_eq_true rfl, Nat.le_of_ble_eq_true rfl⟩ (fun w2 H locs hw hH => ?_)
                      subst hw
                      refine lv_pop hx hb dX0_orders_156 rfl ?_
                      refine lv_aload_n hx hb dX0_orders_157 rfl (lv_at hl 3 rfl) ?_
                      refine cg_Y_this_order hX hK hNW hH dX0_orders_158 ?_
                      refine lv_iload_n hx hb dX0_orders_161 rfl (lv_at hl 6 rfl) ?_
                      refine lv_iload hx hb dX0_orders_162 (lv_at hl 7 rfl) ?_
                      obtain ⟨a_order_148, he, hF⟩ := bd1e hF
                      refine cs_order hX hK hH he dX0_orders_164 (fun H locs hH => ?_)
                      refine lv_aload_n hx hb dX0_orders_165 rfl (lv_at hl 3 rfl) ?_
                      refine lv_iload_n hx hb dX0_orders_166 rfl (lv_at hl 4 rfl) ?_
                      refine lv_iload_n hx hb dX0_orders_167 rfl (lv_at hl 5 rfl) ?_
                      refine lv_iconst (v := 1) hx hb dX0_orders_168 kyi_1 ?_
                      refine lv_iload hx hb dX0_orders_169 (lv_at hl 7 rfl) ?_
                      refine lv_ishl hx hb dX0_orders_171 ?_
                      refine lv_ior hx hb dX0_orders_172 ?_
                      refine lv_iload_n hx hb dX0_orders_173 rfl (lv_at hl 6 rfl) ?_
                      refine lv_iconst (v := 1) hx hb dX0_orders_174 kyi_1 ?_
                      refine lv_iadd hx hb dX0_orders_175 ?_
                      obtain ⟨b_149, a_tAt_150, a_tMany_151, a_order_152, a_fails_153, v_tMoved_154, he, hF⟩ := bd6e hF
                      refine mxV hX hK hEv hE0 hH (hrf he) (crecv hK hH 0 0 rfl rfl) gw_StoneYear_349 hd_yX0_orders ⟨by dsimp only [rm_X0_orders, rm_X0_orders]; omega, by dsimp only [rm_X0_orders, rm_X0_orders]; omega⟩ rfl rfl hl (Nat.le_of_ble_eq_true rfl) dX0_orders_176 ⟨Nat.le_of_ble_eq_true rfl, Nat.le_of_ble_eq_true rfl⟩ (fun w2 H locs hw hH => ?_)
                      obtain ⟨g_sort_155, g_size_156, g_from_157, g_to_158, g_level_159, g_full_160, rfl⟩ := hw
                      refine lv_if_eq (tgt := 184) hx hb dX0_orders_179 rfl (fun c_161 => ?_) (fun c_161 => ?_)
                      · have hF := itp c_161 hF
                        refine lv_aload_n hx hb dX0_orders_184 rfl (lv_at hl 3 rfl) ?_
                        refine cg_Y_this_trial hX hK hNW hH dX0_orders_185 ?_
                        refine lv_iload hx hb dX0_orders_188 (lv_at hl 2 rfl) ?_
                        refine lv_iload hx hb dX0_orders_190 (lv_at hl 1 rfl) ?_
                        refine lv_iload hx hb dX0_orders_192 (lv_at hl 0 rfl) ?_
                        obtain ⟨a_tAt_162, a_tMany_163, v_tMoved_164, he, hF⟩ := bd3e hF
                        refine mxV hX hK hEv hE0 hH (met_X4_undoes_t hE hPO hT he) (crecv hK hH 7 4 rfl rfl) gw_StoneYear_352 hd_yX4_undoes ⟨by dsimp only [rm_X4_undoes_t, rm_X0_orders]; omega, by dsimp only [rm_X4_undoes_t, rm_X0_orders]; omega⟩ rfl rfl hl (Nat.le_of_ble_eq_true rfl) dX0_orders_194 ⟨Nat.le_of_ble_eq_true rfl, Nat.le_of_ble_eq_true rfl⟩ (fun w2 H locs hw hH => ?_)
                        subst hw
                        exact j197 a_tAt_162 a_tMany_163 a_order_152 a_fails_153 v_tMoved_164 hF _ _ _ _ _ _ _ _ _ hH (lv_sub hl [3, 4, 5, 6, 7] rfl)
                      · have hF := itn c_161 hF
                        obtain rfl := Option.some.inj hF
                        exact k21_0 a_tAt_150 a_tMany_151 a_order_152 a_fails_153 v_tMoved_154 hY21 _ _ _ _ _ _ _ _ _ hH (lv_sub hl [] rfl)
                    · have hF := itn c_143 hF
                      refine lv_goto (tgt := 197) hx hb dX0_orders_132 rfl ?_
                      exact j197 a_tAt_113 a_tMany_114 a_order_115 a_fails_116 v_tMoved_117 hF _ _ _ _ _ _ _ _ _ hH (lv_sub hl [2, 3, 4, 5, 6] rfl)
              · have hF := itn c_128 hF
                refine lv_goto (tgt := 197) hx hb dX0_orders_46 rfl ?_
                exact j197 a_tAt_113 a_tMany_114 a_order_115 a_fails_116 v_tMoved_117 hF _ _ _ _ _ _ _ _ _ hH (lv_sub hl [0, 1, 2, 3, 4] rfl)
      exact l21 nn21 0 a_tAt a_tMany a_order a_fails v_tMoved en21 _ _ _ _ _ _ _ _ _ hH (lv_sub hl [1, 2, 3, 4, 0] rfl)
    · have hF := itn c_59 hF
      refine lv_iconst (v := 0) hx hb dX0_orders_16 kyi_0 ?_
      obtain ⟨rfl, rfl, rfl, rfl, rfl, rfl⟩ := re6 hF
      exact hret _ _ _ _ _ ⟨_, _, _, _, _, _, rfl⟩ hH dX0_orders_17
  · have hF := itp c_57 hF
    refine lv_iconst (v := 1) hx hb dX0_orders_5 kyi_1 ?_
    obtain ⟨rfl, rfl, rfl, rfl, rfl, rfl⟩ := re6 hF
    exact hret _ _ _ _ _ ⟨_, _, _, _, _, _, rfl⟩ hH dX0_orders_6
set_option maxHeartbeats 4000000 in
theorem met_X0_orders {l : Launch} {D : va_G} {E : EvT} (hE : EvN E) {ta ba : Nat → Nat} {cA : Nat → ClassId} {pl : va_W} {t : Nat → Int32} {nb : Int32} {bv : Nat → BvT} (hPO : PO cA pl ta ba t nb bv) : ∀ (d : Nat) {ad : Nat → Nat} {sA na : Nat → Nat} {gi : Nat → Option Nat} {rh : Option Nat} {g_sort : Int32} {g_size : Int32} {g_from : Int32} {g_to : Int32} {g_level : Int32} {g_full : Int32} {a_tape : Nat → Int32} {a_hAt : Nat → Int32} {a_hMany : Nat → Int32} {a_tAt : Nat → Int32} {a_tMany : Nat → Int32} {a_least : Nat → Int32} {a_place : Nat → Int32} {a_to : Nat → Int32} {a_order : Nat → Int32} {a_fails : Nat → Int32} {a_sKeys : Nat → Int64} {a_sRow : Nat → Int64} {a_sSlots : Nat → Int32} {a_bKeys : Nat → Int64} {a_bRow : Nat → Int64} {a_bSlots : Nat → Int32} {a_easy : Nat → Int32} {a_wants : Nat → Int32} {a_wantedBy : Nat → Int32} {a_ring : Nat → Int32} {a_carried : Nat → Int32} {a_latest : Nat → Int32} {v_taped : Int32} {v_faultKind : Int32} {v_faultPlace : Int32} {v_x : Int32} {v_ordered : Int32} {v_sought : Int32} {v_lastSought : Int32} {v_hMoved : Int32} {v_hWithout : Int32} {v_tMoved : Int32} {v_tWithout : Int32} {v_places : Int32} {v_elsewhere : Int32} {v_sMany : Int32} {v_bMany : Int32} {v_year : Int32} {y_lies : Int64} {a_rsort : Nat → Int32} {a_rmany : Nat → Int32} {a_nums : Nat → Nat → Int64}   {p1 : Int32} {p2 : Int32} {p3 : Int32} {res : Bool} {ra_tAt : Nat → Int32} {ra_tMany : Nat → Int32} {ra_order : Nat → Int32} {ra_fails : Nat → Int32} {rv_tMoved : Int32} , FX0_orders d a_tAt a_tMany a_to a_order a_fails v_tMoved v_tWithout y_lies t nb bv p1 p2 p3 = some (res, ra_tAt, ra_tMany, ra_order, ra_fails, rv_tMoved) → MX l yX0_orders (ws_ yX0_orders cX0_orders 8 (Option.some Jvm.ClassFile.FieldType.boolean)) (rm_X0_orders d) D vwA (cT cA) E [.ref (ad 0), .int p1, .int p2, .int p3] (cW ad cA sA ta ba na gi rh (some (ta 0)) g_sort g_size g_from g_to g_level g_full a_tape a_hAt a_hMany a_tAt a_tMany a_least a_place a_to a_order a_fails a_sKeys a_sRow a_sSlots a_bKeys a_bRow a_bSlots a_easy a_wants a_wantedBy a_ring a_carried a_latest v_taped v_faultKind v_faultPlace v_x v_ordered v_sought v_lastSought v_hMoved v_hWithout v_tMoved v_tWithout v_places v_elsewhere v_sMany v_bMany v_year y_lies a_rsort a_rmany a_nums pl) (fun z => ∃ g_sort' : Int32, ∃ g_size' : Int32, ∃ g_from' : Int32, ∃ g_to' : Int32, ∃ g_level' : Int32, ∃ g_full' : Int32, z = (cW ad cA sA ta ba na gi rh (some (ta 0)) g_sort' g_size' g_from' g_to' g_level' g_full' a_tape a_hAt a_hMany ra_tAt ra_tMany a_least a_place a_to ra_order ra_fails a_sKeys a_sRow a_sSlots a_bKeys a_bRow a_bSlots a_easy a_wants a_wantedBy a_ring a_carried a_latest v_taped v_faultKind v_faultPlace v_x v_ordered v_sought v_lastSought v_hMoved v_hWithout rv_tMoved v_tWithout v_places v_elsewhere v_sMany v_bMany v_year y_lies a_rsort a_rmany a_nums pl)) (some (.int (b2i res))) := by
  intro d
  induction d with
  | zero => intros; rename_i h; cases h
  | succ d ih =>
    intros
    rename_i h
    exact met_X0_orders_b hE hPO d (@ih) h
abbrev rm_X5_goes : Room := { frames := 1, cells := 0, slots := 0, locals := 22 }
set_option maxHeartbeats 4000000 in
theorem met_X5_goes {l : Launch} {D : va_G} {ad : Nat → Nat} {cA : Nat → ClassId} {sA ta ba na : Nat → Nat} {gi : Nat → Option Nat} {rh : Option Nat} {rt : Option Nat} {g_sort : Int32} {g_size : Int32} {g_from : Int32} {g_to : Int32} {g_level : Int32} {g_full : Int32} {a_tape : Nat → Int32} {a_hAt : Nat → Int32} {a_hMany : Nat → Int32} {a_tAt : Nat → Int32} {a_tMany : Nat → Int32} {a_least : Nat → Int32} {a_place : Nat → Int32} {a_to : Nat → Int32} {a_order : Nat → Int32} {a_fails : Nat → Int32} {a_sKeys : Nat → Int64} {a_sRow : Nat → Int64} {a_sSlots : Nat → Int32} {a_bKeys : Nat → Int64} {a_bRow : Nat → Int64} {a_bSlots : Nat → Int32} {a_easy : Nat → Int32} {a_wants : Nat → Int32} {a_wantedBy : Nat → Int32} {a_ring : Nat → Int32} {a_carried : Nat → Int32} {a_latest : Nat → Int32} {v_taped : Int32} {v_faultKind : Int32} {v_faultPlace : Int32} {v_x : Int32} {v_ordered : Int32} {v_sought : Int32} {v_lastSought : Int32} {v_hMoved : Int32} {v_hWithout : Int32} {v_tMoved : Int32} {v_tWithout : Int32} {v_places : Int32} {v_elsewhere : Int32} {v_sMany : Int32} {v_bMany : Int32} {v_year : Int32} {y_lies : Int64} {a_rsort : Nat → Int32} {a_rmany : Nat → Int32} {a_nums : Nat → Nat → Int64} {t : Nat → Int32} {nb : Int32} {bv : Nat → Int32 → Int32 → Int32 → Int32 → Int32 → Int32 → Bool} {pl : va_W}  {p1 : Int32} {res : Bool} {E : EvT} (hE : EvN E) (hPO : PO cA pl ta ba t nb bv) (hF : FX5_goes a_to y_lies p1 = some res) : MX l yX5_goes (ws_ yX5_goes cX5_goes 2 (Option.some Jvm.ClassFile.FieldType.boolean)) rm_X5_goes D vwA (cT cA) E [.ref (ad 10), .int p1] (cW ad cA sA ta ba na gi rh rt g_sort g_size g_from g_to g_level g_full a_tape a_hAt a_hMany a_tAt a_tMany a_least a_place a_to a_order a_fails a_sKeys a_sRow a_sSlots a_bKeys a_bRow a_bSlots a_easy a_wants a_wantedBy a_ring a_carried a_latest v_taped v_faultKind v_faultPlace v_x v_ordered v_sought v_lastSought v_hMoved v_hWithout v_tMoved v_tWithout v_places v_elsewhere v_sMany v_bMany v_year y_lies a_rsort a_rmany a_nums pl) (fun z => z = (cW ad cA sA ta ba na gi rh rt g_sort g_size g_from g_to g_level g_full a_tape a_hAt a_hMany a_tAt a_tMany a_least a_place a_to a_order a_fails a_sKeys a_sRow a_sSlots a_bKeys a_bRow a_bSlots a_easy a_wants a_wantedBy a_ring a_carried a_latest v_taped v_faultKind v_faultPlace v_x v_ordered v_sought v_lastSought v_hMoved v_hWithout v_tMoved v_tWithout v_places v_elsewhere v_sMany v_bMany v_year y_lies a_rsort a_rmany a_nums pl)) (some (.int (b2i res))) := by
  refine MX.ofZ (by decide) (Nat.le_of_ble_eq_true rfl) ?_
  intro p e s m args below meth c Q A hX hK hE0 hname hret H locs ls hH hl
  have hX : CallFix p m c cX5_goes 2 s args lw_all RX5 := hX
  have hx := hX.1
  have hb := hX.2.1
  have hown := hX.2.2.2.1
  have hts := hX.2.2.2.2
  have hl : lv_has ls 2 [(0, .ref (ad 10)), (1, .int p1)] := hl
  have hEv := hE.1
  have hNW := hE.2.1 _ _ _ hE0
  have hT := hPO.1
  have hB := hPO.2
  delta FX5_goes at hF
  refine lv_aload_n hx hb dX5_goes_0 rfl (lv_at hl 0 rfl) ?_
  refine cg_Y_Match_match_to hX hK hNW hH dX5_goes_1 ?_
  refine lv_iload_n hx hb dX5_goes_4 rfl (lv_at hl 1 rfl) ?_
  obtain ⟨x_55, he, hF⟩ := bd1e hF
  refine cl_to hX hK hH he dX5_goes_5 ?_
  refine lv_iconst (v := (-1)) hx hb dX5_goes_6 kyi_m1 ?_
  refine lv_icmp_eq (tgt := 37) hx hb dX5_goes_7 rfl (fun c_56 => ?_) (fun c_56 => ?_)
  · have hF := itp c_56 hF
    refine lv_iconst (v := 0) hx hb dX5_goes_37 kyi_0 ?_
    obtain rfl := Option.some.inj hF
    exact hret _ _ _ _ _ rfl hH dX5_goes_38
  · have hF := itn c_56 hF
    refine lv_aload_n hx hb dX5_goes_10 rfl (lv_at hl 0 rfl) ?_
    refine cg_Y_Match_match_to hX hK hNW hH dX5_goes_11 ?_
    refine lv_iload_n hx hb dX5_goes_14 rfl (lv_at hl 1 rfl) ?_
    obtain ⟨x_57, he, hF⟩ := bd1e hF
    refine cl_to hX hK hH he dX5_goes_15 ?_
    refine lv_aload_n hx hb dX5_goes_16 rfl (lv_at hl 0 rfl) ?_
    refine cg_Y_Match_match_this0 hX hK hNW hH dX5_goes_17 ?_
    refine cg_Y_Match_this_s hX hK hNW hH dX5_goes_20 ?_
    refine cg_Y_Match_state_lies hX hK hNW hH dX5_goes_23 ?_
    refine lv_iload_n hx hb dX5_goes_26 rfl (lv_at hl 1 rfl) ?_
    obtain ⟨x_58, he, hF⟩ := bd1e hF
    refine mxSN hX hK hEv hE0 hH (met_X0_placeIn hE hPO he) (lw_meth q976) (hNW _ nw_q1250) q129 q975 hd_yX0_placeIn ⟨Nat.le_of_ble_eq_true rfl, Nat.le_of_ble_eq_true rfl⟩ rfl rfl hl (Nat.le_of_ble_eq_true rfl) dX5_goes_27 ⟨Nat.le_of_ble_eq_true rfl, Nat.le_of_ble_eq_true rfl⟩ (fun w2 H locs hw hH => ?_)
    subst hw
    refine lv_icmp_eq (tgt := 37) hx hb dX5_goes_30 rfl (fun c_59 => ?_) (fun c_59 => ?_)
    · have hF := itp c_59 hF
      refine lv_iconst (v := 0) hx hb dX5_goes_37 kyi_0 ?_
      obtain rfl := Option.some.inj hF
      exact hret _ _ _ _ _ rfl hH dX5_goes_38
    · have hF := itn c_59 hF
      refine lv_iconst (v := 1) hx hb dX5_goes_33 kyi_1 ?_
      refine lv_goto (tgt := 38) hx hb dX5_goes_34 rfl ?_
      obtain rfl := Option.some.inj hF
      exact hret _ _ _ _ _ rfl hH dX5_goes_38
abbrev rm_X5_going : Room := { frames := 2, cells := 0, slots := 0, locals := 43 }
set_option maxHeartbeats 4000000 in
theorem met_X5_going {l : Launch} {D : va_G} {ad : Nat → Nat} {cA : Nat → ClassId} {sA ta ba na : Nat → Nat} {gi : Nat → Option Nat} {rh : Option Nat} {rt : Option Nat} {g_sort : Int32} {g_size : Int32} {g_from : Int32} {g_to : Int32} {g_level : Int32} {g_full : Int32} {a_tape : Nat → Int32} {a_hAt : Nat → Int32} {a_hMany : Nat → Int32} {a_tAt : Nat → Int32} {a_tMany : Nat → Int32} {a_least : Nat → Int32} {a_place : Nat → Int32} {a_to : Nat → Int32} {a_order : Nat → Int32} {a_fails : Nat → Int32} {a_sKeys : Nat → Int64} {a_sRow : Nat → Int64} {a_sSlots : Nat → Int32} {a_bKeys : Nat → Int64} {a_bRow : Nat → Int64} {a_bSlots : Nat → Int32} {a_easy : Nat → Int32} {a_wants : Nat → Int32} {a_wantedBy : Nat → Int32} {a_ring : Nat → Int32} {a_carried : Nat → Int32} {a_latest : Nat → Int32} {v_taped : Int32} {v_faultKind : Int32} {v_faultPlace : Int32} {v_x : Int32} {v_ordered : Int32} {v_sought : Int32} {v_lastSought : Int32} {v_hMoved : Int32} {v_hWithout : Int32} {v_tMoved : Int32} {v_tWithout : Int32} {v_places : Int32} {v_elsewhere : Int32} {v_sMany : Int32} {v_bMany : Int32} {v_year : Int32} {y_lies : Int64} {a_rsort : Nat → Int32} {a_rmany : Nat → Int32} {a_nums : Nat → Nat → Int64} {t : Nat → Int32} {nb : Int32} {bv : Nat → Int32 → Int32 → Int32 → Int32 → Int32 → Int32 → Bool} {pl : va_W}   {res : Int32} {E : EvT} (hE : EvN E) (hPO : PO cA pl ta ba t nb bv) (hF : FX5_going a_to y_lies t = some res) : MX l yX5_going (ws_ yX5_going cX5_going 3 (Option.some Jvm.ClassFile.FieldType.int)) rm_X5_going D vwA (cT cA) E [.ref (ad 10)] (cW ad cA sA ta ba na gi rh rt g_sort g_size g_from g_to g_level g_full a_tape a_hAt a_hMany a_tAt a_tMany a_least a_place a_to a_order a_fails a_sKeys a_sRow a_sSlots a_bKeys a_bRow a_bSlots a_easy a_wants a_wantedBy a_ring a_carried a_latest v_taped v_faultKind v_faultPlace v_x v_ordered v_sought v_lastSought v_hMoved v_hWithout v_tMoved v_tWithout v_places v_elsewhere v_sMany v_bMany v_year y_lies a_rsort a_rmany a_nums pl) (fun z => z = (cW ad cA sA ta ba na gi rh rt g_sort g_size g_from g_to g_level g_full a_tape a_hAt a_hMany a_tAt a_tMany a_least a_place a_to a_order a_fails a_sKeys a_sRow a_sSlots a_bKeys a_bRow a_bSlots a_easy a_wants a_wantedBy a_ring a_carried a_latest v_taped v_faultKind v_faultPlace v_x v_ordered v_sought v_lastSought v_hMoved v_hWithout v_tMoved v_tWithout v_places v_elsewhere v_sMany v_bMany v_year y_lies a_rsort a_rmany a_nums pl)) (some (.int res)) := by
  refine MX.ofI (by decide) (Nat.le_of_ble_eq_true rfl) ?_
  intro p e s m args below meth c Q A hX hK hE0 hname hret H locs ls hH hl
  have hX : CallFix p m c cX5_going 3 s args lw_all RX5 := hX
  have hx := hX.1
  have hb := hX.2.1
  have hown := hX.2.2.2.1
  have hts := hX.2.2.2.2
  have hl : lv_has ls 3 [(0, .ref (ad 10))] := hl
  have hEv := hE.1
  have hNW := hE.2.1 _ _ _ hE0
  have hT := hPO.1
  have hB := hPO.2
  delta FX5_going at hF
  refine lv_iconst (v := 0) hx hb dX5_going_0 kyi_0 ?_
  refine lv_istore_n (lv' := [(1, .int 0), (0, .ref (ad 10))]) hx hb dX5_going_1 rfl hl (by decide) rfl (fun ls hl => ?_)
  refine lv_iconst (v := 0) hx hb dX5_going_2 kyi_0 ?_
  refine lv_istore_n (lv' := [(2, .int 0), (1, .int 0), (0, .ref (ad 10))]) hx hb dX5_going_3 rfl hl (by decide) rfl (fun ls hl => ?_)
  obtain ⟨xx4, ee4, kk4_0⟩ := bd1L hF
  have k4_0 : ∀ (x_64 : Int32), xx4 = x_64 → ∀ (H : Heap) (locs : List Loc) (ls : Array Slot), MH D vwA A s.heap (cW ad cA sA ta ba na gi rh rt g_sort g_size g_from g_to g_level g_full a_tape a_hAt a_hMany a_tAt a_tMany a_least a_place a_to a_order a_fails a_sKeys a_sRow a_sSlots a_bKeys a_bRow a_bSlots a_easy a_wants a_wantedBy a_ring a_carried a_latest v_taped v_faultKind v_faultPlace v_x v_ordered v_sought v_lastSought v_hMoved v_hWithout v_tMoved v_tWithout v_places v_elsewhere v_sMany v_bMany v_year y_lies a_rsort a_rmany a_nums pl) H locs → lv_has ls 3 [(1, .int x_64)] → W p l e rm_X5_going s m args below meth c H locs 0 0 Q (F0 m 48 ls []) := by
    intro x_64 hxx H locs ls hH hl
    have hF := un1e (kk4_0 x_64 hxx)
    refine lv_iload_n hx hb dX5_going_48 rfl (lv_at hl 0 rfl) ?_
    obtain rfl := Option.some.inj hF
    exact hret _ _ _ _ _ rfl hH dX5_going_49
  obtain ⟨nn4, en4⟩ := loopC_some ee4
  have l4 : ∀ (n : Nat) (x_58 : Int32) (x_59 : Int32), loopN (fun s => FX5_going_b4 a_to y_lies t s.1 s.2) n (x_58, x_59) = some xx4 → ∀ (H : Heap) (locs : List Loc) (ls : Array Slot), MH D vwA A s.heap (cW ad cA sA ta ba na gi rh rt g_sort g_size g_from g_to g_level g_full a_tape a_hAt a_hMany a_tAt a_tMany a_least a_place a_to a_order a_fails a_sKeys a_sRow a_sSlots a_bKeys a_bRow a_bSlots a_easy a_wants a_wantedBy a_ring a_carried a_latest v_taped v_faultKind v_faultPlace v_x v_ordered v_sought v_lastSought v_hMoved v_hWithout v_tMoved v_tWithout v_places v_elsewhere v_sMany v_bMany v_year y_lies a_rsort a_rmany a_nums pl) H locs → lv_has ls 3 [(0, .ref (ad 10)), (1, .int x_58), (2, .int x_59)] → W p l e rm_X5_going s m args below meth c H locs 0 0 Q (F0 m 4 ls []) := by
    intro n
    induction n with
    | zero =>
      intro x_58 x_59 hN
      exact absurd hN loopN_zero
    | succ n ih =>
      intro x_58 x_59 hN H locs ls hH hl
      obtain ⟨yy4, hB4, hY4⟩ := loopN_succ hN
      have hF : FX5_going_b4 a_to y_lies t x_58 x_59 = some yy4 := hB4
      delta FX5_going_b4 at hF
      refine lv_iload_n hx hb dX5_going_4 rfl (lv_at hl 2 rfl) ?_
      refine lv_aload_n hx hb dX5_going_5 rfl (lv_at hl 0 rfl) ?_
      refine cg_Y_Match_match_this0 hX hK hNW hH dX5_going_6 ?_
      refine cg_Y_Match_this_s hX hK hNW hH dX5_going_9 ?_
      refine cg_Y_Match_state_town hX hK hNW hH dX5_going_12 ?_
      refine cg_Y_Match_town_stones hT (fun _ h => cW_pl h) hX hK hNW hH dX5_going_15 ?_
      refine mxV hX hK hEv hE0 hH (met_J2_size hE.1 hT.stones (fun _ h => cW_pl h)) (precv (fun _ h => cW_pl h) hK hH 17 rfl hT.stones.obj) gw_StoneYear_Match_53 hd_yJ2_size ⟨Nat.le_of_ble_eq_true rfl, Nat.le_of_ble_eq_true rfl⟩ rfl rfl hl (Nat.le_of_ble_eq_true rfl) dX5_going_18 ⟨Nat.le_of_ble_eq_true rfl, Nat.le_of_ble_eq_true rfl⟩ (fun w2 H locs hw hH => ?_)
      subst hw
      refine lv_icmp_ge (tgt := 48) hx hb dX5_going_21 rfl (fun c_60 => ?_) (fun c_60 => ?_)
      · have hF := itp c_60 hF
        obtain rfl := Option.some.inj hF
        exact k4_0 x_58 hY4 _ _ _ hH (lv_sub hl [1] rfl)
      · have hF := itn c_60 hF
        refine lv_iload_n hx hb dX5_going_24 rfl (lv_at hl 1 rfl) ?_
        refine lv_aload_n hx hb dX5_going_25 rfl (lv_at hl 0 rfl) ?_
        refine lv_iload_n hx hb dX5_going_26 rfl (lv_at hl 2 rfl) ?_
        obtain ⟨b_61, he, hF⟩ := bd1e hF
        refine mxV hX hK hEv hE0 hH (met_X5_goes hE hPO he) (crecv hK hH 10 5 rfl rfl) gw_StoneYear_Match_110 hd_yX5_goes ⟨Nat.le_of_ble_eq_true rfl, Nat.le_of_ble_eq_true rfl⟩ rfl rfl hl (Nat.le_of_ble_eq_true rfl) dX5_going_27 ⟨Nat.le_of_ble_eq_true rfl, Nat.le_of_ble_eq_true rfl⟩ (fun w2 H locs hw hH => ?_)
        subst hw
        have j40 : ∀ (x_63 : Int32), FX5_going_j40 x_58 x_59 x_63 = some yy4 → ∀ (H : Heap) (locs : List Loc) (ls : Array Slot), MH D vwA A s.heap (cW ad cA sA ta ba na gi rh rt g_sort g_size g_from g_to g_level g_full a_tape a_hAt a_hMany a_tAt a_tMany a_least a_place a_to a_order a_fails a_sKeys a_sRow a_sSlots a_bKeys a_bRow a_bSlots a_easy a_wants a_wantedBy a_ring a_carried a_latest v_taped v_faultKind v_faultPlace v_x v_ordered v_sought v_lastSought v_hMoved v_hWithout v_tMoved v_tWithout v_places v_elsewhere v_sMany v_bMany v_year y_lies a_rsort a_rmany a_nums pl) H locs → lv_has ls 3 [(0, .ref (ad 10)), (2, .int x_59)] → W p l e rm_X5_going s m args below meth c H locs 0 0 Q (F0 m 40 ls [.int x_63, .int x_58]) := by
          intro x_63 hF H locs ls hH hl
          delta FX5_going_j40 at hF
          refine lv_ior hx hb dX5_going_40 ?_
          refine lv_istore_n (lv' := [(1, .int (x_58 ||| x_63)), (0, .ref (ad 10)), (2, .int x_59)]) hx hb dX5_going_41 rfl hl (by decide) rfl (fun ls hl => ?_)
          refine lv_iinc (v := (x_59 + 1)) (lv' := [(2, .int (x_59 + 1)), (1, .int (x_58 ||| x_63)), (0, .ref (ad 10))]) hx hb dX5_going_42 hl (k := 2) rfl (syc kyi_1) (by decide) rfl (fun ls hl => ?_)
          refine lv_goto (tgt := 4) hx hb dX5_going_45 rfl ?_
          obtain rfl := Option.some.inj hF
          exact ih (x_58 ||| x_63) (x_59 + 1) hY4 _ _ _ hH (lv_sub hl [2, 1, 0] rfl)
        refine lv_if_eq (tgt := 39) hx hb dX5_going_30 rfl (fun c_62 => ?_) (fun c_62 => ?_)
        · have hF := itp c_62 hF
          refine lv_iconst (v := 0) hx hb dX5_going_39 kyi_0 ?_
          exact j40 0 hF _ _ _ hH (lv_sub hl [0, 2] rfl)
        · have hF := itn c_62 hF
          refine lv_iconst (v := 1) hx hb dX5_going_33 kyi_1 ?_
          refine lv_iload_n hx hb dX5_going_34 rfl (lv_at hl 2 rfl) ?_
          refine lv_ishl hx hb dX5_going_35 ?_
          refine lv_goto (tgt := 40) hx hb dX5_going_36 rfl ?_
          exact j40 ((1 : Int32) <<< (x_59 &&& 31)) hF _ _ _ hH (lv_sub hl [0, 2] rfl)
  exact l4 nn4 0 0 en4 _ _ _ hH (lv_sub hl [2, 1, 0] rfl)
abbrev rm_X0_once : Room := { frames := 273, cells := 0, slots := 0, locals := 6344 }
set_option maxHeartbeats 4000000 in
theorem met_X0_once {l : Launch} {D : va_G} {ad : Nat → Nat} {cA : Nat → ClassId} {sA ta ba na : Nat → Nat} {gi : Nat → Option Nat} {rh : Option Nat} {rt : Option Nat} {g_sort : Int32} {g_size : Int32} {g_from : Int32} {g_to : Int32} {g_level : Int32} {g_full : Int32} {a_tape : Nat → Int32} {a_hAt : Nat → Int32} {a_hMany : Nat → Int32} {a_tAt : Nat → Int32} {a_tMany : Nat → Int32} {a_least : Nat → Int32} {a_place : Nat → Int32} {a_to : Nat → Int32} {a_order : Nat → Int32} {a_fails : Nat → Int32} {a_sKeys : Nat → Int64} {a_sRow : Nat → Int64} {a_sSlots : Nat → Int32} {a_bKeys : Nat → Int64} {a_bRow : Nat → Int64} {a_bSlots : Nat → Int32} {a_easy : Nat → Int32} {a_wants : Nat → Int32} {a_wantedBy : Nat → Int32} {a_ring : Nat → Int32} {a_carried : Nat → Int32} {a_latest : Nat → Int32} {v_taped : Int32} {v_faultKind : Int32} {v_faultPlace : Int32} {v_x : Int32} {v_ordered : Int32} {v_sought : Int32} {v_lastSought : Int32} {v_hMoved : Int32} {v_hWithout : Int32} {v_tMoved : Int32} {v_tWithout : Int32} {v_places : Int32} {v_elsewhere : Int32} {v_sMany : Int32} {v_bMany : Int32} {v_year : Int32} {y_lies : Int64} {a_rsort : Nat → Int32} {a_rmany : Nat → Int32} {a_nums : Nat → Nat → Int64} {t : Nat → Int32} {nb : Int32} {bv : Nat → Int32 → Int32 → Int32 → Int32 → Int32 → Int32 → Bool} {pl : va_W}  {p1 : Int32} {res : Int32} {ra_tAt : Nat → Int32} {ra_tMany : Nat → Int32} {ra_least : Nat → Int32} {ra_place : Nat → Int32} {ra_to : Nat → Int32} {ra_order : Nat → Int32} {ra_fails : Nat → Int32} {rv_ordered : Int32} {rv_tMoved : Int32} {rv_tWithout : Int32} {rv_places : Int32} {rv_elsewhere : Int32} {E : EvT} (hE : EvN E) (hPO : PO cA pl ta ba t nb bv) (hF : FX0_once a_tAt a_tMany a_least a_place a_to a_order a_fails y_lies t nb bv p1 = some (res, ra_tAt, ra_tMany, ra_least, ra_place, ra_to, ra_order, ra_fails, rv_ordered, rv_tMoved, rv_tWithout, rv_places, rv_elsewhere)) : MX l yX0_once (ws_ yX0_once cX0_once 4 (Option.some Jvm.ClassFile.FieldType.int)) rm_X0_once D vwA (cT cA) E [.ref (ad 0), .int p1] (cW ad cA sA ta ba na gi rh rt g_sort g_size g_from g_to g_level g_full a_tape a_hAt a_hMany a_tAt a_tMany a_least a_place a_to a_order a_fails a_sKeys a_sRow a_sSlots a_bKeys a_bRow a_bSlots a_easy a_wants a_wantedBy a_ring a_carried a_latest v_taped v_faultKind v_faultPlace v_x v_ordered v_sought v_lastSought v_hMoved v_hWithout v_tMoved v_tWithout v_places v_elsewhere v_sMany v_bMany v_year y_lies a_rsort a_rmany a_nums pl) (fun z => ∃ g_sort' : Int32, ∃ g_size' : Int32, ∃ g_from' : Int32, ∃ g_to' : Int32, ∃ g_level' : Int32, ∃ g_full' : Int32, z = (cW ad cA sA ta ba na gi rh (some (ta 0)) g_sort' g_size' g_from' g_to' g_level' g_full' a_tape a_hAt a_hMany ra_tAt ra_tMany ra_least ra_place ra_to ra_order ra_fails a_sKeys a_sRow a_sSlots a_bKeys a_bRow a_bSlots a_easy a_wants a_wantedBy a_ring a_carried a_latest v_taped v_faultKind v_faultPlace v_x rv_ordered v_sought v_lastSought v_hMoved v_hWithout rv_tMoved rv_tWithout rv_places rv_elsewhere v_sMany v_bMany v_year y_lies a_rsort a_rmany a_nums pl)) (some (.int res)) := by
  refine MX.ofI (by decide) (Nat.le_of_ble_eq_true rfl) ?_
  intro p e s m args below meth c Q A hX hK hE0 hname hret H locs ls hH hl
  have hX : CallFix p m c cX0_once 4 s args lw_all RX0 := hX
  have hx := hX.1
  have hb := hX.2.1
  have hown := hX.2.2.2.1
  have hts := hX.2.2.2.2
  have hl : lv_has ls 4 [(0, .ref (ad 0)), (1, .int p1)] := hl
  have hEv := hE.1
  have hNW := hE.2.1 _ _ _ hE0
  have hT := hPO.1
  have hB := hPO.2
  delta FX0_once at hF
  refine lv_aload_n hx hb dX0_once_0 rfl (lv_at hl 0 rfl) ?_
  refine cg_Y_this_match hX hK hNW hH dX0_once_1 ?_
  obtain ⟨a_least_55, a_place_56, a_to_57, v_places_58, v_elsewhere_59, he, hF⟩ := bd5e hF
  refine mxV hX hK hEv hE0 hH (met_X5_finds hE hPO he) (crecv hK hH 10 5 rfl rfl) gw_StoneYear_335 hd_yX5_finds ⟨Nat.le_of_ble_eq_true rfl, Nat.le_of_ble_eq_true rfl⟩ rfl rfl hl (Nat.le_of_ble_eq_true rfl) dX0_once_4 ⟨Nat.le_of_ble_eq_true rfl, Nat.le_of_ble_eq_true rfl⟩ (fun w2 H locs hw hH => ?_)
  subst hw
  obtain ⟨x_60, he, hF⟩ := bd1e hF
  refine mxV hX hK hEv hE0 hH (met_X5_going hE hPO he) (crecv hK hH 10 5 rfl rfl) gw_StoneYear_356 hd_yX5_going ⟨Nat.le_of_ble_eq_true rfl, Nat.le_of_ble_eq_true rfl⟩ rfl rfl hl (Nat.le_of_ble_eq_true rfl) dX0_once_7 ⟨Nat.le_of_ble_eq_true rfl, Nat.le_of_ble_eq_true rfl⟩ (fun w2 H locs hw hH => ?_)
  subst hw
  refine lv_istore_n (lv' := [(2, .int x_60), (0, .ref (ad 0)), (1, .int p1)]) hx hb dX0_once_10 rfl hl (by decide) rfl (fun ls hl => ?_)
  refine lv_iconst (v := 0) hx hb dX0_once_11 kyi_0 ?_
  refine lv_istore_n (lv' := [(3, .int 0), (2, .int x_60), (0, .ref (ad 0)), (1, .int p1)]) hx hb dX0_once_12 rfl hl (by decide) rfl (fun ls hl => ?_)
  obtain ⟨xx13, ee13, kk13_0⟩ := bd1L hF
  have k13_0 : ∀ (a_fails_67 : Nat → Int32), xx13 = a_fails_67 → ∀ (H : Heap) (locs : List Loc) (ls : Array Slot), MH D vwA A s.heap (cW ad cA sA ta ba na gi rh rt g_sort g_size g_from g_to g_level g_full a_tape a_hAt a_hMany a_tAt a_tMany a_least_55 a_place_56 a_to_57 a_order a_fails_67 a_sKeys a_sRow a_sSlots a_bKeys a_bRow a_bSlots a_easy a_wants a_wantedBy a_ring a_carried a_latest v_taped v_faultKind v_faultPlace v_x v_ordered v_sought v_lastSought v_hMoved v_hWithout v_tMoved v_tWithout v_places_58 v_elsewhere_59 v_sMany v_bMany v_year y_lies a_rsort a_rmany a_nums pl) H locs → lv_has ls 4 [(0, .ref (ad 0)), (1, .int p1), (2, .int x_60)] → W p l e rm_X0_once s m args below meth c H locs 0 0 Q (F0 m 33 ls []) := by
    intro a_fails_67 hxx H locs ls hH hl
    have hF := un1e (kk13_0 a_fails_67 hxx)
    refine lv_aload_n hx hb dX0_once_33 rfl (lv_at hl 0 rfl) ?_
    refine cg_Y_this_trial hX hK hNW hH dX0_once_34 ?_
    refine lv_iconst (v := (-1)) hx hb dX0_once_37 kyi_m1 ?_
    refine cp_Y_stkt_without hX hK hNW hH dX0_once_38 (fun H locs hH => ?_)
    refine lv_aload_n hx hb dX0_once_41 rfl (lv_at hl 0 rfl) ?_
    refine cg_Y_this_trial hX hK hNW hH dX0_once_42 ?_
    refine lv_aload_n hx hb dX0_once_45 rfl (lv_at hl 0 rfl) ?_
    refine cg_Y_this_s hX hK hNW hH dX0_once_46 ?_
    refine cg_Y_state_town hX hK hNW hH dX0_once_49 ?_
    refine lv_aload_n hx hb dX0_once_52 rfl (lv_at hl 0 rfl) ?_
    refine cg_Y_this_s hX hK hNW hH dX0_once_53 ?_
    refine cg_Y_state_lies hX hK hNW hH dX0_once_56 ?_
    obtain ⟨y_68, he, hF⟩ := bd1e hF
    refine mxS hX hK hEv hE0 hH (met_X0_resting hE hPO he) gw_StoneYear_255 hd_yX0_resting ⟨Nat.le_of_ble_eq_true rfl, Nat.le_of_ble_eq_true rfl⟩ rfl rfl hl (Nat.le_of_ble_eq_true rfl) dX0_once_59 ⟨Nat.le_of_ble_eq_true rfl, Nat.le_of_ble_eq_true rfl⟩ (fun w2 H locs hw hH => ?_)
    subst hw
    obtain ⟨a_tAt_69, a_tMany_70, v_tMoved_71, he, hF⟩ := bd3e hF
    refine mxV hX hK hEv hE0 hH (met_X4_lays_t hE hPO hT he) (crecv hK hH 7 4 rfl rfl) gw_StoneYear_151 hd_yX4_lays ⟨Nat.le_of_ble_eq_true rfl, Nat.le_of_ble_eq_true rfl⟩ rfl rfl hl (Nat.le_of_ble_eq_true rfl) dX0_once_62 ⟨Nat.le_of_ble_eq_true rfl, Nat.le_of_ble_eq_true rfl⟩ (fun w2 H locs hw hH => ?_)
    subst hw
    refine lv_pop hx hb dX0_once_65 rfl ?_
    refine lv_aload_n hx hb dX0_once_66 rfl (lv_at hl 0 rfl) ?_
    refine lv_iload_n hx hb dX0_once_67 rfl (lv_at hl 2 rfl) ?_
    obtain ⟨x_72, he, hF⟩ := bd1e hF
    refine mxS hX hK hEv hE0 hH (met_J11_bitCount (EvG_of hEv) he).toX gw_StoneYear_361 hd_yJ11_bitCount ⟨Nat.le_of_ble_eq_true rfl, Nat.le_of_ble_eq_true rfl⟩ rfl rfl hl (Nat.le_of_ble_eq_true rfl) dX0_once_68 ⟨Nat.le_of_ble_eq_true rfl, Nat.le_of_ble_eq_true rfl⟩ (fun w2 H locs hw hH => ?_)
    subst hw
    refine cp_Y_this_ordered hX hK hNW hH dX0_once_71 (fun H locs hH => ?_)
    refine lv_aload_n hx hb dX0_once_74 rfl (lv_at hl 0 rfl) ?_
    refine lv_iload_n hx hb dX0_once_75 rfl (lv_at hl 2 rfl) ?_
    refine lv_iconst (v := 0) hx hb dX0_once_76 kyi_0 ?_
    refine lv_iconst (v := 0) hx hb dX0_once_77 kyi_0 ?_
    obtain ⟨b_73, a_tAt_74, a_tMany_75, a_order_76, a_fails_77, v_tMoved_78, he, hF⟩ := bd6e hF
    refine mxV hX hK hEv hE0 hH (met_X0_orders hE hPO 10 he) (crecv hK hH 0 0 rfl rfl) gw_StoneYear_349 hd_yX0_orders ⟨Nat.le_of_ble_eq_true rfl, Nat.le_of_ble_eq_true rfl⟩ rfl rfl hl (Nat.le_of_ble_eq_true rfl) dX0_once_78 ⟨Nat.le_of_ble_eq_true rfl, Nat.le_of_ble_eq_true rfl⟩ (fun w2 H locs hw hH => ?_)
    obtain ⟨g_sort_79, g_size_80, g_from_81, g_to_82, g_level_83, g_full_84, rfl⟩ := hw
    refine lv_if_ne (tgt := 86) hx hb dX0_once_81 rfl (fun c_85 => ?_) (fun c_85 => ?_)
    · have hF := itn c_85 hF
      refine lv_iload_n hx hb dX0_once_86 rfl (lv_at hl 1 rfl) ?_
      refine lv_iconst (v := (-1)) hx hb dX0_once_87 kyi_m1 ?_
      refine lv_icmp_ne (tgt := 98) hx hb dX0_once_88 rfl (fun c_86 => ?_) (fun c_86 => ?_)
      · have hF := itn c_86 hF
        refine lv_iload_n hx hb dX0_once_98 rfl (lv_at hl 1 rfl) ?_
        refine lv_i2l (v := (Int32.toInt64 p1)) hx hb dX0_once_99 rfl ?_
        refine lv_lconst (v := 0) hx hb dX0_once_100 rfl ?_
        refine lv_aload_n hx hb dX0_once_101 rfl (lv_at hl 0 rfl) ?_
        refine cg_Y_this_ordered hX hK hNW hH dX0_once_102 ?_
        refine lv_iconst (v := 1) hx hb dX0_once_105 kyi_1 ?_
        refine lv_isub hx hb dX0_once_106 ?_
        refine lv_i2l (v := (Int32.toInt64 (x_72 - 1))) hx hb dX0_once_107 rfl ?_
        obtain ⟨b_87, he, hF⟩ := bd1e hF
        refine mxS hX hK hEv hE0 hH (met_X0_in hE hPO he) gw_StoneYear_106 hd_yX0_in ⟨Nat.le_of_ble_eq_true rfl, Nat.le_of_ble_eq_true rfl⟩ rfl rfl hl (Nat.le_of_ble_eq_true rfl) dX0_once_108 ⟨Nat.le_of_ble_eq_true rfl, Nat.le_of_ble_eq_true rfl⟩ (fun w2 H locs hw hH => ?_)
        subst hw
        refine lv_if_eq (tgt := 123) hx hb dX0_once_111 rfl (fun c_88 => ?_) (fun c_88 => ?_)
        · have hF := itp c_88 hF
          refine lv_iconst (v := (-1)) hx hb dX0_once_123 kyi_m1 ?_
          obtain ⟨rfl, rfl, rfl, rfl, rfl, rfl, rfl, rfl, rfl, rfl, rfl, rfl, rfl⟩ := re13 hF
          exact hret _ _ _ _ _ ⟨_, _, _, _, _, _, rfl⟩ hH dX0_once_124
        · have hF := itn c_88 hF
          refine lv_aload_n hx hb dX0_once_114 rfl (lv_at hl 0 rfl) ?_
          refine cg_Y_this_order hX hK hNW hH dX0_once_115 ?_
          refine lv_iload_n hx hb dX0_once_118 rfl (lv_at hl 1 rfl) ?_
          obtain ⟨x_89, he, hF⟩ := bd1e hF
          refine cl_order hX hK hH he dX0_once_119 ?_
          refine lv_goto (tgt := 124) hx hb dX0_once_120 rfl ?_
          obtain ⟨rfl, rfl, rfl, rfl, rfl, rfl, rfl, rfl, rfl, rfl, rfl, rfl, rfl⟩ := re13 hF
          exact hret _ _ _ _ _ ⟨_, _, _, _, _, _, rfl⟩ hH dX0_once_124
      · have hF := itp c_86 hF
        refine lv_aload_n hx hb dX0_once_91 rfl (lv_at hl 0 rfl) ?_
        refine cg_Y_this_ordered hX hK hNW hH dX0_once_92 ?_
        refine lv_goto (tgt := 124) hx hb dX0_once_95 rfl ?_
        obtain ⟨rfl, rfl, rfl, rfl, rfl, rfl, rfl, rfl, rfl, rfl, rfl, rfl, rfl⟩ := re13 hF
        exact hret _ _ _ _ _ ⟨_, _, _, _, _, _, rfl⟩ hH dX0_once_124
    · have hF := itp c_85 hF
      refine lv_iconst (v := (-1)) hx hb dX0_once_84 kyi_m1 ?_
      obtain ⟨rfl, rfl, rfl, rfl, rfl, rfl, rfl, rfl, rfl, rfl, rfl, rfl, rfl⟩ := re13 hF
      exact hret _ _ _ _ _ ⟨_, _, _, _, _, _, rfl⟩ hH dX0_once_85
  obtain ⟨nn13, en13⟩ := loopC_some ee13
  have l13 : ∀ (n : Nat) (x_63 : Int32) (a_fails_64 : Nat → Int32), loopN (fun s => FX0_once_b13 s.1 s.2) n (x_63, a_fails_64) = some xx13 → ∀ (H : Heap) (locs : List Loc) (ls : Array Slot), MH D vwA A s.heap (cW ad cA sA ta ba na gi rh rt g_sort g_size g_from g_to g_level g_full a_tape a_hAt a_hMany a_tAt a_tMany a_least_55 a_place_56 a_to_57 a_order a_fails_64 a_sKeys a_sRow a_sSlots a_bKeys a_bRow a_bSlots a_easy a_wants a_wantedBy a_ring a_carried a_latest v_taped v_faultKind v_faultPlace v_x v_ordered v_sought v_lastSought v_hMoved v_hWithout v_tMoved v_tWithout v_places_58 v_elsewhere_59 v_sMany v_bMany v_year y_lies a_rsort a_rmany a_nums pl) H locs → lv_has ls 4 [(0, .ref (ad 0)), (1, .int p1), (2, .int x_60), (3, .int x_63)] → W p l e rm_X0_once s m args below meth c H locs 0 0 Q (F0 m 13 ls []) := by
    intro n
    induction n with
    | zero =>
      intro x_63 a_fails_64 hN
      exact absurd hN loopN_zero
    | succ n ih =>
      intro x_63 a_fails_64 hN H locs ls hH hl
      obtain ⟨yy13, hB13, hY13⟩ := loopN_succ hN
      have hF : FX0_once_b13 x_63 a_fails_64 = some yy13 := hB13
      delta FX0_once_b13 at hF
      refine lv_iload_n hx hb dX0_once_13 rfl (lv_at hl 3 rfl) ?_
      refine lv_sipush (v := 256) hx hb dX0_once_14 kys_256 ?_
      refine lv_icmp_ge (tgt := 33) hx hb dX0_once_17 rfl (fun c_65 => ?_) (fun c_65 => ?_)
      · have hF := itp c_65 hF
        obtain rfl := Option.some.inj hF
        exact k13_0 a_fails_64 hY13 _ _ _ hH (lv_sub hl [0, 1, 2] rfl)
      · have hF := itn c_65 hF
        refine lv_aload_n hx hb dX0_once_20 rfl (lv_at hl 0 rfl) ?_
        refine cg_Y_this_fails hX hK hNW hH dX0_once_21 ?_
        refine lv_iload_n hx hb dX0_once_24 rfl (lv_at hl 3 rfl) ?_
        refine lv_iconst (v := 0) hx hb dX0_once_25 kyi_0 ?_
        obtain ⟨a_fails_66, he, hF⟩ := bd1e hF
        refine cs_fails hX hK hH he dX0_once_26 (fun H locs hH => ?_)
        refine lv_iinc (v := (x_63 + 1)) (lv' := [(3, .int (x_63 + 1)), (0, .ref (ad 0)), (1, .int p1), (2, .int x_60)]) hx hb dX0_once_27 hl (k := 3) rfl (syc kyi_1) (by decide) rfl (fun ls hl => ?_)
        refine lv_goto (tgt := 13) hx hb dX0_once_30 rfl ?_
        obtain rfl := Option.some.inj hF
        exact ih (x_63 + 1) a_fails_66 hY13 _ _ _ hH (lv_sub hl [1, 2, 3, 0] rfl)
  exact l13 nn13 0 a_fails en13 _ _ _ hH (lv_sub hl [2, 3, 1, 0] rfl)
abbrev rm_X0_isAhead : Room := { frames := 2, cells := 0, slots := 0, locals := 43 }
set_option maxHeartbeats 4000000 in
theorem met_X0_isAhead {l : Launch} {D : va_G} {ad : Nat → Nat} {cA : Nat → ClassId} {sA ta ba na : Nat → Nat} {gi : Nat → Option Nat} {rh : Option Nat} {rt : Option Nat} {g_sort : Int32} {g_size : Int32} {g_from : Int32} {g_to : Int32} {g_level : Int32} {g_full : Int32} {a_tape : Nat → Int32} {a_hAt : Nat → Int32} {a_hMany : Nat → Int32} {a_tAt : Nat → Int32} {a_tMany : Nat → Int32} {a_least : Nat → Int32} {a_place : Nat → Int32} {a_to : Nat → Int32} {a_order : Nat → Int32} {a_fails : Nat → Int32} {a_sKeys : Nat → Int64} {a_sRow : Nat → Int64} {a_sSlots : Nat → Int32} {a_bKeys : Nat → Int64} {a_bRow : Nat → Int64} {a_bSlots : Nat → Int32} {a_easy : Nat → Int32} {a_wants : Nat → Int32} {a_wantedBy : Nat → Int32} {a_ring : Nat → Int32} {a_carried : Nat → Int32} {a_latest : Nat → Int32} {v_taped : Int32} {v_faultKind : Int32} {v_faultPlace : Int32} {v_x : Int32} {v_ordered : Int32} {v_sought : Int32} {v_lastSought : Int32} {v_hMoved : Int32} {v_hWithout : Int32} {v_tMoved : Int32} {v_tWithout : Int32} {v_places : Int32} {v_elsewhere : Int32} {v_sMany : Int32} {v_bMany : Int32} {v_year : Int32} {y_lies : Int64} {a_rsort : Nat → Int32} {a_rmany : Nat → Int32} {a_nums : Nat → Nat → Int64} {t : Nat → Int32} {nb : Int32} {bv : Nat → Int32 → Int32 → Int32 → Int32 → Int32 → Int32 → Bool} {pl : va_W}  {p1 : Int32} {p2 : Int32} {res : Bool} {E : EvT} (hE : EvN E) (hPO : PO cA pl ta ba t nb bv) (hF : FX0_isAhead a_to y_lies p1 p2 = some res) : MX l yX0_isAhead (ws_ yX0_isAhead cX0_isAhead 7 (Option.some Jvm.ClassFile.FieldType.boolean)) rm_X0_isAhead D vwA (cT cA) E [.ref (ad 0), .int p1, .int p2] (cW ad cA sA ta ba na gi rh rt g_sort g_size g_from g_to g_level g_full a_tape a_hAt a_hMany a_tAt a_tMany a_least a_place a_to a_order a_fails a_sKeys a_sRow a_sSlots a_bKeys a_bRow a_bSlots a_easy a_wants a_wantedBy a_ring a_carried a_latest v_taped v_faultKind v_faultPlace v_x v_ordered v_sought v_lastSought v_hMoved v_hWithout v_tMoved v_tWithout v_places v_elsewhere v_sMany v_bMany v_year y_lies a_rsort a_rmany a_nums pl) (fun z => z = (cW ad cA sA ta ba na gi rh rt g_sort g_size g_from g_to g_level g_full a_tape a_hAt a_hMany a_tAt a_tMany a_least a_place a_to a_order a_fails a_sKeys a_sRow a_sSlots a_bKeys a_bRow a_bSlots a_easy a_wants a_wantedBy a_ring a_carried a_latest v_taped v_faultKind v_faultPlace v_x v_ordered v_sought v_lastSought v_hMoved v_hWithout v_tMoved v_tWithout v_places v_elsewhere v_sMany v_bMany v_year y_lies a_rsort a_rmany a_nums pl)) (some (.int (b2i res))) := by
  refine MX.ofZ (by decide) (Nat.le_of_ble_eq_true rfl) ?_
  intro p e s m args below meth c Q A hX hK hE0 hname hret H locs ls hH hl
  have hX : CallFix p m c cX0_isAhead 7 s args lw_all RX0 := hX
  have hx := hX.1
  have hb := hX.2.1
  have hown := hX.2.2.2.1
  have hts := hX.2.2.2.2
  have hl : lv_has ls 7 [(0, .ref (ad 0)), (1, .int p1), (2, .int p2)] := hl
  have hEv := hE.1
  have hNW := hE.2.1 _ _ _ hE0
  have hT := hPO.1
  have hB := hPO.2
  delta FX0_isAhead at hF
  refine lv_aload_n hx hb dX0_isAhead_0 rfl (lv_at hl 0 rfl) ?_
  refine cg_Y_this_match hX hK hNW hH dX0_isAhead_1 ?_
  refine lv_iload_n hx hb dX0_isAhead_4 rfl (lv_at hl 1 rfl) ?_
  obtain ⟨b_56, he, hF⟩ := bd1e hF
  refine mxV hX hK hEv hE0 hH (met_X5_goes hE hPO he) (crecv hK hH 10 5 rfl rfl) gw_StoneYear_369 hd_yX5_goes ⟨Nat.le_of_ble_eq_true rfl, Nat.le_of_ble_eq_true rfl⟩ rfl rfl hl (Nat.le_of_ble_eq_true rfl) dX0_isAhead_5 ⟨Nat.le_of_ble_eq_true rfl, Nat.le_of_ble_eq_true rfl⟩ (fun w2 H locs hw hH => ?_)
  subst hw
  refine lv_if_eq (tgt := 22) hx hb dX0_isAhead_8 rfl (fun c_57 => ?_) (fun c_57 => ?_)
  · have hF := itp c_57 hF
    refine lv_iconst (v := 0) hx hb dX0_isAhead_22 kyi_0 ?_
    obtain rfl := Option.some.inj hF
    exact hret _ _ _ _ _ rfl hH dX0_isAhead_23
  · have hF := itn c_57 hF
    refine lv_aload_n hx hb dX0_isAhead_11 rfl (lv_at hl 0 rfl) ?_
    refine cg_Y_this_match hX hK hNW hH dX0_isAhead_12 ?_
    refine lv_iload_n hx hb dX0_isAhead_15 rfl (lv_at hl 2 rfl) ?_
    obtain ⟨b_58, he, hF⟩ := bd1e hF
    refine mxV hX hK hEv hE0 hH (met_X5_goes hE hPO he) (crecv hK hH 10 5 rfl rfl) gw_StoneYear_369 hd_yX5_goes ⟨Nat.le_of_ble_eq_true rfl, Nat.le_of_ble_eq_true rfl⟩ rfl rfl hl (Nat.le_of_ble_eq_true rfl) dX0_isAhead_16 ⟨Nat.le_of_ble_eq_true rfl, Nat.le_of_ble_eq_true rfl⟩ (fun w2 H locs hw hH => ?_)
    subst hw
    refine lv_if_ne (tgt := 24) hx hb dX0_isAhead_19 rfl (fun c_59 => ?_) (fun c_59 => ?_)
    · have hF := itn c_59 hF
      refine lv_aload_n hx hb dX0_isAhead_24 rfl (lv_at hl 0 rfl) ?_
      refine cg_Y_this_s hX hK hNW hH dX0_isAhead_25 ?_
      refine cg_Y_state_lies hX hK hNW hH dX0_isAhead_28 ?_
      refine lv_iload_n hx hb dX0_isAhead_31 rfl (lv_at hl 1 rfl) ?_
      obtain ⟨x_60, he, hF⟩ := bd1e hF
      refine mxS hX hK hEv hE0 hH (met_X0_placeIn hE hPO he) gw_StoneYear_162 hd_yX0_placeIn ⟨Nat.le_of_ble_eq_true rfl, Nat.le_of_ble_eq_true rfl⟩ rfl rfl hl (Nat.le_of_ble_eq_true rfl) dX0_isAhead_32 ⟨Nat.le_of_ble_eq_true rfl, Nat.le_of_ble_eq_true rfl⟩ (fun w2 H locs hw hH => ?_)
      subst hw
      refine lv_istore_n (lv' := [(3, .int x_60), (0, .ref (ad 0)), (1, .int p1), (2, .int p2)]) hx hb dX0_isAhead_35 rfl hl (by decide) rfl (fun ls hl => ?_)
      refine lv_aload_n hx hb dX0_isAhead_36 rfl (lv_at hl 1 rfl) ?_
      refine cg_Y_this_s hX hK hNW hH dX0_isAhead_37 ?_
      refine cg_Y_state_lies hX hK hNW hH dX0_isAhead_40 ?_
      refine lv_iload_n hx hb dX0_isAhead_43 rfl (lv_at hl 3 rfl) ?_
      obtain ⟨x_61, he, hF⟩ := bd1e hF
      refine mxS hX hK hEv hE0 hH (met_X0_placeIn hE hPO he) gw_StoneYear_162 hd_yX0_placeIn ⟨Nat.le_of_ble_eq_true rfl, Nat.le_of_ble_eq_true rfl⟩ rfl rfl hl (Nat.le_of_ble_eq_true rfl) dX0_isAhead_44 ⟨Nat.le_of_ble_eq_true rfl, Nat.le_of_ble_eq_true rfl⟩ (fun w2 H locs hw hH => ?_)
      subst hw
      refine lv_istore (lv' := [(4, .int x_61), (3, .int x_60), (0, .ref (ad 0)), (1, .int p1), (2, .int p2)]) hx hb dX0_isAhead_47 hl (by decide) rfl (fun ls hl => ?_)
      refine lv_aload_n hx hb dX0_isAhead_49 rfl (lv_at hl 2 rfl) ?_
      refine cg_Y_this_match hX hK hNW hH dX0_isAhead_50 ?_
      refine cg_Y_match_to hX hK hNW hH dX0_isAhead_53 ?_
      refine lv_iload_n hx hb dX0_isAhead_56 rfl (lv_at hl 3 rfl) ?_
      obtain ⟨x_62, he, hF⟩ := bd1e hF
      refine cl_to hX hK hH he dX0_isAhead_57 ?_
      refine lv_istore (lv' := [(5, .int x_62), (4, .int x_61), (3, .int x_60), (0, .ref (ad 0)), (1, .int p1), (2, .int p2)]) hx hb dX0_isAhead_58 hl (by decide) rfl (fun ls hl => ?_)
      refine lv_aload_n hx hb dX0_isAhead_60 rfl (lv_at hl 3 rfl) ?_
      refine cg_Y_this_match hX hK hNW hH dX0_isAhead_61 ?_
      refine cg_Y_match_to hX hK hNW hH dX0_isAhead_64 ?_
      refine lv_iload_n hx hb dX0_isAhead_67 rfl (lv_at hl 5 rfl) ?_
      obtain ⟨x_63, he, hF⟩ := bd1e hF
      refine cl_to hX hK hH he dX0_isAhead_68 ?_
      refine lv_istore (lv' := [(6, .int x_63), (5, .int x_62), (4, .int x_61), (3, .int x_60), (0, .ref (ad 0)), (1, .int p1), (2, .int p2)]) hx hb dX0_isAhead_69 hl (by decide) rfl (fun ls hl => ?_)
      refine lv_iload_n hx hb dX0_isAhead_71 rfl (lv_at hl 5 rfl) ?_
      refine lv_iload_n hx hb dX0_isAhead_72 rfl (lv_at hl 6 rfl) ?_
      refine lv_icmp_ne (tgt := 92) hx hb dX0_isAhead_73 rfl (fun c_64 => ?_) (fun c_64 => ?_)
      · have hF := itn c_64 hF
        refine lv_iload_n hx hb dX0_isAhead_92 rfl (lv_at hl 3 rfl) ?_
        refine lv_iconst (v := 3) hx hb dX0_isAhead_93 kyi_3 ?_
        refine lv_idiv hx hb dX0_isAhead_94 (by decide) ?_
        refine lv_iload hx hb dX0_isAhead_95 (lv_at hl 2 rfl) ?_
        refine lv_iconst (v := 3) hx hb dX0_isAhead_97 kyi_3 ?_
        refine lv_idiv hx hb dX0_isAhead_98 (by decide) ?_
        have j136 : FX0_isAhead_j136 = some res → ∀ (H : Heap) (locs : List Loc) (ls : Array Slot), MH D vwA A s.heap (cW ad cA sA ta ba na gi rh rt g_sort g_size g_from g_to g_level g_full a_tape a_hAt a_hMany a_tAt a_tMany a_least a_place a_to a_order a_fails a_sKeys a_sRow a_sSlots a_bKeys a_bRow a_bSlots a_easy a_wants a_wantedBy a_ring a_carried a_latest v_taped v_faultKind v_faultPlace v_x v_ordered v_sought v_lastSought v_hMoved v_hWithout v_tMoved v_tWithout v_places v_elsewhere v_sMany v_bMany v_year y_lies a_rsort a_rmany a_nums pl) H locs → lv_has ls 7 [] → W p l e rm_X0_isAhead s m args below meth c H locs 0 0 Q (F0 m 136 ls []) := by
          intro hF H locs ls hH hl
          delta FX0_isAhead_j136 at hF
          refine lv_iconst (v := 1) hx hb dX0_isAhead_136 kyi_1 ?_
          refine lv_goto (tgt := 141) hx hb dX0_isAhead_137 rfl ?_
          obtain rfl := Option.some.inj hF
          exact hret _ _ _ _ _ rfl hH dX0_isAhead_141
        have j108 : FX0_isAhead_j108 x_60 x_62 x_63 = some res → ∀ (H : Heap) (locs : List Loc) (ls : Array Slot), MH D vwA A s.heap (cW ad cA sA ta ba na gi rh rt g_sort g_size g_from g_to g_level g_full a_tape a_hAt a_hMany a_tAt a_tMany a_least a_place a_to a_order a_fails a_sKeys a_sRow a_sSlots a_bKeys a_bRow a_bSlots a_easy a_wants a_wantedBy a_ring a_carried a_latest v_taped v_faultKind v_faultPlace v_x v_ordered v_sought v_lastSought v_hMoved v_hWithout v_tMoved v_tWithout v_places v_elsewhere v_sMany v_bMany v_year y_lies a_rsort a_rmany a_nums pl) H locs → lv_has ls 7 [(3, .int x_60), (5, .int x_62), (6, .int x_63)] → W p l e rm_X0_isAhead s m args below meth c H locs 0 0 Q (F0 m 108 ls []) := by
          intro hF H locs ls hH hl
          delta FX0_isAhead_j108 at hF
          refine lv_iload hx hb dX0_isAhead_108 (lv_at hl 1 rfl) ?_
          refine lv_iconst (v := 3) hx hb dX0_isAhead_110 kyi_3 ?_
          refine lv_idiv hx hb dX0_isAhead_111 (by decide) ?_
          refine lv_iload hx hb dX0_isAhead_112 (lv_at hl 2 rfl) ?_
          refine lv_iconst (v := 3) hx hb dX0_isAhead_114 kyi_3 ?_
          refine lv_idiv hx hb dX0_isAhead_115 (by decide) ?_
          have j126 : FX0_isAhead_j126 x_60 x_63 = some res → ∀ (H : Heap) (locs : List Loc) (ls : Array Slot), MH D vwA A s.heap (cW ad cA sA ta ba na gi rh rt g_sort g_size g_from g_to g_level g_full a_tape a_hAt a_hMany a_tAt a_tMany a_least a_place a_to a_order a_fails a_sKeys a_sRow a_sSlots a_bKeys a_bRow a_bSlots a_easy a_wants a_wantedBy a_ring a_carried a_latest v_taped v_faultKind v_faultPlace v_x v_ordered v_sought v_lastSought v_hMoved v_hWithout v_tMoved v_tWithout v_places v_elsewhere v_sMany v_bMany v_year y_lies a_rsort a_rmany a_nums pl) H locs → lv_has ls 7 [(3, .int x_60), (6, .int x_63)] → W p l e rm_X0_isAhead s m args below meth c H locs 0 0 Q (F0 m 126 ls []) := by
            intro hF H locs ls hH hl
            delta FX0_isAhead_j126 at hF
            refine lv_iload_n hx hb dX0_isAhead_126 rfl (lv_at hl 0 rfl) ?_
            refine lv_iconst (v := 3) hx hb dX0_isAhead_127 kyi_3 ?_
            refine lv_idiv hx hb dX0_isAhead_128 (by decide) ?_
            refine lv_iload hx hb dX0_isAhead_129 (lv_at hl 1 rfl) ?_
            refine lv_iconst (v := 3) hx hb dX0_isAhead_131 kyi_3 ?_
            refine lv_idiv hx hb dX0_isAhead_132 (by decide) ?_
            refine lv_icmp_ne (tgt := 140) hx hb dX0_isAhead_133 rfl (fun c_70 => ?_) (fun c_70 => ?_)
            · have hF := itn c_70 hF
              refine lv_iconst (v := 0) hx hb dX0_isAhead_140 kyi_0 ?_
              obtain rfl := Option.some.inj hF
              exact hret _ _ _ _ _ rfl hH dX0_isAhead_141
            · have hF := itp c_70 hF
              exact j136 hF _ _ _ hH (lv_sub hl [] rfl)
          refine lv_icmp_ne (tgt := 126) hx hb dX0_isAhead_116 rfl (fun c_68 => ?_) (fun c_68 => ?_)
          · have hF := itn c_68 hF
            exact j126 hF _ _ _ hH (lv_sub hl [0, 2] rfl)
          · have hF := itp c_68 hF
            refine lv_iload hx hb dX0_isAhead_119 (lv_at hl 1 rfl) ?_
            refine lv_iload hx hb dX0_isAhead_121 (lv_at hl 2 rfl) ?_
            refine lv_icmp_lt (tgt := 136) hx hb dX0_isAhead_123 rfl (fun c_69 => ?_) (fun c_69 => ?_)
            · have hF := itp c_69 hF
              exact j136 hF _ _ _ hH (lv_sub hl [] rfl)
            · have hF := itn c_69 hF
              exact j126 hF _ _ _ hH (lv_sub hl [0, 2] rfl)
        refine lv_icmp_ne (tgt := 108) hx hb dX0_isAhead_99 rfl (fun c_66 => ?_) (fun c_66 => ?_)
        · have hF := itn c_66 hF
          exact j108 hF _ _ _ hH (lv_sub hl [3, 1, 0] rfl)
        · have hF := itp c_66 hF
          refine lv_iload_n hx hb dX0_isAhead_102 rfl (lv_at hl 3 rfl) ?_
          refine lv_iload hx hb dX0_isAhead_103 (lv_at hl 2 rfl) ?_
          refine lv_icmp_gt (tgt := 136) hx hb dX0_isAhead_105 rfl (fun c_67 => ?_) (fun c_67 => ?_)
          · have hF := itp c_67 hF
            exact j136 hF _ _ _ hH (lv_sub hl [] rfl)
          · have hF := itn c_67 hF
            exact j108 hF _ _ _ hH (lv_sub hl [3, 1, 0] rfl)
      · have hF := itp c_64 hF
        refine lv_iload_n hx hb dX0_isAhead_76 rfl (lv_at hl 3 rfl) ?_
        refine lv_iconst (v := 3) hx hb dX0_isAhead_77 kyi_3 ?_
        refine lv_idiv hx hb dX0_isAhead_78 (by decide) ?_
        refine lv_iload hx hb dX0_isAhead_79 (lv_at hl 1 rfl) ?_
        refine lv_iconst (v := 3) hx hb dX0_isAhead_81 kyi_3 ?_
        refine lv_idiv hx hb dX0_isAhead_82 (by decide) ?_
        refine lv_icmp_ne (tgt := 90) hx hb dX0_isAhead_83 rfl (fun c_65 => ?_) (fun c_65 => ?_)
        · have hF := itn c_65 hF
          refine lv_iconst (v := 0) hx hb dX0_isAhead_90 kyi_0 ?_
          obtain rfl := Option.some.inj hF
          exact hret _ _ _ _ _ rfl hH dX0_isAhead_91
        · have hF := itp c_65 hF
          refine lv_iconst (v := 1) hx hb dX0_isAhead_86 kyi_1 ?_
          refine lv_goto (tgt := 91) hx hb dX0_isAhead_87 rfl ?_
          obtain rfl := Option.some.inj hF
          exact hret _ _ _ _ _ rfl hH dX0_isAhead_91
    · have hF := itp c_59 hF
      refine lv_iconst (v := 0) hx hb dX0_isAhead_22 kyi_0 ?_
      obtain rfl := Option.some.inj hF
      exact hret _ _ _ _ _ rfl hH dX0_isAhead_23
abbrev rm_X0_ahead : Room := { frames := 8, cells := 0, slots := 0, locals := 235 }
set_option maxHeartbeats 4000000 in
theorem met_X0_ahead {l : Launch} {D : va_G} {ad : Nat → Nat} {cA : Nat → ClassId} {sA ta ba na : Nat → Nat} {gi : Nat → Option Nat} {rh : Option Nat} {rt : Option Nat} {g_sort : Int32} {g_size : Int32} {g_from : Int32} {g_to : Int32} {g_level : Int32} {g_full : Int32} {a_tape : Nat → Int32} {a_hAt : Nat → Int32} {a_hMany : Nat → Int32} {a_tAt : Nat → Int32} {a_tMany : Nat → Int32} {a_least : Nat → Int32} {a_place : Nat → Int32} {a_to : Nat → Int32} {a_order : Nat → Int32} {a_fails : Nat → Int32} {a_sKeys : Nat → Int64} {a_sRow : Nat → Int64} {a_sSlots : Nat → Int32} {a_bKeys : Nat → Int64} {a_bRow : Nat → Int64} {a_bSlots : Nat → Int32} {a_easy : Nat → Int32} {a_wants : Nat → Int32} {a_wantedBy : Nat → Int32} {a_ring : Nat → Int32} {a_carried : Nat → Int32} {a_latest : Nat → Int32} {v_taped : Int32} {v_faultKind : Int32} {v_faultPlace : Int32} {v_x : Int32} {v_ordered : Int32} {v_sought : Int32} {v_lastSought : Int32} {v_hMoved : Int32} {v_hWithout : Int32} {v_tMoved : Int32} {v_tWithout : Int32} {v_places : Int32} {v_elsewhere : Int32} {v_sMany : Int32} {v_bMany : Int32} {v_year : Int32} {y_lies : Int64} {a_rsort : Nat → Int32} {a_rmany : Nat → Int32} {a_nums : Nat → Nat → Int64} {t : Nat → Int32} {nb : Int32} {bv : Nat → Int32 → Int32 → Int32 → Int32 → Int32 → Int32 → Bool} {pl : va_W}  {p1 : Int32} {p2 : Int32} {res : Int32} {ra_least : Nat → Int32} {ra_place : Nat → Int32} {ra_to : Nat → Int32} {rv_places : Int32} {rv_elsewhere : Int32} {E : EvT} (hE : EvN E) (hPO : PO cA pl ta ba t nb bv) (hF : FX0_ahead a_least a_place a_to v_places v_elsewhere y_lies t p1 p2 = some (res, ra_least, ra_place, ra_to, rv_places, rv_elsewhere)) : MX l yX0_ahead (ws_ yX0_ahead cX0_ahead 3 (Option.some Jvm.ClassFile.FieldType.int)) rm_X0_ahead D vwA (cT cA) E [.ref (ad 0), .int p1, .int p2] (cW ad cA sA ta ba na gi rh rt g_sort g_size g_from g_to g_level g_full a_tape a_hAt a_hMany a_tAt a_tMany a_least a_place a_to a_order a_fails a_sKeys a_sRow a_sSlots a_bKeys a_bRow a_bSlots a_easy a_wants a_wantedBy a_ring a_carried a_latest v_taped v_faultKind v_faultPlace v_x v_ordered v_sought v_lastSought v_hMoved v_hWithout v_tMoved v_tWithout v_places v_elsewhere v_sMany v_bMany v_year y_lies a_rsort a_rmany a_nums pl) (fun z => z = (cW ad cA sA ta ba na gi rh rt g_sort g_size g_from g_to g_level g_full a_tape a_hAt a_hMany a_tAt a_tMany ra_least ra_place ra_to a_order a_fails a_sKeys a_sRow a_sSlots a_bKeys a_bRow a_bSlots a_easy a_wants a_wantedBy a_ring a_carried a_latest v_taped v_faultKind v_faultPlace v_x v_ordered v_sought v_lastSought v_hMoved v_hWithout v_tMoved v_tWithout rv_places rv_elsewhere v_sMany v_bMany v_year y_lies a_rsort a_rmany a_nums pl)) (some (.int res)) := by
  refine MX.ofI (by decide) (Nat.le_of_ble_eq_true rfl) ?_
  intro p e s m args below meth c Q A hX hK hE0 hname hret H locs ls hH hl
  have hX : CallFix p m c cX0_ahead 3 s args lw_all RX0 := hX
  have hx := hX.1
  have hb := hX.2.1
  have hown := hX.2.2.2.1
  have hts := hX.2.2.2.2
  have hl : lv_has ls 3 [(0, .ref (ad 0)), (1, .int p1), (2, .int p2)] := hl
  have hEv := hE.1
  have hNW := hE.2.1 _ _ _ hE0
  have hT := hPO.1
  have hB := hPO.2
  delta FX0_ahead at hF
  refine lv_aload_n hx hb dX0_ahead_0 rfl (lv_at hl 0 rfl) ?_
  refine lv_iload_n hx hb dX0_ahead_1 rfl (lv_at hl 1 rfl) ?_
  obtain ⟨b_56, he, hF⟩ := bd1e hF
  refine mxV hX hK hEv hE0 hH (met_X0_isStone hE hPO he) (crecv hK hH 0 0 rfl rfl) gw_StoneYear_158 hd_yX0_isStone ⟨Nat.le_of_ble_eq_true rfl, Nat.le_of_ble_eq_true rfl⟩ rfl rfl hl (Nat.le_of_ble_eq_true rfl) dX0_ahead_2 ⟨Nat.le_of_ble_eq_true rfl, Nat.le_of_ble_eq_true rfl⟩ (fun w2 H locs hw hH => ?_)
  subst hw
  refine lv_if_eq (tgt := 16) hx hb dX0_ahead_5 rfl (fun c_57 => ?_) (fun c_57 => ?_)
  · have hF := itp c_57 hF
    refine lv_bipush (v := (-2)) hx hb dX0_ahead_16 kyb_m2 ?_
    obtain ⟨rfl, rfl, rfl, rfl, rfl, rfl⟩ := re6 hF
    exact hret _ _ _ _ _ rfl hH dX0_ahead_18
  · have hF := itn c_57 hF
    refine lv_aload_n hx hb dX0_ahead_8 rfl (lv_at hl 0 rfl) ?_
    refine lv_iload_n hx hb dX0_ahead_9 rfl (lv_at hl 2 rfl) ?_
    obtain ⟨b_58, he, hF⟩ := bd1e hF
    refine mxV hX hK hEv hE0 hH (met_X0_isStone hE hPO he) (crecv hK hH 0 0 rfl rfl) gw_StoneYear_158 hd_yX0_isStone ⟨Nat.le_of_ble_eq_true rfl, Nat.le_of_ble_eq_true rfl⟩ rfl rfl hl (Nat.le_of_ble_eq_true rfl) dX0_ahead_10 ⟨Nat.le_of_ble_eq_true rfl, Nat.le_of_ble_eq_true rfl⟩ (fun w2 H locs hw hH => ?_)
    subst hw
    refine lv_if_ne (tgt := 19) hx hb dX0_ahead_13 rfl (fun c_59 => ?_) (fun c_59 => ?_)
    · have hF := itn c_59 hF
      refine lv_aload_n hx hb dX0_ahead_19 rfl (lv_at hl 0 rfl) ?_
      refine cg_Y_this_match hX hK hNW hH dX0_ahead_20 ?_
      obtain ⟨a_least_60, a_place_61, a_to_62, v_places_63, v_elsewhere_64, he, hF⟩ := bd5e hF
      refine mxV hX hK hEv hE0 hH (met_X5_finds hE hPO he) (crecv hK hH 10 5 rfl rfl) gw_StoneYear_335 hd_yX5_finds ⟨Nat.le_of_ble_eq_true rfl, Nat.le_of_ble_eq_true rfl⟩ rfl rfl hl (Nat.le_of_ble_eq_true rfl) dX0_ahead_23 ⟨Nat.le_of_ble_eq_true rfl, Nat.le_of_ble_eq_true rfl⟩ (fun w2 H locs hw hH => ?_)
      subst hw
      refine lv_pop hx hb dX0_ahead_26 rfl ?_
      refine lv_aload_n hx hb dX0_ahead_27 rfl (lv_at hl 0 rfl) ?_
      refine lv_iload_n hx hb dX0_ahead_28 rfl (lv_at hl 1 rfl) ?_
      refine lv_iload_n hx hb dX0_ahead_29 rfl (lv_at hl 2 rfl) ?_
      obtain ⟨b_65, he, hF⟩ := bd1e hF
      refine mxV hX hK hEv hE0 hH (met_X0_isAhead hE hPO he) (crecv hK hH 0 0 rfl rfl) gw_StoneYear_372 hd_yX0_isAhead ⟨Nat.le_of_ble_eq_true rfl, Nat.le_of_ble_eq_true rfl⟩ rfl rfl hl (Nat.le_of_ble_eq_true rfl) dX0_ahead_30 ⟨Nat.le_of_ble_eq_true rfl, Nat.le_of_ble_eq_true rfl⟩ (fun w2 H locs hw hH => ?_)
      subst hw
      refine lv_if_eq (tgt := 40) hx hb dX0_ahead_33 rfl (fun c_66 => ?_) (fun c_66 => ?_)
      · have hF := itp c_66 hF
        refine lv_iconst (v := 0) hx hb dX0_ahead_40 kyi_0 ?_
        obtain ⟨rfl, rfl, rfl, rfl, rfl, rfl⟩ := re6 hF
        exact hret _ _ _ _ _ rfl hH dX0_ahead_41
      · have hF := itn c_66 hF
        refine lv_iconst (v := 1) hx hb dX0_ahead_36 kyi_1 ?_
        refine lv_goto (tgt := 41) hx hb dX0_ahead_37 rfl ?_
        obtain ⟨rfl, rfl, rfl, rfl, rfl, rfl⟩ := re6 hF
        exact hret _ _ _ _ _ rfl hH dX0_ahead_41
    · have hF := itp c_59 hF
      refine lv_bipush (v := (-2)) hx hb dX0_ahead_16 kyb_m2 ?_
      obtain ⟨rfl, rfl, rfl, rfl, rfl, rfl⟩ := re6 hF
      exact hret _ _ _ _ _ rfl hH dX0_ahead_18
abbrev rm_X0_isLoose : Room := { frames := 3, cells := 0, slots := 0, locals := 69 }
set_option maxHeartbeats 4000000 in
theorem met_X0_isLoose {l : Launch} {D : va_G} {ad : Nat → Nat} {cA : Nat → ClassId} {sA ta ba na : Nat → Nat} {gi : Nat → Option Nat} {rh : Option Nat} {rt : Option Nat} {g_sort : Int32} {g_size : Int32} {g_from : Int32} {g_to : Int32} {g_level : Int32} {g_full : Int32} {a_tape : Nat → Int32} {a_hAt : Nat → Int32} {a_hMany : Nat → Int32} {a_tAt : Nat → Int32} {a_tMany : Nat → Int32} {a_least : Nat → Int32} {a_place : Nat → Int32} {a_to : Nat → Int32} {a_order : Nat → Int32} {a_fails : Nat → Int32} {a_sKeys : Nat → Int64} {a_sRow : Nat → Int64} {a_sSlots : Nat → Int32} {a_bKeys : Nat → Int64} {a_bRow : Nat → Int64} {a_bSlots : Nat → Int32} {a_easy : Nat → Int32} {a_wants : Nat → Int32} {a_wantedBy : Nat → Int32} {a_ring : Nat → Int32} {a_carried : Nat → Int32} {a_latest : Nat → Int32} {v_taped : Int32} {v_faultKind : Int32} {v_faultPlace : Int32} {v_x : Int32} {v_ordered : Int32} {v_sought : Int32} {v_lastSought : Int32} {v_hMoved : Int32} {v_hWithout : Int32} {v_tMoved : Int32} {v_tWithout : Int32} {v_places : Int32} {v_elsewhere : Int32} {v_sMany : Int32} {v_bMany : Int32} {v_year : Int32} {y_lies : Int64} {a_rsort : Nat → Int32} {a_rmany : Nat → Int32} {a_nums : Nat → Nat → Int64} {t : Nat → Int32} {nb : Int32} {bv : Nat → Int32 → Int32 → Int32 → Int32 → Int32 → Int32 → Bool} {pl : va_W}  {p1 : Int32} {res : Bool} {E : EvT} (hE : EvN E) (hPO : PO cA pl ta ba t nb bv) (hF : FX0_isLoose a_to y_lies p1 = some res) : MX l yX0_isLoose (ws_ yX0_isLoose cX0_isLoose 7 (Option.some Jvm.ClassFile.FieldType.boolean)) rm_X0_isLoose D vwA (cT cA) E [.ref (ad 0), .int p1] (cW ad cA sA ta ba na gi rh rt g_sort g_size g_from g_to g_level g_full a_tape a_hAt a_hMany a_tAt a_tMany a_least a_place a_to a_order a_fails a_sKeys a_sRow a_sSlots a_bKeys a_bRow a_bSlots a_easy a_wants a_wantedBy a_ring a_carried a_latest v_taped v_faultKind v_faultPlace v_x v_ordered v_sought v_lastSought v_hMoved v_hWithout v_tMoved v_tWithout v_places v_elsewhere v_sMany v_bMany v_year y_lies a_rsort a_rmany a_nums pl) (fun z => z = (cW ad cA sA ta ba na gi rh rt g_sort g_size g_from g_to g_level g_full a_tape a_hAt a_hMany a_tAt a_tMany a_least a_place a_to a_order a_fails a_sKeys a_sRow a_sSlots a_bKeys a_bRow a_bSlots a_easy a_wants a_wantedBy a_ring a_carried a_latest v_taped v_faultKind v_faultPlace v_x v_ordered v_sought v_lastSought v_hMoved v_hWithout v_tMoved v_tWithout v_places v_elsewhere v_sMany v_bMany v_year y_lies a_rsort a_rmany a_nums pl)) (some (.int (b2i res))) := by
  refine MX.ofZ (by decide) (Nat.le_of_ble_eq_true rfl) ?_
  intro p e s m args below meth c Q A hX hK hE0 hname hret H locs ls hH hl
  have hX : CallFix p m c cX0_isLoose 7 s args lw_all RX0 := hX
  have hx := hX.1
  have hb := hX.2.1
  have hown := hX.2.2.2.1
  have hts := hX.2.2.2.2
  have hl : lv_has ls 7 [(0, .ref (ad 0)), (1, .int p1)] := hl
  have hEv := hE.1
  have hNW := hE.2.1 _ _ _ hE0
  have hT := hPO.1
  have hB := hPO.2
  delta FX0_isLoose at hF
  refine lv_iload_n hx hb dX0_isLoose_0 rfl (lv_at hl 1 rfl) ?_
  refine lv_istore_n (lv' := [(2, .int p1), (0, .ref (ad 0)), (1, .int p1)]) hx hb dX0_isLoose_1 rfl hl (by decide) rfl (fun ls hl => ?_)
  refine lv_iconst (v := 1) hx hb dX0_isLoose_2 kyi_1 ?_
  refine lv_istore_n (lv' := [(3, .int 1), (2, .int p1), (0, .ref (ad 0)), (1, .int p1)]) hx hb dX0_isLoose_3 rfl hl (by decide) rfl (fun ls hl => ?_)
  obtain ⟨xx4, ee4, kk4_0⟩ := bd1L hF
  have k4_0 : ∀ (x_163 : Int32), xx4 = x_163 → ∀ (H : Heap) (locs : List Loc) (ls : Array Slot), MH D vwA A s.heap (cW ad cA sA ta ba na gi rh rt g_sort g_size g_from g_to g_level g_full a_tape a_hAt a_hMany a_tAt a_tMany a_least a_place a_to a_order a_fails a_sKeys a_sRow a_sSlots a_bKeys a_bRow a_bSlots a_easy a_wants a_wantedBy a_ring a_carried a_latest v_taped v_faultKind v_faultPlace v_x v_ordered v_sought v_lastSought v_hMoved v_hWithout v_tMoved v_tWithout v_places v_elsewhere v_sMany v_bMany v_year y_lies a_rsort a_rmany a_nums pl) H locs → lv_has ls 7 [(2, .int x_163)] → W p l e rm_X0_isLoose s m args below meth c H locs 0 0 Q (F0 m 115 ls []) := by
    intro x_163 hxx H locs ls hH hl
    have hF := un1e (kk4_0 x_163 hxx)
    refine lv_iload_n hx hb dX0_isLoose_115 rfl (lv_at hl 0 rfl) ?_
    refine lv_if_ne (tgt := 123) hx hb dX0_isLoose_116 rfl (fun c_164 => ?_) (fun c_164 => ?_)
    · have hF := itn c_164 hF
      refine lv_iconst (v := 0) hx hb dX0_isLoose_123 kyi_0 ?_
      obtain rfl := Option.some.inj hF
      exact hret _ _ _ _ _ rfl hH dX0_isLoose_124
    · have hF := itp c_164 hF
      refine lv_iconst (v := 1) hx hb dX0_isLoose_119 kyi_1 ?_
      refine lv_goto (tgt := 124) hx hb dX0_isLoose_120 rfl ?_
      obtain rfl := Option.some.inj hF
      exact hret _ _ _ _ _ rfl hH dX0_isLoose_124
  obtain ⟨nn4, en4⟩ := loopC_some ee4
  have l4 : ∀ (n : Nat) (x_108 : Int32) (x_109 : Int32), loopN (fun s => FX0_isLoose_b4 a_to y_lies s.1 s.2) n (x_108, x_109) = some xx4 → ∀ (H : Heap) (locs : List Loc) (ls : Array Slot), MH D vwA A s.heap (cW ad cA sA ta ba na gi rh rt g_sort g_size g_from g_to g_level g_full a_tape a_hAt a_hMany a_tAt a_tMany a_least a_place a_to a_order a_fails a_sKeys a_sRow a_sSlots a_bKeys a_bRow a_bSlots a_easy a_wants a_wantedBy a_ring a_carried a_latest v_taped v_faultKind v_faultPlace v_x v_ordered v_sought v_lastSought v_hMoved v_hWithout v_tMoved v_tWithout v_places v_elsewhere v_sMany v_bMany v_year y_lies a_rsort a_rmany a_nums pl) H locs → lv_has ls 7 [(0, .ref (ad 0)), (2, .int x_108), (3, .int x_109)] → W p l e rm_X0_isLoose s m args below meth c H locs 0 0 Q (F0 m 4 ls []) := by
    intro n
    induction n with
    | zero =>
      intro x_108 x_109 hN
      exact absurd hN loopN_zero
    | succ n ih =>
      intro x_108 x_109 hN H locs ls hH hl
      obtain ⟨yy4, hB4, hY4⟩ := loopN_succ hN
      have hF : FX0_isLoose_b4 a_to y_lies x_108 x_109 = some yy4 := hB4
      delta FX0_isLoose_b4 at hF
      refine lv_iload_n hx hb dX0_isLoose_4 rfl (lv_at hl 1 rfl) ?_
      refine lv_if_eq (tgt := 115) hx hb dX0_isLoose_5 rfl (fun c_110 => ?_) (fun c_110 => ?_)
      · have hF := itp c_110 hF
        obtain rfl := Option.some.inj hF
        exact k4_0 x_108 hY4 _ _ _ hH (lv_sub hl [1] rfl)
      · have hF := itn c_110 hF
        refine lv_iload_n hx hb dX0_isLoose_8 rfl (lv_at hl 2 rfl) ?_
        refine lv_if_eq (tgt := 115) hx hb dX0_isLoose_9 rfl (fun c_111 => ?_) (fun c_111 => ?_)
        · have hF := itp c_111 hF
          obtain rfl := Option.some.inj hF
          exact k4_0 x_108 hY4 _ _ _ hH (lv_sub hl [1] rfl)
        · have hF := itn c_111 hF
          refine lv_iconst (v := 0) hx hb dX0_isLoose_12 kyi_0 ?_
          refine lv_istore_n (lv' := [(3, .int 0), (0, .ref (ad 0)), (2, .int x_108)]) hx hb dX0_isLoose_13 rfl hl (by decide) rfl (fun ls hl => ?_)
          refine lv_iconst (v := 0) hx hb dX0_isLoose_14 kyi_0 ?_
          refine lv_istore (lv' := [(4, .int 0), (3, .int 0), (0, .ref (ad 0)), (2, .int x_108)]) hx hb dX0_isLoose_15 hl (by decide) rfl (fun ls hl => ?_)
          obtain ⟨xx17, ee17, kk17_0⟩ := bd2L hF
          have k17_0 : ∀ (x_161 : Int32) (x_162 : Int32), xx17 = (x_161, x_162) → ∀ (H : Heap) (locs : List Loc) (ls : Array Slot), MH D vwA A s.heap (cW ad cA sA ta ba na gi rh rt g_sort g_size g_from g_to g_level g_full a_tape a_hAt a_hMany a_tAt a_tMany a_least a_place a_to a_order a_fails a_sKeys a_sRow a_sSlots a_bKeys a_bRow a_bSlots a_easy a_wants a_wantedBy a_ring a_carried a_latest v_taped v_faultKind v_faultPlace v_x v_ordered v_sought v_lastSought v_hMoved v_hWithout v_tMoved v_tWithout v_places v_elsewhere v_sMany v_bMany v_year y_lies a_rsort a_rmany a_nums pl) H locs → lv_has ls 7 [(0, .ref (ad 0)), (2, .int x_161), (3, .int x_162)] → W p l e rm_X0_isLoose s m args below meth c H locs 0 0 Q (F0 m 112 ls []) := by
            intro x_161 x_162 hxx H locs ls hH hl
            have hF := un2e (kk17_0 (x_161, x_162) hxx)
            refine lv_goto (tgt := 4) hx hb dX0_isLoose_112 rfl ?_
            obtain rfl := Option.some.inj hF
            exact ih x_161 x_162 hY4 _ _ _ hH (lv_sub hl [0, 1, 2] rfl)
          obtain ⟨nn17, en17⟩ := loopC_some ee17
          have l17 : ∀ (n : Nat) (x_135 : Int32) (x_136 : Int32) (x_137 : Int32), loopN (fun s => FX0_isLoose_b17 a_to y_lies s.1 s.2.1 s.2.2) n (x_135, x_136, x_137) = some xx17 → ∀ (H : Heap) (locs : List Loc) (ls : Array Slot), MH D vwA A s.heap (cW ad cA sA ta ba na gi rh rt g_sort g_size g_from g_to g_level g_full a_tape a_hAt a_hMany a_tAt a_tMany a_least a_place a_to a_order a_fails a_sKeys a_sRow a_sSlots a_bKeys a_bRow a_bSlots a_easy a_wants a_wantedBy a_ring a_carried a_latest v_taped v_faultKind v_faultPlace v_x v_ordered v_sought v_lastSought v_hMoved v_hWithout v_tMoved v_tWithout v_places v_elsewhere v_sMany v_bMany v_year y_lies a_rsort a_rmany a_nums pl) H locs → lv_has ls 7 [(0, .ref (ad 0)), (2, .int x_135), (3, .int x_136), (4, .int x_137)] → W p l e rm_X0_isLoose s m args below meth c H locs 0 0 Q (F0 m 17 ls []) := by
            intro n
            induction n with
            | zero =>
              intro x_135 x_136 x_137 hN
              exact absurd hN loopN_zero
            | succ n ih =>
              intro x_135 x_136 x_137 hN H locs ls hH hl
              obtain ⟨yy17, hB17, hY17⟩ := loopN_succ hN
              have hF : FX0_isLoose_b17 a_to y_lies x_135 x_136 x_137 = some yy17 := hB17
              delta FX0_isLoose_b17 at hF
              refine lv_iload hx hb dX0_isLoose_17 (lv_at hl 3 rfl) ?_
              refine lv_bipush (v := 8) hx hb dX0_isLoose_19 kyb_8 ?_
              refine lv_icmp_ge (tgt := 112) hx hb dX0_isLoose_21 rfl (fun c_138 => ?_) (fun c_138 => ?_)
              · have hF := itp c_138 hF
                obtain rfl := Option.some.inj hF
                exact k17_0 x_135 x_136 hY17 _ _ _ hH (lv_sub hl [0, 1, 2] rfl)
              · have hF := itn c_138 hF
                refine lv_iload_n hx hb dX0_isLoose_24 rfl (lv_at hl 1 rfl) ?_
                refine lv_iload hx hb dX0_isLoose_25 (lv_at hl 3 rfl) ?_
                obtain ⟨b_139, he, hF⟩ := bd1e hF
                refine mxS hX hK hEv hE0 hH (met_X0_has hE hPO he) gw_StoneYear_345 hd_yX0_has ⟨Nat.le_of_ble_eq_true rfl, Nat.le_of_ble_eq_true rfl⟩ rfl rfl hl (Nat.le_of_ble_eq_true rfl) dX0_isLoose_27 ⟨Nat.le_of_ble_eq_true rfl, Nat.le_of_ble_eq_true rfl⟩ (fun w2 H locs hw hH => ?_)
                subst hw
                have j106 : ∀ (x_159 : Int32) (x_160 : Int32), FX0_isLoose_j106 x_137 x_159 x_160 = some yy17 → ∀ (H : Heap) (locs : List Loc) (ls : Array Slot), MH D vwA A s.heap (cW ad cA sA ta ba na gi rh rt g_sort g_size g_from g_to g_level g_full a_tape a_hAt a_hMany a_tAt a_tMany a_least a_place a_to a_order a_fails a_sKeys a_sRow a_sSlots a_bKeys a_bRow a_bSlots a_easy a_wants a_wantedBy a_ring a_carried a_latest v_taped v_faultKind v_faultPlace v_x v_ordered v_sought v_lastSought v_hMoved v_hWithout v_tMoved v_tWithout v_places v_elsewhere v_sMany v_bMany v_year y_lies a_rsort a_rmany a_nums pl) H locs → lv_has ls 7 [(0, .ref (ad 0)), (2, .int x_159), (3, .int x_160), (4, .int x_137)] → W p l e rm_X0_isLoose s m args below meth c H locs 0 0 Q (F0 m 106 ls []) := by
                  intro x_159 x_160 hF H locs ls hH hl
                  delta FX0_isLoose_j106 at hF
                  refine lv_iinc (v := (x_137 + 1)) (lv' := [(4, .int (x_137 + 1)), (0, .ref (ad 0)), (2, .int x_159), (3, .int x_160)]) hx hb dX0_isLoose_106 hl (k := 3) rfl (syc kyi_1) (by decide) rfl (fun ls hl => ?_)
                  refine lv_goto (tgt := 17) hx hb dX0_isLoose_109 rfl ?_
                  obtain rfl := Option.some.inj hF
                  exact ih x_159 x_160 (x_137 + 1) hY17 _ _ _ hH (lv_sub hl [1, 2, 3, 0] rfl)
                refine lv_if_ne (tgt := 36) hx hb dX0_isLoose_30 rfl (fun c_140 => ?_) (fun c_140 => ?_)
                · have hF := itn c_140 hF
                  refine lv_iconst (v := 0) hx hb dX0_isLoose_36 kyi_0 ?_
                  refine lv_istore (lv' := [(5, .int 0), (0, .ref (ad 0)), (2, .int x_135), (3, .int x_136), (4, .int x_137)]) hx hb dX0_isLoose_37 hl (by decide) rfl (fun ls hl => ?_)
                  refine lv_iconst (v := 0) hx hb dX0_isLoose_39 kyi_0 ?_
                  refine lv_istore (lv' := [(6, .int 0), (5, .int 0), (0, .ref (ad 0)), (2, .int x_135), (3, .int x_136), (4, .int x_137)]) hx hb dX0_isLoose_40 hl (by decide) rfl (fun ls hl => ?_)
                  obtain ⟨xx42, ee42, kk42_0⟩ := bd1L hF
                  have k42_0 : ∀ (x_157 : Int32), xx42 = x_157 → ∀ (H : Heap) (locs : List Loc) (ls : Array Slot), MH D vwA A s.heap (cW ad cA sA ta ba na gi rh rt g_sort g_size g_from g_to g_level g_full a_tape a_hAt a_hMany a_tAt a_tMany a_least a_place a_to a_order a_fails a_sKeys a_sRow a_sSlots a_bKeys a_bRow a_bSlots a_easy a_wants a_wantedBy a_ring a_carried a_latest v_taped v_faultKind v_faultPlace v_x v_ordered v_sought v_lastSought v_hMoved v_hWithout v_tMoved v_tWithout v_places v_elsewhere v_sMany v_bMany v_year y_lies a_rsort a_rmany a_nums pl) H locs → lv_has ls 7 [(0, .ref (ad 0)), (2, .int x_135), (3, .int x_136), (4, .int x_137), (5, .int x_157)] → W p l e rm_X0_isLoose s m args below meth c H locs 0 0 Q (F0 m 87 ls []) := by
                    intro x_157 hxx H locs ls hH hl
                    have hF := un1e (kk42_0 x_157 hxx)
                    refine lv_iload hx hb dX0_isLoose_87 (lv_at hl 4 rfl) ?_
                    refine lv_if_eq (tgt := 95) hx hb dX0_isLoose_89 rfl (fun c_158 => ?_) (fun c_158 => ?_)
                    · have hF := itp c_158 hF
                      refine lv_iload_n hx hb dX0_isLoose_95 rfl (lv_at hl 1 rfl) ?_
                      refine lv_iconst (v := 1) hx hb dX0_isLoose_96 kyi_1 ?_
                      refine lv_iload hx hb dX0_isLoose_97 (lv_at hl 3 rfl) ?_
                      refine lv_ishl hx hb dX0_isLoose_99 ?_
                      refine lv_iconst (v := (-1)) hx hb dX0_isLoose_100 kyi_m1 ?_
                      refine lv_ixor hx hb dX0_isLoose_101 ?_
                      refine lv_iand hx hb dX0_isLoose_102 ?_
                      refine lv_istore_n (lv' := [(2, .int (x_135 &&& (((1 : Int32) <<< (x_137 &&& 31)) ^^^ (-1)))), (0, .ref (ad 0)), (3, .int x_136), (4, .int x_137), (5, .int x_157)]) hx hb dX0_isLoose_103 rfl hl (by decide) rfl (fun ls hl => ?_)
                      refine lv_iconst (v := 1) hx hb dX0_isLoose_104 kyi_1 ?_
                      refine lv_istore_n (lv' := [(3, .int 1), (2, .int (x_135 &&& (((1 : Int32) <<< (x_137 &&& 31)) ^^^ (-1)))), (0, .ref (ad 0)), (4, .int x_137), (5, .int x_157)]) hx hb dX0_isLoose_105 rfl hl (by decide) rfl (fun ls hl => ?_)
                      exact j106 (x_135 &&& (((1 : Int32) <<< (x_137 &&& 31)) ^^^ (-1))) 1 hF _ _ _ hH (lv_sub hl [2, 1, 0, 3] rfl)
                    · have hF := itn c_158 hF
                      refine lv_goto (tgt := 106) hx hb dX0_isLoose_92 rfl ?_
                      exact j106 x_135 x_136 hF _ _ _ hH (lv_sub hl [0, 1, 2, 3] rfl)
                  obtain ⟨nn42, en42⟩ := loopC_some ee42
                  have l42 : ∀ (n : Nat) (x_148 : Int32) (x_149 : Int32), loopN (fun s => FX0_isLoose_b42 a_to y_lies x_135 x_137 s.1 s.2) n (x_148, x_149) = some xx42 → ∀ (H : Heap) (locs : List Loc) (ls : Array Slot), MH D vwA A s.heap (cW ad cA sA ta ba na gi rh rt g_sort g_size g_from g_to g_level g_full a_tape a_hAt a_hMany a_tAt a_tMany a_least a_place a_to a_order a_fails a_sKeys a_sRow a_sSlots a_bKeys a_bRow a_bSlots a_easy a_wants a_wantedBy a_ring a_carried a_latest v_taped v_faultKind v_faultPlace v_x v_ordered v_sought v_lastSought v_hMoved v_hWithout v_tMoved v_tWithout v_places v_elsewhere v_sMany v_bMany v_year y_lies a_rsort a_rmany a_nums pl) H locs → lv_has ls 7 [(0, .ref (ad 0)), (2, .int x_135), (3, .int x_136), (4, .int x_137), (5, .int x_148), (6, .int x_149)] → W p l e rm_X0_isLoose s m args below meth c H locs 0 0 Q (F0 m 42 ls []) := by
                    intro n
                    induction n with
                    | zero =>
                      intro x_148 x_149 hN
                      exact absurd hN loopN_zero
                    | succ n ih =>
                      intro x_148 x_149 hN H locs ls hH hl
                      obtain ⟨yy42, hB42, hY42⟩ := loopN_succ hN
                      have hF : FX0_isLoose_b42 a_to y_lies x_135 x_137 x_148 x_149 = some yy42 := hB42
                      delta FX0_isLoose_b42 at hF
                      refine lv_iload hx hb dX0_isLoose_42 (lv_at hl 5 rfl) ?_
                      refine lv_bipush (v := 8) hx hb dX0_isLoose_44 kyb_8 ?_
                      refine lv_icmp_ge (tgt := 87) hx hb dX0_isLoose_46 rfl (fun c_150 => ?_) (fun c_150 => ?_)
                      · have hF := itp c_150 hF
                        obtain rfl := Option.some.inj hF
                        exact k42_0 x_148 hY42 _ _ _ hH (lv_sub hl [0, 1, 2, 3, 4] rfl)
                      · have hF := itn c_150 hF
                        refine lv_iload hx hb dX0_isLoose_49 (lv_at hl 4 rfl) ?_
                        have j79 : ∀ (x_156 : Int32), FX0_isLoose_j79 x_149 x_156 = some yy42 → ∀ (H : Heap) (locs : List Loc) (ls : Array Slot), MH D vwA A s.heap (cW ad cA sA ta ba na gi rh rt g_sort g_size g_from g_to g_level g_full a_tape a_hAt a_hMany a_tAt a_tMany a_least a_place a_to a_order a_fails a_sKeys a_sRow a_sSlots a_bKeys a_bRow a_bSlots a_easy a_wants a_wantedBy a_ring a_carried a_latest v_taped v_faultKind v_faultPlace v_x v_ordered v_sought v_lastSought v_hMoved v_hWithout v_tMoved v_tWithout v_places v_elsewhere v_sMany v_bMany v_year y_lies a_rsort a_rmany a_nums pl) H locs → lv_has ls 7 [(0, .ref (ad 0)), (2, .int x_135), (3, .int x_136), (4, .int x_137), (6, .int x_149)] → W p l e rm_X0_isLoose s m args below meth c H locs 0 0 Q (F0 m 79 ls [.int x_156]) := by
                          intro x_156 hF H locs ls hH hl
                          delta FX0_isLoose_j79 at hF
                          refine lv_istore (lv' := [(5, .int x_156), (0, .ref (ad 0)), (2, .int x_135), (3, .int x_136), (4, .int x_137), (6, .int x_149)]) hx hb dX0_isLoose_79 hl (by decide) rfl (fun ls hl => ?_)
                          refine lv_iinc (v := (x_149 + 1)) (lv' := [(6, .int (x_149 + 1)), (5, .int x_156), (0, .ref (ad 0)), (2, .int x_135), (3, .int x_136), (4, .int x_137)]) hx hb dX0_isLoose_81 hl (k := 5) rfl (syc kyi_1) (by decide) rfl (fun ls hl => ?_)
                          refine lv_goto (tgt := 42) hx hb dX0_isLoose_84 rfl ?_
                          obtain rfl := Option.some.inj hF
                          exact ih x_156 (x_149 + 1) hY42 _ _ _ hH (lv_sub hl [2, 3, 4, 5, 1, 0] rfl)
                        have j74 : FX0_isLoose_j74 x_149 = some yy42 → ∀ (H : Heap) (locs : List Loc) (ls : Array Slot), MH D vwA A s.heap (cW ad cA sA ta ba na gi rh rt g_sort g_size g_from g_to g_level g_full a_tape a_hAt a_hMany a_tAt a_tMany a_least a_place a_to a_order a_fails a_sKeys a_sRow a_sSlots a_bKeys a_bRow a_bSlots a_easy a_wants a_wantedBy a_ring a_carried a_latest v_taped v_faultKind v_faultPlace v_x v_ordered v_sought v_lastSought v_hMoved v_hWithout v_tMoved v_tWithout v_places v_elsewhere v_sMany v_bMany v_year y_lies a_rsort a_rmany a_nums pl) H locs → lv_has ls 7 [(0, .ref (ad 0)), (2, .int x_135), (3, .int x_136), (4, .int x_137), (6, .int x_149)] → W p l e rm_X0_isLoose s m args below meth c H locs 0 0 Q (F0 m 74 ls []) := by
                          intro hF H locs ls hH hl
                          delta FX0_isLoose_j74 at hF
                          refine lv_iconst (v := 1) hx hb dX0_isLoose_74 kyi_1 ?_
                          refine lv_goto (tgt := 79) hx hb dX0_isLoose_75 rfl ?_
                          exact j79 1 hF _ _ _ hH (lv_sub hl [0, 1, 2, 3, 4] rfl)
                        refine lv_if_ne (tgt := 74) hx hb dX0_isLoose_51 rfl (fun c_151 => ?_) (fun c_151 => ?_)
                        · have hF := itn c_151 hF
                          exact j74 hF _ _ _ hH (lv_sub hl [0, 1, 2, 3, 5] rfl)
                        · have hF := itp c_151 hF
                          refine lv_iload_n hx hb dX0_isLoose_54 rfl (lv_at hl 1 rfl) ?_
                          refine lv_iload hx hb dX0_isLoose_55 (lv_at hl 5 rfl) ?_
                          obtain ⟨b_152, he, hF⟩ := bd1e hF
                          refine mxS hX hK hEv hE0 hH (met_X0_has hE hPO he) gw_StoneYear_345 hd_yX0_has ⟨Nat.le_of_ble_eq_true rfl, Nat.le_of_ble_eq_true rfl⟩ rfl rfl hl (Nat.le_of_ble_eq_true rfl) dX0_isLoose_57 ⟨Nat.le_of_ble_eq_true rfl, Nat.le_of_ble_eq_true rfl⟩ (fun w2 H locs hw hH => ?_)
                          subst hw
                          have j78 : FX0_isLoose_j78 x_149 = some yy42 → ∀ (H : Heap) (locs : List Loc) (ls : Array Slot), MH D vwA A s.heap (cW ad cA sA ta ba na gi rh rt g_sort g_size g_from g_to g_level g_full a_tape a_hAt a_hMany a_tAt a_tMany a_least a_place a_to a_order a_fails a_sKeys a_sRow a_sSlots a_bKeys a_bRow a_bSlots a_easy a_wants a_wantedBy a_ring a_carried a_latest v_taped v_faultKind v_faultPlace v_x v_ordered v_sought v_lastSought v_hMoved v_hWithout v_tMoved v_tWithout v_places v_elsewhere v_sMany v_bMany v_year y_lies a_rsort a_rmany a_nums pl) H locs → lv_has ls 7 [(0, .ref (ad 0)), (2, .int x_135), (3, .int x_136), (4, .int x_137), (6, .int x_149)] → W p l e rm_X0_isLoose s m args below meth c H locs 0 0 Q (F0 m 78 ls []) := by
                            intro hF H locs ls hH hl
                            delta FX0_isLoose_j78 at hF
                            refine lv_iconst (v := 0) hx hb dX0_isLoose_78 kyi_0 ?_
                            exact j79 0 hF _ _ _ hH (lv_sub hl [0, 1, 2, 3, 4] rfl)
                          refine lv_if_eq (tgt := 78) hx hb dX0_isLoose_60 rfl (fun c_153 => ?_) (fun c_153 => ?_)
                          · have hF := itp c_153 hF
                            exact j78 hF _ _ _ hH (lv_sub hl [0, 1, 2, 3, 5] rfl)
                          · have hF := itn c_153 hF
                            refine lv_aload_n hx hb dX0_isLoose_63 rfl (lv_at hl 0 rfl) ?_
                            refine lv_iload hx hb dX0_isLoose_64 (lv_at hl 5 rfl) ?_
                            refine lv_iload hx hb dX0_isLoose_66 (lv_at hl 3 rfl) ?_
                            obtain ⟨b_154, he, hF⟩ := bd1e hF
                            refine mxV hX hK hEv hE0 hH (met_X0_isAhead hE hPO he) (crecv hK hH 0 0 rfl rfl) gw_StoneYear_372 hd_yX0_isAhead ⟨Nat.le_of_ble_eq_true rfl, Nat.le_of_ble_eq_true rfl⟩ rfl rfl hl (Nat.le_of_ble_eq_true rfl) dX0_isLoose_68 ⟨Nat.le_of_ble_eq_true rfl, Nat.le_of_ble_eq_true rfl⟩ (fun w2 H locs hw hH => ?_)
                            subst hw
                            refine lv_if_eq (tgt := 78) hx hb dX0_isLoose_71 rfl (fun c_155 => ?_) (fun c_155 => ?_)
                            · have hF := itp c_155 hF
                              exact j78 hF _ _ _ hH (lv_sub hl [0, 1, 2, 3, 5] rfl)
                            · have hF := itn c_155 hF
                              exact j74 hF _ _ _ hH (lv_sub hl [0, 1, 2, 3, 5] rfl)
                  exact l42 nn42 0 0 en42 _ _ _ hH (lv_sub hl [2, 3, 4, 5, 1, 0] rfl)
                · have hF := itp c_140 hF
                  refine lv_goto (tgt := 106) hx hb dX0_isLoose_33 rfl ?_
                  exact j106 x_135 x_136 hF _ _ _ hH (lv_sub hl [0, 1, 2, 3] rfl)
          exact l17 nn17 x_108 0 0 en17 _ _ _ hH (lv_sub hl [2, 3, 1, 0] rfl)
  exact l4 nn4 p1 1 en4 _ _ _ hH (lv_sub hl [2, 1, 0] rfl)
abbrev rm_X0_aside : Room := { frames := 8, cells := 0, slots := 0, locals := 235 }
set_option maxHeartbeats 4000000 in
theorem met_X0_aside {l : Launch} {D : va_G} {ad : Nat → Nat} {cA : Nat → ClassId} {sA ta ba na : Nat → Nat} {gi : Nat → Option Nat} {rh : Option Nat} {rt : Option Nat} {g_sort : Int32} {g_size : Int32} {g_from : Int32} {g_to : Int32} {g_level : Int32} {g_full : Int32} {a_tape : Nat → Int32} {a_hAt : Nat → Int32} {a_hMany : Nat → Int32} {a_tAt : Nat → Int32} {a_tMany : Nat → Int32} {a_least : Nat → Int32} {a_place : Nat → Int32} {a_to : Nat → Int32} {a_order : Nat → Int32} {a_fails : Nat → Int32} {a_sKeys : Nat → Int64} {a_sRow : Nat → Int64} {a_sSlots : Nat → Int32} {a_bKeys : Nat → Int64} {a_bRow : Nat → Int64} {a_bSlots : Nat → Int32} {a_easy : Nat → Int32} {a_wants : Nat → Int32} {a_wantedBy : Nat → Int32} {a_ring : Nat → Int32} {a_carried : Nat → Int32} {a_latest : Nat → Int32} {v_taped : Int32} {v_faultKind : Int32} {v_faultPlace : Int32} {v_x : Int32} {v_ordered : Int32} {v_sought : Int32} {v_lastSought : Int32} {v_hMoved : Int32} {v_hWithout : Int32} {v_tMoved : Int32} {v_tWithout : Int32} {v_places : Int32} {v_elsewhere : Int32} {v_sMany : Int32} {v_bMany : Int32} {v_year : Int32} {y_lies : Int64} {a_rsort : Nat → Int32} {a_rmany : Nat → Int32} {a_nums : Nat → Nat → Int64} {t : Nat → Int32} {nb : Int32} {bv : Nat → Int32 → Int32 → Int32 → Int32 → Int32 → Int32 → Bool} {pl : va_W}  {p1 : Int32} {res : Int32} {ra_least : Nat → Int32} {ra_place : Nat → Int32} {ra_to : Nat → Int32} {rv_places : Int32} {rv_elsewhere : Int32} {E : EvT} (hE : EvN E) (hPO : PO cA pl ta ba t nb bv) (hF : FX0_aside a_least a_place a_to v_places v_elsewhere y_lies t p1 = some (res, ra_least, ra_place, ra_to, rv_places, rv_elsewhere)) : MX l yX0_aside (ws_ yX0_aside cX0_aside 5 (Option.some Jvm.ClassFile.FieldType.int)) rm_X0_aside D vwA (cT cA) E [.ref (ad 0), .int p1] (cW ad cA sA ta ba na gi rh rt g_sort g_size g_from g_to g_level g_full a_tape a_hAt a_hMany a_tAt a_tMany a_least a_place a_to a_order a_fails a_sKeys a_sRow a_sSlots a_bKeys a_bRow a_bSlots a_easy a_wants a_wantedBy a_ring a_carried a_latest v_taped v_faultKind v_faultPlace v_x v_ordered v_sought v_lastSought v_hMoved v_hWithout v_tMoved v_tWithout v_places v_elsewhere v_sMany v_bMany v_year y_lies a_rsort a_rmany a_nums pl) (fun z => z = (cW ad cA sA ta ba na gi rh rt g_sort g_size g_from g_to g_level g_full a_tape a_hAt a_hMany a_tAt a_tMany ra_least ra_place ra_to a_order a_fails a_sKeys a_sRow a_sSlots a_bKeys a_bRow a_bSlots a_easy a_wants a_wantedBy a_ring a_carried a_latest v_taped v_faultKind v_faultPlace v_x v_ordered v_sought v_lastSought v_hMoved v_hWithout v_tMoved v_tWithout rv_places rv_elsewhere v_sMany v_bMany v_year y_lies a_rsort a_rmany a_nums pl)) (some (.int res)) := by
  refine MX.ofI (by decide) (Nat.le_of_ble_eq_true rfl) ?_
  intro p e s m args below meth c Q A hX hK hE0 hname hret H locs ls hH hl
  have hX : CallFix p m c cX0_aside 5 s args lw_all RX0 := hX
  have hx := hX.1
  have hb := hX.2.1
  have hown := hX.2.2.2.1
  have hts := hX.2.2.2.2
  have hl : lv_has ls 5 [(0, .ref (ad 0)), (1, .int p1)] := hl
  have hEv := hE.1
  have hNW := hE.2.1 _ _ _ hE0
  have hT := hPO.1
  have hB := hPO.2
  delta FX0_aside at hF
  refine lv_iload_n hx hb dX0_aside_0 rfl (lv_at hl 1 rfl) ?_
  refine lv_i2l (v := (Int32.toInt64 p1)) hx hb dX0_aside_1 rfl ?_
  refine lv_lconst (v := 0) hx hb dX0_aside_2 rfl ?_
  refine lv_lconst (v := 1) hx hb dX0_aside_3 rfl ?_
  obtain ⟨b_55, he, hF⟩ := bd1e hF
  refine mxS hX hK hEv hE0 hH (met_X0_in hE hPO he) gw_StoneYear_106 hd_yX0_in ⟨Nat.le_of_ble_eq_true rfl, Nat.le_of_ble_eq_true rfl⟩ rfl rfl hl (Nat.le_of_ble_eq_true rfl) dX0_aside_4 ⟨Nat.le_of_ble_eq_true rfl, Nat.le_of_ble_eq_true rfl⟩ (fun w2 H locs hw hH => ?_)
  subst hw
  refine lv_if_ne (tgt := 13) hx hb dX0_aside_7 rfl (fun c_56 => ?_) (fun c_56 => ?_)
  · have hF := itn c_56 hF
    refine lv_aload_n hx hb dX0_aside_13 rfl (lv_at hl 0 rfl) ?_
    refine cg_Y_this_match hX hK hNW hH dX0_aside_14 ?_
    obtain ⟨a_least_57, a_place_58, a_to_59, v_places_60, v_elsewhere_61, he, hF⟩ := bd5e hF
    refine mxV hX hK hEv hE0 hH (met_X5_finds hE hPO he) (crecv hK hH 10 5 rfl rfl) gw_StoneYear_335 hd_yX5_finds ⟨Nat.le_of_ble_eq_true rfl, Nat.le_of_ble_eq_true rfl⟩ rfl rfl hl (Nat.le_of_ble_eq_true rfl) dX0_aside_17 ⟨Nat.le_of_ble_eq_true rfl, Nat.le_of_ble_eq_true rfl⟩ (fun w2 H locs hw hH => ?_)
    subst hw
    obtain ⟨x_62, he, hF⟩ := bd1e hF
    refine mxV hX hK hEv hE0 hH (met_X5_going hE hPO he) (crecv hK hH 10 5 rfl rfl) gw_StoneYear_356 hd_yX5_going ⟨Nat.le_of_ble_eq_true rfl, Nat.le_of_ble_eq_true rfl⟩ rfl rfl hl (Nat.le_of_ble_eq_true rfl) dX0_aside_20 ⟨Nat.le_of_ble_eq_true rfl, Nat.le_of_ble_eq_true rfl⟩ (fun w2 H locs hw hH => ?_)
    subst hw
    refine lv_istore_n (lv' := [(2, .int x_62), (0, .ref (ad 0)), (1, .int p1)]) hx hb dX0_aside_23 rfl hl (by decide) rfl (fun ls hl => ?_)
    refine lv_iload_n hx hb dX0_aside_24 rfl (lv_at hl 0 rfl) ?_
    refine lv_istore_n (lv' := [(3, .int x_62), (2, .int x_62), (0, .ref (ad 0)), (1, .int p1)]) hx hb dX0_aside_25 rfl hl (by decide) rfl (fun ls hl => ?_)
    refine lv_iconst (v := 0) hx hb dX0_aside_26 kyi_0 ?_
    refine lv_istore (lv' := [(4, .int 0), (3, .int x_62), (2, .int x_62), (0, .ref (ad 0)), (1, .int p1)]) hx hb dX0_aside_27 hl (by decide) rfl (fun ls hl => ?_)
    obtain ⟨xx29, ee29, kk29_0⟩ := bd1L hF
    have k29_0 : ∀ (x_81 : Int32), xx29 = x_81 → ∀ (H : Heap) (locs : List Loc) (ls : Array Slot), MH D vwA A s.heap (cW ad cA sA ta ba na gi rh rt g_sort g_size g_from g_to g_level g_full a_tape a_hAt a_hMany a_tAt a_tMany a_least_57 a_place_58 a_to_59 a_order a_fails a_sKeys a_sRow a_sSlots a_bKeys a_bRow a_bSlots a_easy a_wants a_wantedBy a_ring a_carried a_latest v_taped v_faultKind v_faultPlace v_x v_ordered v_sought v_lastSought v_hMoved v_hWithout v_tMoved v_tWithout v_places_60 v_elsewhere_61 v_sMany v_bMany v_year y_lies a_rsort a_rmany a_nums pl) H locs → lv_has ls 5 [(1, .int p1), (3, .int x_81)] → W p l e rm_X0_aside s m args below meth c H locs 0 0 Q (F0 m 80 ls []) := by
      intro x_81 hxx H locs ls hH hl
      have hF := un1e (kk29_0 x_81 hxx)
      refine lv_iload_n hx hb dX0_aside_80 rfl (lv_at hl 0 rfl) ?_
      refine lv_if_ne (tgt := 91) hx hb dX0_aside_81 rfl (fun c_82 => ?_) (fun c_82 => ?_)
      · have hF := itn c_82 hF
        refine lv_iload_n hx hb dX0_aside_91 rfl (lv_at hl 1 rfl) ?_
        obtain ⟨rfl, rfl, rfl, rfl, rfl, rfl⟩ := re6 hF
        exact hret _ _ _ _ _ rfl hH dX0_aside_92
      · have hF := itp c_82 hF
        refine lv_iload_n hx hb dX0_aside_84 rfl (lv_at hl 1 rfl) ?_
        obtain ⟨x_83, he, hF⟩ := bd1e hF
        refine mxS hX hK hEv hE0 hH (met_J11_bitCount (EvG_of hEv) he).toX gw_StoneYear_361 hd_yJ11_bitCount ⟨Nat.le_of_ble_eq_true rfl, Nat.le_of_ble_eq_true rfl⟩ rfl rfl hl (Nat.le_of_ble_eq_true rfl) dX0_aside_85 ⟨Nat.le_of_ble_eq_true rfl, Nat.le_of_ble_eq_true rfl⟩ (fun w2 H locs hw hH => ?_)
        subst hw
        refine lv_goto (tgt := 92) hx hb dX0_aside_88 rfl ?_
        obtain ⟨rfl, rfl, rfl, rfl, rfl, rfl⟩ := re6 hF
        exact hret _ _ _ _ _ rfl hH dX0_aside_92
    obtain ⟨nn29, en29⟩ := loopC_some ee29
    have l29 : ∀ (n : Nat) (x_71 : Int32) (x_72 : Int32), loopN (fun s => FX0_aside_b29 y_lies a_to_59 x_62 s.1 s.2) n (x_71, x_72) = some xx29 → ∀ (H : Heap) (locs : List Loc) (ls : Array Slot), MH D vwA A s.heap (cW ad cA sA ta ba na gi rh rt g_sort g_size g_from g_to g_level g_full a_tape a_hAt a_hMany a_tAt a_tMany a_least_57 a_place_58 a_to_59 a_order a_fails a_sKeys a_sRow a_sSlots a_bKeys a_bRow a_bSlots a_easy a_wants a_wantedBy a_ring a_carried a_latest v_taped v_faultKind v_faultPlace v_x v_ordered v_sought v_lastSought v_hMoved v_hWithout v_tMoved v_tWithout v_places_60 v_elsewhere_61 v_sMany v_bMany v_year y_lies a_rsort a_rmany a_nums pl) H locs → lv_has ls 5 [(0, .ref (ad 0)), (1, .int p1), (2, .int x_62), (3, .int x_71), (4, .int x_72)] → W p l e rm_X0_aside s m args below meth c H locs 0 0 Q (F0 m 29 ls []) := by
      intro n
      induction n with
      | zero =>
        intro x_71 x_72 hN
        exact absurd hN loopN_zero
      | succ n ih =>
        intro x_71 x_72 hN H locs ls hH hl
        obtain ⟨yy29, hB29, hY29⟩ := loopN_succ hN
        have hF : FX0_aside_b29 y_lies a_to_59 x_62 x_71 x_72 = some yy29 := hB29
        delta FX0_aside_b29 at hF
        refine lv_iload hx hb dX0_aside_29 (lv_at hl 4 rfl) ?_
        refine lv_sipush (v := 256) hx hb dX0_aside_31 kys_256 ?_
        refine lv_icmp_ge (tgt := 80) hx hb dX0_aside_34 rfl (fun c_73 => ?_) (fun c_73 => ?_)
        · have hF := itp c_73 hF
          obtain rfl := Option.some.inj hF
          exact k29_0 x_71 hY29 _ _ _ hH (lv_sub hl [1, 3] rfl)
        · have hF := itn c_73 hF
          refine lv_iload hx hb dX0_aside_37 (lv_at hl 4 rfl) ?_
          refine lv_iload_n hx hb dX0_aside_39 rfl (lv_at hl 2 rfl) ?_
          refine lv_iconst (v := (-1)) hx hb dX0_aside_40 kyi_m1 ?_
          refine lv_ixor hx hb dX0_aside_41 ?_
          refine lv_iand hx hb dX0_aside_42 ?_
          have j74 : ∀ (x_80 : Int32), FX0_aside_j74 x_72 x_80 = some yy29 → ∀ (H : Heap) (locs : List Loc) (ls : Array Slot), MH D vwA A s.heap (cW ad cA sA ta ba na gi rh rt g_sort g_size g_from g_to g_level g_full a_tape a_hAt a_hMany a_tAt a_tMany a_least_57 a_place_58 a_to_59 a_order a_fails a_sKeys a_sRow a_sSlots a_bKeys a_bRow a_bSlots a_easy a_wants a_wantedBy a_ring a_carried a_latest v_taped v_faultKind v_faultPlace v_x v_ordered v_sought v_lastSought v_hMoved v_hWithout v_tMoved v_tWithout v_places_60 v_elsewhere_61 v_sMany v_bMany v_year y_lies a_rsort a_rmany a_nums pl) H locs → lv_has ls 5 [(0, .ref (ad 0)), (1, .int p1), (2, .int x_62), (3, .int x_80), (4, .int x_72)] → W p l e rm_X0_aside s m args below meth c H locs 0 0 Q (F0 m 74 ls []) := by
            intro x_80 hF H locs ls hH hl
            delta FX0_aside_j74 at hF
            refine lv_iinc (v := (x_72 + 1)) (lv' := [(4, .int (x_72 + 1)), (0, .ref (ad 0)), (1, .int p1), (2, .int x_62), (3, .int x_80)]) hx hb dX0_aside_74 hl (k := 4) rfl (syc kyi_1) (by decide) rfl (fun ls hl => ?_)
            refine lv_goto (tgt := 29) hx hb dX0_aside_77 rfl ?_
            obtain rfl := Option.some.inj hF
            exact ih x_80 (x_72 + 1) hY29 _ _ _ hH (lv_sub hl [1, 2, 3, 4, 0] rfl)
          refine lv_if_ne (tgt := 74) hx hb dX0_aside_43 rfl (fun c_74 => ?_) (fun c_74 => ?_)
          · have hF := itn c_74 hF
            exact j74 x_71 hF _ _ _ hH (lv_sub hl [0, 1, 2, 3, 4] rfl)
          · have hF := itp c_74 hF
            refine lv_iload hx hb dX0_aside_46 (lv_at hl 4 rfl) ?_
            obtain ⟨x_75, he, hF⟩ := bd1e hF
            refine mxS hX hK hEv hE0 hH (met_J11_bitCount (EvG_of hEv) he).toX gw_StoneYear_361 hd_yJ11_bitCount ⟨Nat.le_of_ble_eq_true rfl, Nat.le_of_ble_eq_true rfl⟩ rfl rfl hl (Nat.le_of_ble_eq_true rfl) dX0_aside_48 ⟨Nat.le_of_ble_eq_true rfl, Nat.le_of_ble_eq_true rfl⟩ (fun w2 H locs hw hH => ?_)
            subst hw
            refine lv_iload_n hx hb dX0_aside_51 rfl (lv_at hl 3 rfl) ?_
            obtain ⟨x_76, he, hF⟩ := bd1e hF
            refine mxS hX hK hEv hE0 hH (met_J11_bitCount (EvG_of hEv) he).toX gw_StoneYear_361 hd_yJ11_bitCount ⟨Nat.le_of_ble_eq_true rfl, Nat.le_of_ble_eq_true rfl⟩ rfl rfl hl (Nat.le_of_ble_eq_true rfl) dX0_aside_52 ⟨Nat.le_of_ble_eq_true rfl, Nat.le_of_ble_eq_true rfl⟩ (fun w2 H locs hw hH => ?_)
            subst hw
            refine lv_icmp_ge (tgt := 74) hx hb dX0_aside_55 rfl (fun c_77 => ?_) (fun c_77 => ?_)
            · have hF := itp c_77 hF
              exact j74 x_71 hF _ _ _ hH (lv_sub hl [0, 1, 2, 3, 4] rfl)
            · have hF := itn c_77 hF
              refine lv_aload_n hx hb dX0_aside_58 rfl (lv_at hl 0 rfl) ?_
              refine lv_iload_n hx hb dX0_aside_59 rfl (lv_at hl 2 rfl) ?_
              refine lv_iload hx hb dX0_aside_60 (lv_at hl 4 rfl) ?_
              refine lv_iconst (v := (-1)) hx hb dX0_aside_62 kyi_m1 ?_
              refine lv_ixor hx hb dX0_aside_63 ?_
              refine lv_iand hx hb dX0_aside_64 ?_
              obtain ⟨b_78, he, hF⟩ := bd1e hF
              refine mxV hX hK hEv hE0 hH (met_X0_isLoose hE hPO he) (crecv hK hH 0 0 rfl rfl) gw_StoneYear_375 hd_yX0_isLoose ⟨Nat.le_of_ble_eq_true rfl, Nat.le_of_ble_eq_true rfl⟩ rfl rfl hl (Nat.le_of_ble_eq_true rfl) dX0_aside_65 ⟨Nat.le_of_ble_eq_true rfl, Nat.le_of_ble_eq_true rfl⟩ (fun w2 H locs hw hH => ?_)
              subst hw
              refine lv_if_eq (tgt := 74) hx hb dX0_aside_68 rfl (fun c_79 => ?_) (fun c_79 => ?_)
              · have hF := itp c_79 hF
                exact j74 x_71 hF _ _ _ hH (lv_sub hl [0, 1, 2, 3, 4] rfl)
              · have hF := itn c_79 hF
                refine lv_iload hx hb dX0_aside_71 (lv_at hl 4 rfl) ?_
                refine lv_istore_n (lv' := [(3, .int x_72), (0, .ref (ad 0)), (1, .int p1), (2, .int x_62), (4, .int x_72)]) hx hb dX0_aside_73 rfl hl (by decide) rfl (fun ls hl => ?_)
                exact j74 x_72 hF _ _ _ hH (lv_sub hl [1, 2, 3, 0, 4] rfl)
    exact l29 nn29 x_62 0 en29 _ _ _ hH (lv_sub hl [3, 4, 2, 1, 0] rfl)
  · have hF := itp c_56 hF
    refine lv_bipush (v := (-2)) hx hb dX0_aside_10 kyb_m2 ?_
    obtain ⟨rfl, rfl, rfl, rfl, rfl, rfl⟩ := re6 hF
    exact hret _ _ _ _ _ rfl hH dX0_aside_12
abbrev rm_X6_slot_s : Room := { frames := 0, cells := 0, slots := 0, locals := 0 }
set_option maxHeartbeats 4000000 in
theorem met_X6_slot_s {l : Launch} {D : va_G} {ad : Nat → Nat} {cA : Nat → ClassId} {sA ta ba na : Nat → Nat} {gi : Nat → Option Nat} {rh : Option Nat} {rt : Option Nat} {g_sort : Int32} {g_size : Int32} {g_from : Int32} {g_to : Int32} {g_level : Int32} {g_full : Int32} {a_tape : Nat → Int32} {a_hAt : Nat → Int32} {a_hMany : Nat → Int32} {a_tAt : Nat → Int32} {a_tMany : Nat → Int32} {a_least : Nat → Int32} {a_place : Nat → Int32} {a_to : Nat → Int32} {a_order : Nat → Int32} {a_fails : Nat → Int32} {a_sKeys : Nat → Int64} {a_sRow : Nat → Int64} {a_sSlots : Nat → Int32} {a_bKeys : Nat → Int64} {a_bRow : Nat → Int64} {a_bSlots : Nat → Int32} {a_easy : Nat → Int32} {a_wants : Nat → Int32} {a_wantedBy : Nat → Int32} {a_ring : Nat → Int32} {a_carried : Nat → Int32} {a_latest : Nat → Int32} {v_taped : Int32} {v_faultKind : Int32} {v_faultPlace : Int32} {v_x : Int32} {v_ordered : Int32} {v_sought : Int32} {v_lastSought : Int32} {v_hMoved : Int32} {v_hWithout : Int32} {v_tMoved : Int32} {v_tWithout : Int32} {v_places : Int32} {v_elsewhere : Int32} {v_sMany : Int32} {v_bMany : Int32} {v_year : Int32} {y_lies : Int64} {a_rsort : Nat → Int32} {a_rmany : Nat → Int32} {a_nums : Nat → Nat → Int64} {t : Nat → Int32} {nb : Int32} {bv : Nat → Int32 → Int32 → Int32 → Int32 → Int32 → Int32 → Bool} {pl : va_W}  {p1 : Int64} {res : Int32} {E : EvT} (hE : EvN E) (hPO : PO cA pl ta ba t nb bv) (hF : FX6_slot a_sKeys p1 = some res) : MX l yX6_slot (ws_ yX6_slot cX6_slot 6 (Option.some Jvm.ClassFile.FieldType.int)) rm_X6_slot_s D vwA (cT cA) E [.ref (ad 16), .long p1] (cW ad cA sA ta ba na gi rh rt g_sort g_size g_from g_to g_level g_full a_tape a_hAt a_hMany a_tAt a_tMany a_least a_place a_to a_order a_fails a_sKeys a_sRow a_sSlots a_bKeys a_bRow a_bSlots a_easy a_wants a_wantedBy a_ring a_carried a_latest v_taped v_faultKind v_faultPlace v_x v_ordered v_sought v_lastSought v_hMoved v_hWithout v_tMoved v_tWithout v_places v_elsewhere v_sMany v_bMany v_year y_lies a_rsort a_rmany a_nums pl) (fun z => z = (cW ad cA sA ta ba na gi rh rt g_sort g_size g_from g_to g_level g_full a_tape a_hAt a_hMany a_tAt a_tMany a_least a_place a_to a_order a_fails a_sKeys a_sRow a_sSlots a_bKeys a_bRow a_bSlots a_easy a_wants a_wantedBy a_ring a_carried a_latest v_taped v_faultKind v_faultPlace v_x v_ordered v_sought v_lastSought v_hMoved v_hWithout v_tMoved v_tWithout v_places v_elsewhere v_sMany v_bMany v_year y_lies a_rsort a_rmany a_nums pl)) (some (.int res)) := by
  refine MX.ofI (by decide) (Nat.le_of_ble_eq_true rfl) ?_
  intro p e s m args below meth c Q A hX hK hE0 hname hret H locs ls hH hl
  have hX : CallFix p m c cX6_slot 6 s args lw_all RX6 := hX
  have hx := hX.1
  have hb := hX.2.1
  have hown := hX.2.2.2.1
  have hts := hX.2.2.2.2
  have hl : lv_has ls 6 [(0, .ref (ad 16)), (1, .long p1)] := hl
  have hEv := hE.1
  have hNW := hE.2.1 _ _ _ hE0
  have hT := hPO.1
  have hB := hPO.2
  delta FX6_slot at hF
  refine lv_lload_n hx hb dX6_slot_0 rfl (lv_at hl 1 rfl) ?_
  refine lv_ldc2 (v := (-7046029254386353131)) hx hb hown (hts _ q1323) dX6_slot_1 ?_
  refine lv_lmul hx hb dX6_slot_4 ?_
  refine lv_lstore_n (lv' := [(3, .long (p1 * (-7046029254386353131))), (0, .ref (ad 16)), (1, .long p1)]) hx hb dX6_slot_5 rfl hl (by decide) rfl (fun ls hl => ?_)
  refine lv_lload_n hx hb dX6_slot_6 rfl (lv_at hl 0 rfl) ?_
  refine lv_bipush (v := 50) hx hb dX6_slot_7 kyb_50 ?_
  refine lv_lushr hx hb dX6_slot_9 rfl ?_
  refine lv_l2i (v := (Int64.toInt32 (ushL (p1 * (-7046029254386353131)) 50))) hx hb dX6_slot_10 rfl ?_
  refine lv_istore (lv' := [(5, .int (Int64.toInt32 (ushL (p1 * (-7046029254386353131)) 50))), (3, .long (p1 * (-7046029254386353131))), (0, .ref (ad 16)), (1, .long p1)]) hx hb dX6_slot_11 hl (by decide) rfl (fun ls hl => ?_)
  obtain ⟨xx13, ee13, kk13_0⟩ := bd1L hF
  have k13_0 : ∀ (x_64 : Int32), xx13 = x_64 → ∀ (H : Heap) (locs : List Loc) (ls : Array Slot), MH D vwA A s.heap (cW ad cA sA ta ba na gi rh rt g_sort g_size g_from g_to g_level g_full a_tape a_hAt a_hMany a_tAt a_tMany a_least a_place a_to a_order a_fails a_sKeys a_sRow a_sSlots a_bKeys a_bRow a_bSlots a_easy a_wants a_wantedBy a_ring a_carried a_latest v_taped v_faultKind v_faultPlace v_x v_ordered v_sought v_lastSought v_hMoved v_hWithout v_tMoved v_tWithout v_places v_elsewhere v_sMany v_bMany v_year y_lies a_rsort a_rmany a_nums pl) H locs → lv_has ls 6 [(5, .int x_64)] → W p l e rm_X6_slot_s s m args below meth c H locs 0 0 Q (F0 m 52 ls []) := by
    intro x_64 hxx H locs ls hH hl
    have hF := un1e (kk13_0 x_64 hxx)
    refine lv_iload hx hb dX6_slot_52 (lv_at hl 0 rfl) ?_
    obtain rfl := Option.some.inj hF
    exact hret _ _ _ _ _ rfl hH dX6_slot_54
  obtain ⟨nn13, en13⟩ := loopC_some ee13
  have l13 : ∀ (n : Nat) (x_59 : Int32), loopN (fun s => FX6_slot_b13 a_sKeys p1 s) n x_59 = some xx13 → ∀ (H : Heap) (locs : List Loc) (ls : Array Slot), MH D vwA A s.heap (cW ad cA sA ta ba na gi rh rt g_sort g_size g_from g_to g_level g_full a_tape a_hAt a_hMany a_tAt a_tMany a_least a_place a_to a_order a_fails a_sKeys a_sRow a_sSlots a_bKeys a_bRow a_bSlots a_easy a_wants a_wantedBy a_ring a_carried a_latest v_taped v_faultKind v_faultPlace v_x v_ordered v_sought v_lastSought v_hMoved v_hWithout v_tMoved v_tWithout v_places v_elsewhere v_sMany v_bMany v_year y_lies a_rsort a_rmany a_nums pl) H locs → lv_has ls 6 [(0, .ref (ad 16)), (1, .long p1), (5, .int x_59)] → W p l e rm_X6_slot_s s m args below meth c H locs 0 0 Q (F0 m 13 ls []) := by
    intro n
    induction n with
    | zero =>
      intro x_59 hN
      exact absurd hN loopN_zero
    | succ n ih =>
      intro x_59 hN H locs ls hH hl
      obtain ⟨yy13, hB13, hY13⟩ := loopN_succ hN
      have hF : FX6_slot_b13 a_sKeys p1 x_59 = some yy13 := hB13
      delta FX6_slot_b13 at hF
      refine lv_aload_n hx hb dX6_slot_13 rfl (lv_at hl 0 rfl) ?_
      refine cg_Y_Table_tabs_keys hX hK hNW hH dX6_slot_14 ?_
      refine lv_iload hx hb dX6_slot_17 (lv_at hl 2 rfl) ?_
      obtain ⟨y_60, he, hF⟩ := bd1e hF
      refine cl_sKeys hX hK hH he dX6_slot_19 ?_
      refine lv_lconst (v := 0) hx hb dX6_slot_20 rfl ?_
      refine W.lcmp hx hb dX6_slot_21 ?_
      refine lv_if_eq (tgt := 52) hx hb dX6_slot_22 rfl (fun c_61 => ?_) (fun c_61 => ?_)
      · have hF := itp c_61 hF
        obtain rfl := Option.some.inj hF
        exact k13_0 x_59 hY13 _ _ _ hH (lv_sub hl [2] rfl)
      · have hF := itn c_61 hF
        refine lv_aload_n hx hb dX6_slot_25 rfl (lv_at hl 0 rfl) ?_
        refine cg_Y_Table_tabs_keys hX hK hNW hH dX6_slot_26 ?_
        refine lv_iload hx hb dX6_slot_29 (lv_at hl 2 rfl) ?_
        obtain ⟨y_62, he, hF⟩ := bd1e hF
        refine cl_sKeys hX hK hH he dX6_slot_31 ?_
        refine lv_lload_n hx hb dX6_slot_32 rfl (lv_at hl 1 rfl) ?_
        refine lv_lconst (v := 1) hx hb dX6_slot_33 rfl ?_
        refine lv_ladd hx hb dX6_slot_34 ?_
        refine W.lcmp hx hb dX6_slot_35 ?_
        refine lv_if_eq (tgt := 52) hx hb dX6_slot_36 rfl (fun c_63 => ?_) (fun c_63 => ?_)
        · have hF := itp c_63 hF
          obtain rfl := Option.some.inj hF
          exact k13_0 x_59 hY13 _ _ _ hH (lv_sub hl [2] rfl)
        · have hF := itn c_63 hF
          refine lv_iload hx hb dX6_slot_39 (lv_at hl 2 rfl) ?_
          refine lv_iconst (v := 1) hx hb dX6_slot_41 kyi_1 ?_
          refine lv_iadd hx hb dX6_slot_42 ?_
          refine lv_sipush (v := 16383) hx hb dX6_slot_43 kys_16383 ?_
          refine lv_iand hx hb dX6_slot_46 ?_
          refine lv_istore (lv' := [(5, .int ((x_59 + 1) &&& 16383)), (0, .ref (ad 16)), (1, .long p1)]) hx hb dX6_slot_47 hl (by decide) rfl (fun ls hl => ?_)
          refine lv_goto (tgt := 13) hx hb dX6_slot_49 rfl ?_
          obtain rfl := Option.some.inj hF
          exact ih ((x_59 + 1) &&& 16383) hY13 _ _ _ hH (lv_sub hl [1, 2, 0] rfl)
  exact l13 nn13 (Int64.toInt32 (ushL (p1 * (-7046029254386353131)) 50)) en13 _ _ _ hH (lv_sub hl [2, 3, 0] rfl)
abbrev rm_X6_slot_b : Room := { frames := 0, cells := 0, slots := 0, locals := 0 }
set_option maxHeartbeats 4000000 in
theorem met_X6_slot_b {l : Launch} {D : va_G} {ad : Nat → Nat} {cA : Nat → ClassId} {sA ta ba na : Nat → Nat} {gi : Nat → Option Nat} {rh : Option Nat} {rt : Option Nat} {g_sort : Int32} {g_size : Int32} {g_from : Int32} {g_to : Int32} {g_level : Int32} {g_full : Int32} {a_tape : Nat → Int32} {a_hAt : Nat → Int32} {a_hMany : Nat → Int32} {a_tAt : Nat → Int32} {a_tMany : Nat → Int32} {a_least : Nat → Int32} {a_place : Nat → Int32} {a_to : Nat → Int32} {a_order : Nat → Int32} {a_fails : Nat → Int32} {a_sKeys : Nat → Int64} {a_sRow : Nat → Int64} {a_sSlots : Nat → Int32} {a_bKeys : Nat → Int64} {a_bRow : Nat → Int64} {a_bSlots : Nat → Int32} {a_easy : Nat → Int32} {a_wants : Nat → Int32} {a_wantedBy : Nat → Int32} {a_ring : Nat → Int32} {a_carried : Nat → Int32} {a_latest : Nat → Int32} {v_taped : Int32} {v_faultKind : Int32} {v_faultPlace : Int32} {v_x : Int32} {v_ordered : Int32} {v_sought : Int32} {v_lastSought : Int32} {v_hMoved : Int32} {v_hWithout : Int32} {v_tMoved : Int32} {v_tWithout : Int32} {v_places : Int32} {v_elsewhere : Int32} {v_sMany : Int32} {v_bMany : Int32} {v_year : Int32} {y_lies : Int64} {a_rsort : Nat → Int32} {a_rmany : Nat → Int32} {a_nums : Nat → Nat → Int64} {t : Nat → Int32} {nb : Int32} {bv : Nat → Int32 → Int32 → Int32 → Int32 → Int32 → Int32 → Bool} {pl : va_W}  {p1 : Int64} {res : Int32} {E : EvT} (hE : EvN E) (hPO : PO cA pl ta ba t nb bv) (hF : FX6_slot a_bKeys p1 = some res) : MX l yX6_slot (ws_ yX6_slot cX6_slot 6 (Option.some Jvm.ClassFile.FieldType.int)) rm_X6_slot_b D vwA (cT cA) E [.ref (ad 20), .long p1] (cW ad cA sA ta ba na gi rh rt g_sort g_size g_from g_to g_level g_full a_tape a_hAt a_hMany a_tAt a_tMany a_least a_place a_to a_order a_fails a_sKeys a_sRow a_sSlots a_bKeys a_bRow a_bSlots a_easy a_wants a_wantedBy a_ring a_carried a_latest v_taped v_faultKind v_faultPlace v_x v_ordered v_sought v_lastSought v_hMoved v_hWithout v_tMoved v_tWithout v_places v_elsewhere v_sMany v_bMany v_year y_lies a_rsort a_rmany a_nums pl) (fun z => z = (cW ad cA sA ta ba na gi rh rt g_sort g_size g_from g_to g_level g_full a_tape a_hAt a_hMany a_tAt a_tMany a_least a_place a_to a_order a_fails a_sKeys a_sRow a_sSlots a_bKeys a_bRow a_bSlots a_easy a_wants a_wantedBy a_ring a_carried a_latest v_taped v_faultKind v_faultPlace v_x v_ordered v_sought v_lastSought v_hMoved v_hWithout v_tMoved v_tWithout v_places v_elsewhere v_sMany v_bMany v_year y_lies a_rsort a_rmany a_nums pl)) (some (.int res)) := by
  refine MX.ofI (by decide) (Nat.le_of_ble_eq_true rfl) ?_
  intro p e s m args below meth c Q A hX hK hE0 hname hret H locs ls hH hl
  have hX : CallFix p m c cX6_slot 6 s args lw_all RX6 := hX
  have hx := hX.1
  have hb := hX.2.1
  have hown := hX.2.2.2.1
  have hts := hX.2.2.2.2
  have hl : lv_has ls 6 [(0, .ref (ad 20)), (1, .long p1)] := hl
  have hEv := hE.1
  have hNW := hE.2.1 _ _ _ hE0
  have hT := hPO.1
  have hB := hPO.2
  delta FX6_slot at hF
  refine lv_lload_n hx hb dX6_slot_0 rfl (lv_at hl 1 rfl) ?_
  refine lv_ldc2 (v := (-7046029254386353131)) hx hb hown (hts _ q1323) dX6_slot_1 ?_
  refine lv_lmul hx hb dX6_slot_4 ?_
  refine lv_lstore_n (lv' := [(3, .long (p1 * (-7046029254386353131))), (0, .ref (ad 20)), (1, .long p1)]) hx hb dX6_slot_5 rfl hl (by decide) rfl (fun ls hl => ?_)
  refine lv_lload_n hx hb dX6_slot_6 rfl (lv_at hl 0 rfl) ?_
  refine lv_bipush (v := 50) hx hb dX6_slot_7 kyb_50 ?_
  refine lv_lushr hx hb dX6_slot_9 rfl ?_
  refine lv_l2i (v := (Int64.toInt32 (ushL (p1 * (-7046029254386353131)) 50))) hx hb dX6_slot_10 rfl ?_
  refine lv_istore (lv' := [(5, .int (Int64.toInt32 (ushL (p1 * (-7046029254386353131)) 50))), (3, .long (p1 * (-7046029254386353131))), (0, .ref (ad 20)), (1, .long p1)]) hx hb dX6_slot_11 hl (by decide) rfl (fun ls hl => ?_)
  obtain ⟨xx13, ee13, kk13_0⟩ := bd1L hF
  have k13_0 : ∀ (x_64 : Int32), xx13 = x_64 → ∀ (H : Heap) (locs : List Loc) (ls : Array Slot), MH D vwA A s.heap (cW ad cA sA ta ba na gi rh rt g_sort g_size g_from g_to g_level g_full a_tape a_hAt a_hMany a_tAt a_tMany a_least a_place a_to a_order a_fails a_sKeys a_sRow a_sSlots a_bKeys a_bRow a_bSlots a_easy a_wants a_wantedBy a_ring a_carried a_latest v_taped v_faultKind v_faultPlace v_x v_ordered v_sought v_lastSought v_hMoved v_hWithout v_tMoved v_tWithout v_places v_elsewhere v_sMany v_bMany v_year y_lies a_rsort a_rmany a_nums pl) H locs → lv_has ls 6 [(5, .int x_64)] → W p l e rm_X6_slot_b s m args below meth c H locs 0 0 Q (F0 m 52 ls []) := by
    intro x_64 hxx H locs ls hH hl
    have hF := un1e (kk13_0 x_64 hxx)
    refine lv_iload hx hb dX6_slot_52 (lv_at hl 0 rfl) ?_
    obtain rfl := Option.some.inj hF
    exact hret _ _ _ _ _ rfl hH dX6_slot_54
  obtain ⟨nn13, en13⟩ := loopC_some ee13
  have l13 : ∀ (n : Nat) (x_59 : Int32), loopN (fun s => FX6_slot_b13 a_bKeys p1 s) n x_59 = some xx13 → ∀ (H : Heap) (locs : List Loc) (ls : Array Slot), MH D vwA A s.heap (cW ad cA sA ta ba na gi rh rt g_sort g_size g_from g_to g_level g_full a_tape a_hAt a_hMany a_tAt a_tMany a_least a_place a_to a_order a_fails a_sKeys a_sRow a_sSlots a_bKeys a_bRow a_bSlots a_easy a_wants a_wantedBy a_ring a_carried a_latest v_taped v_faultKind v_faultPlace v_x v_ordered v_sought v_lastSought v_hMoved v_hWithout v_tMoved v_tWithout v_places v_elsewhere v_sMany v_bMany v_year y_lies a_rsort a_rmany a_nums pl) H locs → lv_has ls 6 [(0, .ref (ad 20)), (1, .long p1), (5, .int x_59)] → W p l e rm_X6_slot_b s m args below meth c H locs 0 0 Q (F0 m 13 ls []) := by
    intro n
    induction n with
    | zero =>
      intro x_59 hN
      exact absurd hN loopN_zero
    | succ n ih =>
      intro x_59 hN H locs ls hH hl
      obtain ⟨yy13, hB13, hY13⟩ := loopN_succ hN
      have hF : FX6_slot_b13 a_bKeys p1 x_59 = some yy13 := hB13
      delta FX6_slot_b13 at hF
      refine lv_aload_n hx hb dX6_slot_13 rfl (lv_at hl 0 rfl) ?_
      refine cg_Y_Table_tabb_keys hX hK hNW hH dX6_slot_14 ?_
      refine lv_iload hx hb dX6_slot_17 (lv_at hl 2 rfl) ?_
      obtain ⟨y_60, he, hF⟩ := bd1e hF
      refine cl_bKeys hX hK hH he dX6_slot_19 ?_
      refine lv_lconst (v := 0) hx hb dX6_slot_20 rfl ?_
      refine W.lcmp hx hb dX6_slot_21 ?_
      refine lv_if_eq (tgt := 52) hx hb dX6_slot_22 rfl (fun c_61 => ?_) (fun c_61 => ?_)
      · have hF := itp c_61 hF
        obtain rfl := Option.some.inj hF
        exact k13_0 x_59 hY13 _ _ _ hH (lv_sub hl [2] rfl)
      · have hF := itn c_61 hF
        refine lv_aload_n hx hb dX6_slot_25 rfl (lv_at hl 0 rfl) ?_
        refine cg_Y_Table_tabb_keys hX hK hNW hH dX6_slot_26 ?_
        refine lv_iload hx hb dX6_slot_29 (lv_at hl 2 rfl) ?_
        obtain ⟨y_62, he, hF⟩ := bd1e hF
        refine cl_bKeys hX hK hH he dX6_slot_31 ?_
        refine lv_lload_n hx hb dX6_slot_32 rfl (lv_at hl 1 rfl) ?_
        refine lv_lconst (v := 1) hx hb dX6_slot_33 rfl ?_
        refine lv_ladd hx hb dX6_slot_34 ?_
        refine W.lcmp hx hb dX6_slot_35 ?_
        refine lv_if_eq (tgt := 52) hx hb dX6_slot_36 rfl (fun c_63 => ?_) (fun c_63 => ?_)
        · have hF := itp c_63 hF
          obtain rfl := Option.some.inj hF
          exact k13_0 x_59 hY13 _ _ _ hH (lv_sub hl [2] rfl)
        · have hF := itn c_63 hF
          refine lv_iload hx hb dX6_slot_39 (lv_at hl 2 rfl) ?_
          refine lv_iconst (v := 1) hx hb dX6_slot_41 kyi_1 ?_
          refine lv_iadd hx hb dX6_slot_42 ?_
          refine lv_sipush (v := 16383) hx hb dX6_slot_43 kys_16383 ?_
          refine lv_iand hx hb dX6_slot_46 ?_
          refine lv_istore (lv' := [(5, .int ((x_59 + 1) &&& 16383)), (0, .ref (ad 20)), (1, .long p1)]) hx hb dX6_slot_47 hl (by decide) rfl (fun ls hl => ?_)
          refine lv_goto (tgt := 13) hx hb dX6_slot_49 rfl ?_
          obtain rfl := Option.some.inj hF
          exact ih ((x_59 + 1) &&& 16383) hY13 _ _ _ hH (lv_sub hl [1, 2, 0] rfl)
  exact l13 nn13 (Int64.toInt32 (ushL (p1 * (-7046029254386353131)) 50)) en13 _ _ _ hH (lv_sub hl [2, 3, 0] rfl)
abbrev rm_X6_adds_s : Room := { frames := 1, cells := 0, slots := 0, locals := 25 }
set_option maxHeartbeats 4000000 in
theorem met_X6_adds_s {l : Launch} {D : va_G} {ad : Nat → Nat} {cA : Nat → ClassId} {sA ta ba na : Nat → Nat} {gi : Nat → Option Nat} {rh : Option Nat} {rt : Option Nat} {g_sort : Int32} {g_size : Int32} {g_from : Int32} {g_to : Int32} {g_level : Int32} {g_full : Int32} {a_tape : Nat → Int32} {a_hAt : Nat → Int32} {a_hMany : Nat → Int32} {a_tAt : Nat → Int32} {a_tMany : Nat → Int32} {a_least : Nat → Int32} {a_place : Nat → Int32} {a_to : Nat → Int32} {a_order : Nat → Int32} {a_fails : Nat → Int32} {a_sKeys : Nat → Int64} {a_sRow : Nat → Int64} {a_sSlots : Nat → Int32} {a_bKeys : Nat → Int64} {a_bRow : Nat → Int64} {a_bSlots : Nat → Int32} {a_easy : Nat → Int32} {a_wants : Nat → Int32} {a_wantedBy : Nat → Int32} {a_ring : Nat → Int32} {a_carried : Nat → Int32} {a_latest : Nat → Int32} {v_taped : Int32} {v_faultKind : Int32} {v_faultPlace : Int32} {v_x : Int32} {v_ordered : Int32} {v_sought : Int32} {v_lastSought : Int32} {v_hMoved : Int32} {v_hWithout : Int32} {v_tMoved : Int32} {v_tWithout : Int32} {v_places : Int32} {v_elsewhere : Int32} {v_sMany : Int32} {v_bMany : Int32} {v_year : Int32} {y_lies : Int64} {a_rsort : Nat → Int32} {a_rmany : Nat → Int32} {a_nums : Nat → Nat → Int64} {t : Nat → Int32} {nb : Int32} {bv : Nat → Int32 → Int32 → Int32 → Int32 → Int32 → Int32 → Bool} {pl : va_W}  {p1 : Int64} {res : Bool} {ra_sKeys : Nat → Int64} {ra_sRow : Nat → Int64} {ra_sSlots : Nat → Int32} {rv_sMany : Int32} {E : EvT} (hE : EvN E) (hPO : PO cA pl ta ba t nb bv) (hF : FX6_adds a_sKeys a_sRow a_sSlots v_sMany p1 = some (res, ra_sKeys, ra_sRow, ra_sSlots, rv_sMany)) : MX l yX6_adds (ws_ yX6_adds cX6_adds 4 (Option.some Jvm.ClassFile.FieldType.boolean)) rm_X6_adds_s D vwA (cT cA) E [.ref (ad 16), .long p1] (cW ad cA sA ta ba na gi rh rt g_sort g_size g_from g_to g_level g_full a_tape a_hAt a_hMany a_tAt a_tMany a_least a_place a_to a_order a_fails a_sKeys a_sRow a_sSlots a_bKeys a_bRow a_bSlots a_easy a_wants a_wantedBy a_ring a_carried a_latest v_taped v_faultKind v_faultPlace v_x v_ordered v_sought v_lastSought v_hMoved v_hWithout v_tMoved v_tWithout v_places v_elsewhere v_sMany v_bMany v_year y_lies a_rsort a_rmany a_nums pl) (fun z => z = (cW ad cA sA ta ba na gi rh rt g_sort g_size g_from g_to g_level g_full a_tape a_hAt a_hMany a_tAt a_tMany a_least a_place a_to a_order a_fails ra_sKeys ra_sRow ra_sSlots a_bKeys a_bRow a_bSlots a_easy a_wants a_wantedBy a_ring a_carried a_latest v_taped v_faultKind v_faultPlace v_x v_ordered v_sought v_lastSought v_hMoved v_hWithout v_tMoved v_tWithout v_places v_elsewhere rv_sMany v_bMany v_year y_lies a_rsort a_rmany a_nums pl)) (some (.int (b2i res))) := by
  refine MX.ofZ (by decide) (Nat.le_of_ble_eq_true rfl) ?_
  intro p e s m args below meth c Q A hX hK hE0 hname hret H locs ls hH hl
  have hX : CallFix p m c cX6_adds 4 s args lw_all RX6 := hX
  have hx := hX.1
  have hb := hX.2.1
  have hown := hX.2.2.2.1
  have hts := hX.2.2.2.2
  have hl : lv_has ls 4 [(0, .ref (ad 16)), (1, .long p1)] := hl
  have hEv := hE.1
  have hNW := hE.2.1 _ _ _ hE0
  have hT := hPO.1
  have hB := hPO.2
  delta FX6_adds at hF
  refine lv_aload_n hx hb dX6_adds_0 rfl (lv_at hl 0 rfl) ?_
  refine lv_lload_n hx hb dX6_adds_1 rfl (lv_at hl 1 rfl) ?_
  obtain ⟨x_55, he, hF⟩ := bd1e hF
  refine mxV hX hK hEv hE0 hH (met_X6_slot_s hE hPO he) (crecv hK hH 16 6 rfl rfl) gw_StoneYear_Table_28 hd_yX6_slot ⟨Nat.le_of_ble_eq_true rfl, Nat.le_of_ble_eq_true rfl⟩ rfl rfl hl (Nat.le_of_ble_eq_true rfl) dX6_adds_2 ⟨Nat.le_of_ble_eq_true rfl, Nat.le_of_ble_eq_true rfl⟩ (fun w2 H locs hw hH => ?_)
  subst hw
  refine lv_istore_n (lv' := [(3, .int x_55), (0, .ref (ad 16)), (1, .long p1)]) hx hb dX6_adds_5 rfl hl (by decide) rfl (fun ls hl => ?_)
  refine lv_aload_n hx hb dX6_adds_6 rfl (lv_at hl 1 rfl) ?_
  refine cg_Y_Table_tabs_keys hX hK hNW hH dX6_adds_7 ?_
  refine lv_iload_n hx hb dX6_adds_10 rfl (lv_at hl 0 rfl) ?_
  obtain ⟨y_56, he, hF⟩ := bd1e hF
  refine cl_sKeys hX hK hH he dX6_adds_11 ?_
  refine lv_lconst (v := 0) hx hb dX6_adds_12 rfl ?_
  refine W.lcmp hx hb dX6_adds_13 ?_
  refine lv_if_eq (tgt := 19) hx hb dX6_adds_14 rfl (fun c_57 => ?_) (fun c_57 => ?_)
  · have hF := itp c_57 hF
    refine lv_aload_n hx hb dX6_adds_19 rfl (lv_at hl 1 rfl) ?_
    refine cg_Y_Table_tabs_keys hX hK hNW hH dX6_adds_20 ?_
    refine lv_iload_n hx hb dX6_adds_23 rfl (lv_at hl 0 rfl) ?_
    refine lv_lload_n hx hb dX6_adds_24 rfl (lv_at hl 2 rfl) ?_
    refine lv_lconst (v := 1) hx hb dX6_adds_25 rfl ?_
    refine lv_ladd hx hb dX6_adds_26 ?_
    obtain ⟨a_sKeys_58, he, hF⟩ := bd1e hF
    refine cs_sKeys hX hK hH he dX6_adds_27 (fun H locs hH => ?_)
    refine lv_aload_n hx hb dX6_adds_28 rfl (lv_at hl 1 rfl) ?_
    refine cg_Y_Table_tabs_row hX hK hNW hH dX6_adds_29 ?_
    refine lv_aload_n hx hb dX6_adds_32 rfl (lv_at hl 1 rfl) ?_
    refine cg_Y_Table_tabs_many hX hK hNW hH dX6_adds_33 ?_
    refine lv_lload_n hx hb dX6_adds_36 rfl (lv_at hl 2 rfl) ?_
    obtain ⟨a_sRow_59, he, hF⟩ := bd1e hF
    refine cs_sRow hX hK hH he dX6_adds_37 (fun H locs hH => ?_)
    refine lv_aload_n hx hb dX6_adds_38 rfl (lv_at hl 1 rfl) ?_
    refine cg_Y_Table_tabs_slots hX hK hNW hH dX6_adds_39 ?_
    refine lv_aload_n hx hb dX6_adds_42 rfl (lv_at hl 1 rfl) ?_
    refine cg_Y_Table_tabs_many hX hK hNW hH dX6_adds_43 ?_
    refine lv_iload_n hx hb dX6_adds_46 rfl (lv_at hl 0 rfl) ?_
    obtain ⟨a_sSlots_60, he, hF⟩ := bd1e hF
    refine cs_sSlots hX hK hH he dX6_adds_47 (fun H locs hH => ?_)
    refine lv_aload_n hx hb dX6_adds_48 rfl (lv_at hl 1 rfl) ?_
    refine lv_dup hx hb dX6_adds_49 rfl ?_
    refine cg_Y_Table_tabs_many hX hK hNW hH dX6_adds_50 ?_
    refine lv_iconst (v := 1) hx hb dX6_adds_53 kyi_1 ?_
    refine lv_iadd hx hb dX6_adds_54 ?_
    refine cp_Y_Table_tabs_many hX hK hNW hH dX6_adds_55 (fun H locs hH => ?_)
    refine lv_iconst (v := 1) hx hb dX6_adds_58 kyi_1 ?_
    obtain ⟨rfl, rfl, rfl, rfl, rfl⟩ := re5 hF
    exact hret _ _ _ _ _ rfl hH dX6_adds_59
  · have hF := itn c_57 hF
    refine lv_iconst (v := 0) hx hb dX6_adds_17 kyi_0 ?_
    obtain ⟨rfl, rfl, rfl, rfl, rfl⟩ := re5 hF
    exact hret _ _ _ _ _ rfl hH dX6_adds_18
abbrev rm_X6_adds_b : Room := { frames := 1, cells := 0, slots := 0, locals := 25 }
set_option maxHeartbeats 4000000 in
theorem met_X6_adds_b {l : Launch} {D : va_G} {ad : Nat → Nat} {cA : Nat → ClassId} {sA ta ba na : Nat → Nat} {gi : Nat → Option Nat} {rh : Option Nat} {rt : Option Nat} {g_sort : Int32} {g_size : Int32} {g_from : Int32} {g_to : Int32} {g_level : Int32} {g_full : Int32} {a_tape : Nat → Int32} {a_hAt : Nat → Int32} {a_hMany : Nat → Int32} {a_tAt : Nat → Int32} {a_tMany : Nat → Int32} {a_least : Nat → Int32} {a_place : Nat → Int32} {a_to : Nat → Int32} {a_order : Nat → Int32} {a_fails : Nat → Int32} {a_sKeys : Nat → Int64} {a_sRow : Nat → Int64} {a_sSlots : Nat → Int32} {a_bKeys : Nat → Int64} {a_bRow : Nat → Int64} {a_bSlots : Nat → Int32} {a_easy : Nat → Int32} {a_wants : Nat → Int32} {a_wantedBy : Nat → Int32} {a_ring : Nat → Int32} {a_carried : Nat → Int32} {a_latest : Nat → Int32} {v_taped : Int32} {v_faultKind : Int32} {v_faultPlace : Int32} {v_x : Int32} {v_ordered : Int32} {v_sought : Int32} {v_lastSought : Int32} {v_hMoved : Int32} {v_hWithout : Int32} {v_tMoved : Int32} {v_tWithout : Int32} {v_places : Int32} {v_elsewhere : Int32} {v_sMany : Int32} {v_bMany : Int32} {v_year : Int32} {y_lies : Int64} {a_rsort : Nat → Int32} {a_rmany : Nat → Int32} {a_nums : Nat → Nat → Int64} {t : Nat → Int32} {nb : Int32} {bv : Nat → Int32 → Int32 → Int32 → Int32 → Int32 → Int32 → Bool} {pl : va_W}  {p1 : Int64} {res : Bool} {ra_bKeys : Nat → Int64} {ra_bRow : Nat → Int64} {ra_bSlots : Nat → Int32} {rv_bMany : Int32} {E : EvT} (hE : EvN E) (hPO : PO cA pl ta ba t nb bv) (hF : FX6_adds a_bKeys a_bRow a_bSlots v_bMany p1 = some (res, ra_bKeys, ra_bRow, ra_bSlots, rv_bMany)) : MX l yX6_adds (ws_ yX6_adds cX6_adds 4 (Option.some Jvm.ClassFile.FieldType.boolean)) rm_X6_adds_b D vwA (cT cA) E [.ref (ad 20), .long p1] (cW ad cA sA ta ba na gi rh rt g_sort g_size g_from g_to g_level g_full a_tape a_hAt a_hMany a_tAt a_tMany a_least a_place a_to a_order a_fails a_sKeys a_sRow a_sSlots a_bKeys a_bRow a_bSlots a_easy a_wants a_wantedBy a_ring a_carried a_latest v_taped v_faultKind v_faultPlace v_x v_ordered v_sought v_lastSought v_hMoved v_hWithout v_tMoved v_tWithout v_places v_elsewhere v_sMany v_bMany v_year y_lies a_rsort a_rmany a_nums pl) (fun z => z = (cW ad cA sA ta ba na gi rh rt g_sort g_size g_from g_to g_level g_full a_tape a_hAt a_hMany a_tAt a_tMany a_least a_place a_to a_order a_fails a_sKeys a_sRow a_sSlots ra_bKeys ra_bRow ra_bSlots a_easy a_wants a_wantedBy a_ring a_carried a_latest v_taped v_faultKind v_faultPlace v_x v_ordered v_sought v_lastSought v_hMoved v_hWithout v_tMoved v_tWithout v_places v_elsewhere v_sMany rv_bMany v_year y_lies a_rsort a_rmany a_nums pl)) (some (.int (b2i res))) := by
  refine MX.ofZ (by decide) (Nat.le_of_ble_eq_true rfl) ?_
  intro p e s m args below meth c Q A hX hK hE0 hname hret H locs ls hH hl
  have hX : CallFix p m c cX6_adds 4 s args lw_all RX6 := hX
  have hx := hX.1
  have hb := hX.2.1
  have hown := hX.2.2.2.1
  have hts := hX.2.2.2.2
  have hl : lv_has ls 4 [(0, .ref (ad 20)), (1, .long p1)] := hl
  have hEv := hE.1
  have hNW := hE.2.1 _ _ _ hE0
  have hT := hPO.1
  have hB := hPO.2
  delta FX6_adds at hF
  refine lv_aload_n hx hb dX6_adds_0 rfl (lv_at hl 0 rfl) ?_
  refine lv_lload_n hx hb dX6_adds_1 rfl (lv_at hl 1 rfl) ?_
  obtain ⟨x_55, he, hF⟩ := bd1e hF
  refine mxV hX hK hEv hE0 hH (met_X6_slot_b hE hPO he) (crecv hK hH 20 6 rfl rfl) gw_StoneYear_Table_28 hd_yX6_slot ⟨Nat.le_of_ble_eq_true rfl, Nat.le_of_ble_eq_true rfl⟩ rfl rfl hl (Nat.le_of_ble_eq_true rfl) dX6_adds_2 ⟨Nat.le_of_ble_eq_true rfl, Nat.le_of_ble_eq_true rfl⟩ (fun w2 H locs hw hH => ?_)
  subst hw
  refine lv_istore_n (lv' := [(3, .int x_55), (0, .ref (ad 20)), (1, .long p1)]) hx hb dX6_adds_5 rfl hl (by decide) rfl (fun ls hl => ?_)
  refine lv_aload_n hx hb dX6_adds_6 rfl (lv_at hl 1 rfl) ?_
  refine cg_Y_Table_tabb_keys hX hK hNW hH dX6_adds_7 ?_
  refine lv_iload_n hx hb dX6_adds_10 rfl (lv_at hl 0 rfl) ?_
  obtain ⟨y_56, he, hF⟩ := bd1e hF
  refine cl_bKeys hX hK hH he dX6_adds_11 ?_
  refine lv_lconst (v := 0) hx hb dX6_adds_12 rfl ?_
  refine W.lcmp hx hb dX6_adds_13 ?_
  refine lv_if_eq (tgt := 19) hx hb dX6_adds_14 rfl (fun c_57 => ?_) (fun c_57 => ?_)
  · have hF := itp c_57 hF
    refine lv_aload_n hx hb dX6_adds_19 rfl (lv_at hl 1 rfl) ?_
    refine cg_Y_Table_tabb_keys hX hK hNW hH dX6_adds_20 ?_
    refine lv_iload_n hx hb dX6_adds_23 rfl (lv_at hl 0 rfl) ?_
    refine lv_lload_n hx hb dX6_adds_24 rfl (lv_at hl 2 rfl) ?_
    refine lv_lconst (v := 1) hx hb dX6_adds_25 rfl ?_
    refine lv_ladd hx hb dX6_adds_26 ?_
    obtain ⟨a_bKeys_58, he, hF⟩ := bd1e hF
    refine cs_bKeys hX hK hH he dX6_adds_27 (fun H locs hH => ?_)
    refine lv_aload_n hx hb dX6_adds_28 rfl (lv_at hl 1 rfl) ?_
    refine cg_Y_Table_tabb_row hX hK hNW hH dX6_adds_29 ?_
    refine lv_aload_n hx hb dX6_adds_32 rfl (lv_at hl 1 rfl) ?_
    refine cg_Y_Table_tabb_many hX hK hNW hH dX6_adds_33 ?_
    refine lv_lload_n hx hb dX6_adds_36 rfl (lv_at hl 2 rfl) ?_
    obtain ⟨a_bRow_59, he, hF⟩ := bd1e hF
    refine cs_bRow hX hK hH he dX6_adds_37 (fun H locs hH => ?_)
    refine lv_aload_n hx hb dX6_adds_38 rfl (lv_at hl 1 rfl) ?_
    refine cg_Y_Table_tabb_slots hX hK hNW hH dX6_adds_39 ?_
    refine lv_aload_n hx hb dX6_adds_42 rfl (lv_at hl 1 rfl) ?_
    refine cg_Y_Table_tabb_many hX hK hNW hH dX6_adds_43 ?_
    refine lv_iload_n hx hb dX6_adds_46 rfl (lv_at hl 0 rfl) ?_
    obtain ⟨a_bSlots_60, he, hF⟩ := bd1e hF
    refine cs_bSlots hX hK hH he dX6_adds_47 (fun H locs hH => ?_)
    refine lv_aload_n hx hb dX6_adds_48 rfl (lv_at hl 1 rfl) ?_
    refine lv_dup hx hb dX6_adds_49 rfl ?_
    refine cg_Y_Table_tabb_many hX hK hNW hH dX6_adds_50 ?_
    refine lv_iconst (v := 1) hx hb dX6_adds_53 kyi_1 ?_
    refine lv_iadd hx hb dX6_adds_54 ?_
    refine cp_Y_Table_tabb_many hX hK hNW hH dX6_adds_55 (fun H locs hH => ?_)
    refine lv_iconst (v := 1) hx hb dX6_adds_58 kyi_1 ?_
    obtain ⟨rfl, rfl, rfl, rfl, rfl⟩ := re5 hF
    exact hret _ _ _ _ _ rfl hH dX6_adds_59
  · have hF := itn c_57 hF
    refine lv_iconst (v := 0) hx hb dX6_adds_17 kyi_0 ?_
    obtain ⟨rfl, rfl, rfl, rfl, rfl⟩ := re5 hF
    exact hret _ _ _ _ _ rfl hH dX6_adds_18
abbrev rm_X6_clears_s : Room := { frames := 0, cells := 0, slots := 0, locals := 0 }
set_option maxHeartbeats 4000000 in
theorem met_X6_clears_s {l : Launch} {D : va_G} {ad : Nat → Nat} {cA : Nat → ClassId} {sA ta ba na : Nat → Nat} {gi : Nat → Option Nat} {rh : Option Nat} {rt : Option Nat} {g_sort : Int32} {g_size : Int32} {g_from : Int32} {g_to : Int32} {g_level : Int32} {g_full : Int32} {a_tape : Nat → Int32} {a_hAt : Nat → Int32} {a_hMany : Nat → Int32} {a_tAt : Nat → Int32} {a_tMany : Nat → Int32} {a_least : Nat → Int32} {a_place : Nat → Int32} {a_to : Nat → Int32} {a_order : Nat → Int32} {a_fails : Nat → Int32} {a_sKeys : Nat → Int64} {a_sRow : Nat → Int64} {a_sSlots : Nat → Int32} {a_bKeys : Nat → Int64} {a_bRow : Nat → Int64} {a_bSlots : Nat → Int32} {a_easy : Nat → Int32} {a_wants : Nat → Int32} {a_wantedBy : Nat → Int32} {a_ring : Nat → Int32} {a_carried : Nat → Int32} {a_latest : Nat → Int32} {v_taped : Int32} {v_faultKind : Int32} {v_faultPlace : Int32} {v_x : Int32} {v_ordered : Int32} {v_sought : Int32} {v_lastSought : Int32} {v_hMoved : Int32} {v_hWithout : Int32} {v_tMoved : Int32} {v_tWithout : Int32} {v_places : Int32} {v_elsewhere : Int32} {v_sMany : Int32} {v_bMany : Int32} {v_year : Int32} {y_lies : Int64} {a_rsort : Nat → Int32} {a_rmany : Nat → Int32} {a_nums : Nat → Nat → Int64} {t : Nat → Int32} {nb : Int32} {bv : Nat → Int32 → Int32 → Int32 → Int32 → Int32 → Int32 → Bool} {pl : va_W}   {ra_sKeys : Nat → Int64} {rv_sMany : Int32} {E : EvT} (hE : EvN E) (hPO : PO cA pl ta ba t nb bv) (hF : FX6_clears a_sKeys a_sSlots v_sMany = some (ra_sKeys, rv_sMany)) : MX l yX6_clears (ws_ yX6_clears cX6_clears 2 (Option.none : Option Jvm.ClassFile.FieldType)) rm_X6_clears_s D vwA (cT cA) E [.ref (ad 16)] (cW ad cA sA ta ba na gi rh rt g_sort g_size g_from g_to g_level g_full a_tape a_hAt a_hMany a_tAt a_tMany a_least a_place a_to a_order a_fails a_sKeys a_sRow a_sSlots a_bKeys a_bRow a_bSlots a_easy a_wants a_wantedBy a_ring a_carried a_latest v_taped v_faultKind v_faultPlace v_x v_ordered v_sought v_lastSought v_hMoved v_hWithout v_tMoved v_tWithout v_places v_elsewhere v_sMany v_bMany v_year y_lies a_rsort a_rmany a_nums pl) (fun z => z = (cW ad cA sA ta ba na gi rh rt g_sort g_size g_from g_to g_level g_full a_tape a_hAt a_hMany a_tAt a_tMany a_least a_place a_to a_order a_fails ra_sKeys a_sRow a_sSlots a_bKeys a_bRow a_bSlots a_easy a_wants a_wantedBy a_ring a_carried a_latest v_taped v_faultKind v_faultPlace v_x v_ordered v_sought v_lastSought v_hMoved v_hWithout v_tMoved v_tWithout v_places v_elsewhere rv_sMany v_bMany v_year y_lies a_rsort a_rmany a_nums pl)) none := by
  refine MX.ofV (by decide) (Nat.le_of_ble_eq_true rfl) ?_
  intro p e s m args below meth c Q A hX hK hE0 hname hret H locs ls hH hl
  have hX : CallFix p m c cX6_clears 2 s args lw_all RX6 := hX
  have hx := hX.1
  have hb := hX.2.1
  have hown := hX.2.2.2.1
  have hts := hX.2.2.2.2
  have hl : lv_has ls 2 [(0, .ref (ad 16))] := hl
  have hEv := hE.1
  have hNW := hE.2.1 _ _ _ hE0
  have hT := hPO.1
  have hB := hPO.2
  delta FX6_clears at hF
  refine lv_iconst (v := 0) hx hb dX6_clears_0 kyi_0 ?_
  refine lv_istore_n (lv' := [(1, .int 0), (0, .ref (ad 16))]) hx hb dX6_clears_1 rfl hl (by decide) rfl (fun ls hl => ?_)
  obtain ⟨xx2, ee2, kk2_0⟩ := bd1L hF
  have k2_0 : ∀ (a_sKeys_62 : Nat → Int64), xx2 = a_sKeys_62 → ∀ (H : Heap) (locs : List Loc) (ls : Array Slot), MH D vwA A s.heap (cW ad cA sA ta ba na gi rh rt g_sort g_size g_from g_to g_level g_full a_tape a_hAt a_hMany a_tAt a_tMany a_least a_place a_to a_order a_fails a_sKeys_62 a_sRow a_sSlots a_bKeys a_bRow a_bSlots a_easy a_wants a_wantedBy a_ring a_carried a_latest v_taped v_faultKind v_faultPlace v_x v_ordered v_sought v_lastSought v_hMoved v_hWithout v_tMoved v_tWithout v_places v_elsewhere v_sMany v_bMany v_year y_lies a_rsort a_rmany a_nums pl) H locs → lv_has ls 2 [(0, .ref (ad 16))] → W p l e rm_X6_clears_s s m args below meth c H locs 0 0 Q (F0 m 28 ls []) := by
    intro a_sKeys_62 hxx H locs ls hH hl
    have hF := un1e (kk2_0 a_sKeys_62 hxx)
    refine lv_aload_n hx hb dX6_clears_28 rfl (lv_at hl 0 rfl) ?_
    refine lv_iconst (v := 0) hx hb dX6_clears_29 kyi_0 ?_
    refine cp_Y_Table_tabs_many hX hK hNW hH dX6_clears_30 (fun H locs hH => ?_)
    obtain ⟨rfl, rfl⟩ := re2 hF
    exact hret _ _ _ _ _ rfl hH dX6_clears_33
  obtain ⟨nn2, en2⟩ := loopC_some ee2
  have l2 : ∀ (n : Nat) (x_57 : Int32) (a_sKeys_58 : Nat → Int64), loopN (fun s => FX6_clears_b2 a_sSlots v_sMany s.1 s.2) n (x_57, a_sKeys_58) = some xx2 → ∀ (H : Heap) (locs : List Loc) (ls : Array Slot), MH D vwA A s.heap (cW ad cA sA ta ba na gi rh rt g_sort g_size g_from g_to g_level g_full a_tape a_hAt a_hMany a_tAt a_tMany a_least a_place a_to a_order a_fails a_sKeys_58 a_sRow a_sSlots a_bKeys a_bRow a_bSlots a_easy a_wants a_wantedBy a_ring a_carried a_latest v_taped v_faultKind v_faultPlace v_x v_ordered v_sought v_lastSought v_hMoved v_hWithout v_tMoved v_tWithout v_places v_elsewhere v_sMany v_bMany v_year y_lies a_rsort a_rmany a_nums pl) H locs → lv_has ls 2 [(0, .ref (ad 16)), (1, .int x_57)] → W p l e rm_X6_clears_s s m args below meth c H locs 0 0 Q (F0 m 2 ls []) := by
    intro n
    induction n with
    | zero =>
      intro x_57 a_sKeys_58 hN
      exact absurd hN loopN_zero
    | succ n ih =>
      intro x_57 a_sKeys_58 hN H locs ls hH hl
      obtain ⟨yy2, hB2, hY2⟩ := loopN_succ hN
      have hF : FX6_clears_b2 a_sSlots v_sMany x_57 a_sKeys_58 = some yy2 := hB2
      delta FX6_clears_b2 at hF
      refine lv_iload_n hx hb dX6_clears_2 rfl (lv_at hl 1 rfl) ?_
      refine lv_aload_n hx hb dX6_clears_3 rfl (lv_at hl 0 rfl) ?_
      refine cg_Y_Table_tabs_many hX hK hNW hH dX6_clears_4 ?_
      refine lv_icmp_ge (tgt := 28) hx hb dX6_clears_7 rfl (fun c_59 => ?_) (fun c_59 => ?_)
      · have hF := itp c_59 hF
        obtain rfl := Option.some.inj hF
        exact k2_0 a_sKeys_58 hY2 _ _ _ hH (lv_sub hl [0] rfl)
      · have hF := itn c_59 hF
        refine lv_aload_n hx hb dX6_clears_10 rfl (lv_at hl 0 rfl) ?_
        refine cg_Y_Table_tabs_keys hX hK hNW hH dX6_clears_11 ?_
        refine lv_aload_n hx hb dX6_clears_14 rfl (lv_at hl 0 rfl) ?_
        refine cg_Y_Table_tabs_slots hX hK hNW hH dX6_clears_15 ?_
        refine lv_iload_n hx hb dX6_clears_18 rfl (lv_at hl 1 rfl) ?_
        obtain ⟨x_60, he, hF⟩ := bd1e hF
        refine cl_sSlots hX hK hH he dX6_clears_19 ?_
        refine lv_lconst (v := 0) hx hb dX6_clears_20 rfl ?_
        obtain ⟨a_sKeys_61, he, hF⟩ := bd1e hF
        refine cs_sKeys hX hK hH he dX6_clears_21 (fun H locs hH => ?_)
        refine lv_iinc (v := (x_57 + 1)) (lv' := [(1, .int (x_57 + 1)), (0, .ref (ad 16))]) hx hb dX6_clears_22 hl (k := 1) rfl (syc kyi_1) (by decide) rfl (fun ls hl => ?_)
        refine lv_goto (tgt := 2) hx hb dX6_clears_25 rfl ?_
        obtain rfl := Option.some.inj hF
        exact ih (x_57 + 1) a_sKeys_61 hY2 _ _ _ hH (lv_sub hl [1, 0] rfl)
  exact l2 nn2 0 a_sKeys en2 _ _ _ hH (lv_sub hl [1, 0] rfl)
abbrev rm_X6_clears_b : Room := { frames := 0, cells := 0, slots := 0, locals := 0 }
set_option maxHeartbeats 4000000 in
theorem met_X6_clears_b {l : Launch} {D : va_G} {ad : Nat → Nat} {cA : Nat → ClassId} {sA ta ba na : Nat → Nat} {gi : Nat → Option Nat} {rh : Option Nat} {rt : Option Nat} {g_sort : Int32} {g_size : Int32} {g_from : Int32} {g_to : Int32} {g_level : Int32} {g_full : Int32} {a_tape : Nat → Int32} {a_hAt : Nat → Int32} {a_hMany : Nat → Int32} {a_tAt : Nat → Int32} {a_tMany : Nat → Int32} {a_least : Nat → Int32} {a_place : Nat → Int32} {a_to : Nat → Int32} {a_order : Nat → Int32} {a_fails : Nat → Int32} {a_sKeys : Nat → Int64} {a_sRow : Nat → Int64} {a_sSlots : Nat → Int32} {a_bKeys : Nat → Int64} {a_bRow : Nat → Int64} {a_bSlots : Nat → Int32} {a_easy : Nat → Int32} {a_wants : Nat → Int32} {a_wantedBy : Nat → Int32} {a_ring : Nat → Int32} {a_carried : Nat → Int32} {a_latest : Nat → Int32} {v_taped : Int32} {v_faultKind : Int32} {v_faultPlace : Int32} {v_x : Int32} {v_ordered : Int32} {v_sought : Int32} {v_lastSought : Int32} {v_hMoved : Int32} {v_hWithout : Int32} {v_tMoved : Int32} {v_tWithout : Int32} {v_places : Int32} {v_elsewhere : Int32} {v_sMany : Int32} {v_bMany : Int32} {v_year : Int32} {y_lies : Int64} {a_rsort : Nat → Int32} {a_rmany : Nat → Int32} {a_nums : Nat → Nat → Int64} {t : Nat → Int32} {nb : Int32} {bv : Nat → Int32 → Int32 → Int32 → Int32 → Int32 → Int32 → Bool} {pl : va_W}   {ra_bKeys : Nat → Int64} {rv_bMany : Int32} {E : EvT} (hE : EvN E) (hPO : PO cA pl ta ba t nb bv) (hF : FX6_clears a_bKeys a_bSlots v_bMany = some (ra_bKeys, rv_bMany)) : MX l yX6_clears (ws_ yX6_clears cX6_clears 2 (Option.none : Option Jvm.ClassFile.FieldType)) rm_X6_clears_b D vwA (cT cA) E [.ref (ad 20)] (cW ad cA sA ta ba na gi rh rt g_sort g_size g_from g_to g_level g_full a_tape a_hAt a_hMany a_tAt a_tMany a_least a_place a_to a_order a_fails a_sKeys a_sRow a_sSlots a_bKeys a_bRow a_bSlots a_easy a_wants a_wantedBy a_ring a_carried a_latest v_taped v_faultKind v_faultPlace v_x v_ordered v_sought v_lastSought v_hMoved v_hWithout v_tMoved v_tWithout v_places v_elsewhere v_sMany v_bMany v_year y_lies a_rsort a_rmany a_nums pl) (fun z => z = (cW ad cA sA ta ba na gi rh rt g_sort g_size g_from g_to g_level g_full a_tape a_hAt a_hMany a_tAt a_tMany a_least a_place a_to a_order a_fails a_sKeys a_sRow a_sSlots ra_bKeys a_bRow a_bSlots a_easy a_wants a_wantedBy a_ring a_carried a_latest v_taped v_faultKind v_faultPlace v_x v_ordered v_sought v_lastSought v_hMoved v_hWithout v_tMoved v_tWithout v_places v_elsewhere v_sMany rv_bMany v_year y_lies a_rsort a_rmany a_nums pl)) none := by
  refine MX.ofV (by decide) (Nat.le_of_ble_eq_true rfl) ?_
  intro p e s m args below meth c Q A hX hK hE0 hname hret H locs ls hH hl
  have hX : CallFix p m c cX6_clears 2 s args lw_all RX6 := hX
  have hx := hX.1
  have hb := hX.2.1
  have hown := hX.2.2.2.1
  have hts := hX.2.2.2.2
  have hl : lv_has ls 2 [(0, .ref (ad 20))] := hl
  have hEv := hE.1
  have hNW := hE.2.1 _ _ _ hE0
  have hT := hPO.1
  have hB := hPO.2
  delta FX6_clears at hF
  refine lv_iconst (v := 0) hx hb dX6_clears_0 kyi_0 ?_
  refine lv_istore_n (lv' := [(1, .int 0), (0, .ref (ad 20))]) hx hb dX6_clears_1 rfl hl (by decide) rfl (fun ls hl => ?_)
  obtain ⟨xx2, ee2, kk2_0⟩ := bd1L hF
  have k2_0 : ∀ (a_bKeys_62 : Nat → Int64), xx2 = a_bKeys_62 → ∀ (H : Heap) (locs : List Loc) (ls : Array Slot), MH D vwA A s.heap (cW ad cA sA ta ba na gi rh rt g_sort g_size g_from g_to g_level g_full a_tape a_hAt a_hMany a_tAt a_tMany a_least a_place a_to a_order a_fails a_sKeys a_sRow a_sSlots a_bKeys_62 a_bRow a_bSlots a_easy a_wants a_wantedBy a_ring a_carried a_latest v_taped v_faultKind v_faultPlace v_x v_ordered v_sought v_lastSought v_hMoved v_hWithout v_tMoved v_tWithout v_places v_elsewhere v_sMany v_bMany v_year y_lies a_rsort a_rmany a_nums pl) H locs → lv_has ls 2 [(0, .ref (ad 20))] → W p l e rm_X6_clears_b s m args below meth c H locs 0 0 Q (F0 m 28 ls []) := by
    intro a_bKeys_62 hxx H locs ls hH hl
    have hF := un1e (kk2_0 a_bKeys_62 hxx)
    refine lv_aload_n hx hb dX6_clears_28 rfl (lv_at hl 0 rfl) ?_
    refine lv_iconst (v := 0) hx hb dX6_clears_29 kyi_0 ?_
    refine cp_Y_Table_tabb_many hX hK hNW hH dX6_clears_30 (fun H locs hH => ?_)
    obtain ⟨rfl, rfl⟩ := re2 hF
    exact hret _ _ _ _ _ rfl hH dX6_clears_33
  obtain ⟨nn2, en2⟩ := loopC_some ee2
  have l2 : ∀ (n : Nat) (x_57 : Int32) (a_bKeys_58 : Nat → Int64), loopN (fun s => FX6_clears_b2 a_bSlots v_bMany s.1 s.2) n (x_57, a_bKeys_58) = some xx2 → ∀ (H : Heap) (locs : List Loc) (ls : Array Slot), MH D vwA A s.heap (cW ad cA sA ta ba na gi rh rt g_sort g_size g_from g_to g_level g_full a_tape a_hAt a_hMany a_tAt a_tMany a_least a_place a_to a_order a_fails a_sKeys a_sRow a_sSlots a_bKeys_58 a_bRow a_bSlots a_easy a_wants a_wantedBy a_ring a_carried a_latest v_taped v_faultKind v_faultPlace v_x v_ordered v_sought v_lastSought v_hMoved v_hWithout v_tMoved v_tWithout v_places v_elsewhere v_sMany v_bMany v_year y_lies a_rsort a_rmany a_nums pl) H locs → lv_has ls 2 [(0, .ref (ad 20)), (1, .int x_57)] → W p l e rm_X6_clears_b s m args below meth c H locs 0 0 Q (F0 m 2 ls []) := by
    intro n
    induction n with
    | zero =>
      intro x_57 a_bKeys_58 hN
      exact absurd hN loopN_zero
    | succ n ih =>
      intro x_57 a_bKeys_58 hN H locs ls hH hl
      obtain ⟨yy2, hB2, hY2⟩ := loopN_succ hN
      have hF : FX6_clears_b2 a_bSlots v_bMany x_57 a_bKeys_58 = some yy2 := hB2
      delta FX6_clears_b2 at hF
      refine lv_iload_n hx hb dX6_clears_2 rfl (lv_at hl 1 rfl) ?_
      refine lv_aload_n hx hb dX6_clears_3 rfl (lv_at hl 0 rfl) ?_
      refine cg_Y_Table_tabb_many hX hK hNW hH dX6_clears_4 ?_
      refine lv_icmp_ge (tgt := 28) hx hb dX6_clears_7 rfl (fun c_59 => ?_) (fun c_59 => ?_)
      · have hF := itp c_59 hF
        obtain rfl := Option.some.inj hF
        exact k2_0 a_bKeys_58 hY2 _ _ _ hH (lv_sub hl [0] rfl)
      · have hF := itn c_59 hF
        refine lv_aload_n hx hb dX6_clears_10 rfl (lv_at hl 0 rfl) ?_
        refine cg_Y_Table_tabb_keys hX hK hNW hH dX6_clears_11 ?_
        refine lv_aload_n hx hb dX6_clears_14 rfl (lv_at hl 0 rfl) ?_
        refine cg_Y_Table_tabb_slots hX hK hNW hH dX6_clears_15 ?_
        refine lv_iload_n hx hb dX6_clears_18 rfl (lv_at hl 1 rfl) ?_
        obtain ⟨x_60, he, hF⟩ := bd1e hF
        refine cl_bSlots hX hK hH he dX6_clears_19 ?_
        refine lv_lconst (v := 0) hx hb dX6_clears_20 rfl ?_
        obtain ⟨a_bKeys_61, he, hF⟩ := bd1e hF
        refine cs_bKeys hX hK hH he dX6_clears_21 (fun H locs hH => ?_)
        refine lv_iinc (v := (x_57 + 1)) (lv' := [(1, .int (x_57 + 1)), (0, .ref (ad 20))]) hx hb dX6_clears_22 hl (k := 1) rfl (syc kyi_1) (by decide) rfl (fun ls hl => ?_)
        refine lv_goto (tgt := 2) hx hb dX6_clears_25 rfl ?_
        obtain rfl := Option.some.inj hF
        exact ih (x_57 + 1) a_bKeys_61 hY2 _ _ _ hH (lv_sub hl [1, 0] rfl)
  exact l2 nn2 0 a_bKeys en2 _ _ _ hH (lv_sub hl [1, 0] rfl)
abbrev rm_X6_has_s : Room := { frames := 1, cells := 0, slots := 0, locals := 25 }
set_option maxHeartbeats 4000000 in
theorem met_X6_has_s {l : Launch} {D : va_G} {ad : Nat → Nat} {cA : Nat → ClassId} {sA ta ba na : Nat → Nat} {gi : Nat → Option Nat} {rh : Option Nat} {rt : Option Nat} {g_sort : Int32} {g_size : Int32} {g_from : Int32} {g_to : Int32} {g_level : Int32} {g_full : Int32} {a_tape : Nat → Int32} {a_hAt : Nat → Int32} {a_hMany : Nat → Int32} {a_tAt : Nat → Int32} {a_tMany : Nat → Int32} {a_least : Nat → Int32} {a_place : Nat → Int32} {a_to : Nat → Int32} {a_order : Nat → Int32} {a_fails : Nat → Int32} {a_sKeys : Nat → Int64} {a_sRow : Nat → Int64} {a_sSlots : Nat → Int32} {a_bKeys : Nat → Int64} {a_bRow : Nat → Int64} {a_bSlots : Nat → Int32} {a_easy : Nat → Int32} {a_wants : Nat → Int32} {a_wantedBy : Nat → Int32} {a_ring : Nat → Int32} {a_carried : Nat → Int32} {a_latest : Nat → Int32} {v_taped : Int32} {v_faultKind : Int32} {v_faultPlace : Int32} {v_x : Int32} {v_ordered : Int32} {v_sought : Int32} {v_lastSought : Int32} {v_hMoved : Int32} {v_hWithout : Int32} {v_tMoved : Int32} {v_tWithout : Int32} {v_places : Int32} {v_elsewhere : Int32} {v_sMany : Int32} {v_bMany : Int32} {v_year : Int32} {y_lies : Int64} {a_rsort : Nat → Int32} {a_rmany : Nat → Int32} {a_nums : Nat → Nat → Int64} {t : Nat → Int32} {nb : Int32} {bv : Nat → Int32 → Int32 → Int32 → Int32 → Int32 → Int32 → Bool} {pl : va_W}  {p1 : Int64} {res : Bool} {E : EvT} (hE : EvN E) (hPO : PO cA pl ta ba t nb bv) (hF : FX6_has a_sKeys p1 = some res) : MX l yX6_has (ws_ yX6_has cX6_has 3 (Option.some Jvm.ClassFile.FieldType.boolean)) rm_X6_has_s D vwA (cT cA) E [.ref (ad 16), .long p1] (cW ad cA sA ta ba na gi rh rt g_sort g_size g_from g_to g_level g_full a_tape a_hAt a_hMany a_tAt a_tMany a_least a_place a_to a_order a_fails a_sKeys a_sRow a_sSlots a_bKeys a_bRow a_bSlots a_easy a_wants a_wantedBy a_ring a_carried a_latest v_taped v_faultKind v_faultPlace v_x v_ordered v_sought v_lastSought v_hMoved v_hWithout v_tMoved v_tWithout v_places v_elsewhere v_sMany v_bMany v_year y_lies a_rsort a_rmany a_nums pl) (fun z => z = (cW ad cA sA ta ba na gi rh rt g_sort g_size g_from g_to g_level g_full a_tape a_hAt a_hMany a_tAt a_tMany a_least a_place a_to a_order a_fails a_sKeys a_sRow a_sSlots a_bKeys a_bRow a_bSlots a_easy a_wants a_wantedBy a_ring a_carried a_latest v_taped v_faultKind v_faultPlace v_x v_ordered v_sought v_lastSought v_hMoved v_hWithout v_tMoved v_tWithout v_places v_elsewhere v_sMany v_bMany v_year y_lies a_rsort a_rmany a_nums pl)) (some (.int (b2i res))) := by
  refine MX.ofZ (by decide) (Nat.le_of_ble_eq_true rfl) ?_
  intro p e s m args below meth c Q A hX hK hE0 hname hret H locs ls hH hl
  have hX : CallFix p m c cX6_has 3 s args lw_all RX6 := hX
  have hx := hX.1
  have hb := hX.2.1
  have hown := hX.2.2.2.1
  have hts := hX.2.2.2.2
  have hl : lv_has ls 3 [(0, .ref (ad 16)), (1, .long p1)] := hl
  have hEv := hE.1
  have hNW := hE.2.1 _ _ _ hE0
  have hT := hPO.1
  have hB := hPO.2
  delta FX6_has at hF
  refine lv_aload_n hx hb dX6_has_0 rfl (lv_at hl 0 rfl) ?_
  refine cg_Y_Table_tabs_keys hX hK hNW hH dX6_has_1 ?_
  refine lv_aload_n hx hb dX6_has_4 rfl (lv_at hl 0 rfl) ?_
  refine lv_lload_n hx hb dX6_has_5 rfl (lv_at hl 1 rfl) ?_
  obtain ⟨x_55, he, hF⟩ := bd1e hF
  refine mxV hX hK hEv hE0 hH (met_X6_slot_s hE hPO he) (crecv hK hH 16 6 rfl rfl) gw_StoneYear_Table_28 hd_yX6_slot ⟨Nat.le_of_ble_eq_true rfl, Nat.le_of_ble_eq_true rfl⟩ rfl rfl hl (Nat.le_of_ble_eq_true rfl) dX6_has_6 ⟨Nat.le_of_ble_eq_true rfl, Nat.le_of_ble_eq_true rfl⟩ (fun w2 H locs hw hH => ?_)
  subst hw
  obtain ⟨y_56, he, hF⟩ := bd1e hF
  refine cl_sKeys hX hK hH he dX6_has_9 ?_
  refine lv_lconst (v := 0) hx hb dX6_has_10 rfl ?_
  refine W.lcmp hx hb dX6_has_11 ?_
  refine lv_if_eq (tgt := 19) hx hb dX6_has_12 rfl (fun c_57 => ?_) (fun c_57 => ?_)
  · have hF := itp c_57 hF
    refine lv_iconst (v := 0) hx hb dX6_has_19 kyi_0 ?_
    obtain rfl := Option.some.inj hF
    exact hret _ _ _ _ _ rfl hH dX6_has_20
  · have hF := itn c_57 hF
    refine lv_iconst (v := 1) hx hb dX6_has_15 kyi_1 ?_
    refine lv_goto (tgt := 20) hx hb dX6_has_16 rfl ?_
    obtain rfl := Option.some.inj hF
    exact hret _ _ _ _ _ rfl hH dX6_has_20
abbrev rm_X6_has_b : Room := { frames := 1, cells := 0, slots := 0, locals := 25 }
set_option maxHeartbeats 4000000 in
theorem met_X6_has_b {l : Launch} {D : va_G} {ad : Nat → Nat} {cA : Nat → ClassId} {sA ta ba na : Nat → Nat} {gi : Nat → Option Nat} {rh : Option Nat} {rt : Option Nat} {g_sort : Int32} {g_size : Int32} {g_from : Int32} {g_to : Int32} {g_level : Int32} {g_full : Int32} {a_tape : Nat → Int32} {a_hAt : Nat → Int32} {a_hMany : Nat → Int32} {a_tAt : Nat → Int32} {a_tMany : Nat → Int32} {a_least : Nat → Int32} {a_place : Nat → Int32} {a_to : Nat → Int32} {a_order : Nat → Int32} {a_fails : Nat → Int32} {a_sKeys : Nat → Int64} {a_sRow : Nat → Int64} {a_sSlots : Nat → Int32} {a_bKeys : Nat → Int64} {a_bRow : Nat → Int64} {a_bSlots : Nat → Int32} {a_easy : Nat → Int32} {a_wants : Nat → Int32} {a_wantedBy : Nat → Int32} {a_ring : Nat → Int32} {a_carried : Nat → Int32} {a_latest : Nat → Int32} {v_taped : Int32} {v_faultKind : Int32} {v_faultPlace : Int32} {v_x : Int32} {v_ordered : Int32} {v_sought : Int32} {v_lastSought : Int32} {v_hMoved : Int32} {v_hWithout : Int32} {v_tMoved : Int32} {v_tWithout : Int32} {v_places : Int32} {v_elsewhere : Int32} {v_sMany : Int32} {v_bMany : Int32} {v_year : Int32} {y_lies : Int64} {a_rsort : Nat → Int32} {a_rmany : Nat → Int32} {a_nums : Nat → Nat → Int64} {t : Nat → Int32} {nb : Int32} {bv : Nat → Int32 → Int32 → Int32 → Int32 → Int32 → Int32 → Bool} {pl : va_W}  {p1 : Int64} {res : Bool} {E : EvT} (hE : EvN E) (hPO : PO cA pl ta ba t nb bv) (hF : FX6_has a_bKeys p1 = some res) : MX l yX6_has (ws_ yX6_has cX6_has 3 (Option.some Jvm.ClassFile.FieldType.boolean)) rm_X6_has_b D vwA (cT cA) E [.ref (ad 20), .long p1] (cW ad cA sA ta ba na gi rh rt g_sort g_size g_from g_to g_level g_full a_tape a_hAt a_hMany a_tAt a_tMany a_least a_place a_to a_order a_fails a_sKeys a_sRow a_sSlots a_bKeys a_bRow a_bSlots a_easy a_wants a_wantedBy a_ring a_carried a_latest v_taped v_faultKind v_faultPlace v_x v_ordered v_sought v_lastSought v_hMoved v_hWithout v_tMoved v_tWithout v_places v_elsewhere v_sMany v_bMany v_year y_lies a_rsort a_rmany a_nums pl) (fun z => z = (cW ad cA sA ta ba na gi rh rt g_sort g_size g_from g_to g_level g_full a_tape a_hAt a_hMany a_tAt a_tMany a_least a_place a_to a_order a_fails a_sKeys a_sRow a_sSlots a_bKeys a_bRow a_bSlots a_easy a_wants a_wantedBy a_ring a_carried a_latest v_taped v_faultKind v_faultPlace v_x v_ordered v_sought v_lastSought v_hMoved v_hWithout v_tMoved v_tWithout v_places v_elsewhere v_sMany v_bMany v_year y_lies a_rsort a_rmany a_nums pl)) (some (.int (b2i res))) := by
  refine MX.ofZ (by decide) (Nat.le_of_ble_eq_true rfl) ?_
  intro p e s m args below meth c Q A hX hK hE0 hname hret H locs ls hH hl
  have hX : CallFix p m c cX6_has 3 s args lw_all RX6 := hX
  have hx := hX.1
  have hb := hX.2.1
  have hown := hX.2.2.2.1
  have hts := hX.2.2.2.2
  have hl : lv_has ls 3 [(0, .ref (ad 20)), (1, .long p1)] := hl
  have hEv := hE.1
  have hNW := hE.2.1 _ _ _ hE0
  have hT := hPO.1
  have hB := hPO.2
  delta FX6_has at hF
  refine lv_aload_n hx hb dX6_has_0 rfl (lv_at hl 0 rfl) ?_
  refine cg_Y_Table_tabb_keys hX hK hNW hH dX6_has_1 ?_
  refine lv_aload_n hx hb dX6_has_4 rfl (lv_at hl 0 rfl) ?_
  refine lv_lload_n hx hb dX6_has_5 rfl (lv_at hl 1 rfl) ?_
  obtain ⟨x_55, he, hF⟩ := bd1e hF
  refine mxV hX hK hEv hE0 hH (met_X6_slot_b hE hPO he) (crecv hK hH 20 6 rfl rfl) gw_StoneYear_Table_28 hd_yX6_slot ⟨Nat.le_of_ble_eq_true rfl, Nat.le_of_ble_eq_true rfl⟩ rfl rfl hl (Nat.le_of_ble_eq_true rfl) dX6_has_6 ⟨Nat.le_of_ble_eq_true rfl, Nat.le_of_ble_eq_true rfl⟩ (fun w2 H locs hw hH => ?_)
  subst hw
  obtain ⟨y_56, he, hF⟩ := bd1e hF
  refine cl_bKeys hX hK hH he dX6_has_9 ?_
  refine lv_lconst (v := 0) hx hb dX6_has_10 rfl ?_
  refine W.lcmp hx hb dX6_has_11 ?_
  refine lv_if_eq (tgt := 19) hx hb dX6_has_12 rfl (fun c_57 => ?_) (fun c_57 => ?_)
  · have hF := itp c_57 hF
    refine lv_iconst (v := 0) hx hb dX6_has_19 kyi_0 ?_
    obtain rfl := Option.some.inj hF
    exact hret _ _ _ _ _ rfl hH dX6_has_20
  · have hF := itn c_57 hF
    refine lv_iconst (v := 1) hx hb dX6_has_15 kyi_1 ?_
    refine lv_goto (tgt := 20) hx hb dX6_has_16 rfl ?_
    obtain rfl := Option.some.inj hF
    exact hret _ _ _ _ _ rfl hH dX6_has_20
abbrev rm_X0_begins : Room := { frames := 2, cells := 0, slots := 0, locals := 48 }
set_option maxHeartbeats 4000000 in
theorem met_X0_begins {l : Launch} {D : va_G} {ad : Nat → Nat} {cA : Nat → ClassId} {sA ta ba na : Nat → Nat} {gi : Nat → Option Nat} {rh : Option Nat} {rt : Option Nat} {g_sort : Int32} {g_size : Int32} {g_from : Int32} {g_to : Int32} {g_level : Int32} {g_full : Int32} {a_tape : Nat → Int32} {a_hAt : Nat → Int32} {a_hMany : Nat → Int32} {a_tAt : Nat → Int32} {a_tMany : Nat → Int32} {a_least : Nat → Int32} {a_place : Nat → Int32} {a_to : Nat → Int32} {a_order : Nat → Int32} {a_fails : Nat → Int32} {a_sKeys : Nat → Int64} {a_sRow : Nat → Int64} {a_sSlots : Nat → Int32} {a_bKeys : Nat → Int64} {a_bRow : Nat → Int64} {a_bSlots : Nat → Int32} {a_easy : Nat → Int32} {a_wants : Nat → Int32} {a_wantedBy : Nat → Int32} {a_ring : Nat → Int32} {a_carried : Nat → Int32} {a_latest : Nat → Int32} {v_taped : Int32} {v_faultKind : Int32} {v_faultPlace : Int32} {v_x : Int32} {v_ordered : Int32} {v_sought : Int32} {v_lastSought : Int32} {v_hMoved : Int32} {v_hWithout : Int32} {v_tMoved : Int32} {v_tWithout : Int32} {v_places : Int32} {v_elsewhere : Int32} {v_sMany : Int32} {v_bMany : Int32} {v_year : Int32} {y_lies : Int64} {a_rsort : Nat → Int32} {a_rmany : Nat → Int32} {a_nums : Nat → Nat → Int64} {t : Nat → Int32} {nb : Int32} {bv : Nat → Int32 → Int32 → Int32 → Int32 → Int32 → Int32 → Bool} {pl : va_W}   {res : Bool} {ra_sKeys : Nat → Int64} {ra_sRow : Nat → Int64} {ra_sSlots : Nat → Int32} {ra_bKeys : Nat → Int64} {ra_bRow : Nat → Int64} {ra_bSlots : Nat → Int32} {rv_sMany : Int32} {rv_bMany : Int32} {E : EvT} (hE : EvN E) (hPO : PO cA pl ta ba t nb bv) (hF : FX0_begins a_sKeys a_sRow a_sSlots a_bKeys a_bRow a_bSlots v_sMany v_bMany = some (res, ra_sKeys, ra_sRow, ra_sSlots, ra_bKeys, ra_bRow, ra_bSlots, rv_sMany, rv_bMany)) : MX l yX0_begins (ws_ yX0_begins cX0_begins 5 (Option.some Jvm.ClassFile.FieldType.boolean)) rm_X0_begins D vwA (cT cA) E [.ref (ad 0)] (cW ad cA sA ta ba na gi rh rt g_sort g_size g_from g_to g_level g_full a_tape a_hAt a_hMany a_tAt a_tMany a_least a_place a_to a_order a_fails a_sKeys a_sRow a_sSlots a_bKeys a_bRow a_bSlots a_easy a_wants a_wantedBy a_ring a_carried a_latest v_taped v_faultKind v_faultPlace v_x v_ordered v_sought v_lastSought v_hMoved v_hWithout v_tMoved v_tWithout v_places v_elsewhere v_sMany v_bMany v_year y_lies a_rsort a_rmany a_nums pl) (fun z => z = (cW ad cA sA ta ba na gi rh rt g_sort g_size g_from g_to g_level g_full a_tape a_hAt a_hMany a_tAt a_tMany a_least a_place a_to a_order a_fails ra_sKeys ra_sRow ra_sSlots ra_bKeys ra_bRow ra_bSlots a_easy a_wants a_wantedBy a_ring a_carried a_latest v_taped v_faultKind v_faultPlace v_x v_ordered v_sought v_lastSought v_hMoved v_hWithout v_tMoved v_tWithout v_places v_elsewhere rv_sMany rv_bMany v_year y_lies a_rsort a_rmany a_nums pl)) (some (.int (b2i res))) := by
  refine MX.ofZ (by decide) (Nat.le_of_ble_eq_true rfl) ?_
  intro p e s m args below meth c Q A hX hK hE0 hname hret H locs ls hH hl
  have hX : CallFix p m c cX0_begins 5 s args lw_all RX0 := hX
  have hx := hX.1
  have hb := hX.2.1
  have hown := hX.2.2.2.1
  have hts := hX.2.2.2.2
  have hl : lv_has ls 5 [(0, .ref (ad 0))] := hl
  have hEv := hE.1
  have hNW := hE.2.1 _ _ _ hE0
  have hT := hPO.1
  have hB := hPO.2
  delta FX0_begins at hF
  refine lv_aload_n hx hb dX0_begins_0 rfl (lv_at hl 0 rfl) ?_
  refine cg_Y_this_begun hX hK hNW hH dX0_begins_1 ?_
  refine cg_Y_tabb_many hX hK hNW hH dX0_begins_4 ?_
  refine lv_istore_n (lv' := [(1, .int v_bMany), (0, .ref (ad 0))]) hx hb dX0_begins_7 rfl hl (by decide) rfl (fun ls hl => ?_)
  refine lv_iconst (v := 0) hx hb dX0_begins_8 kyi_0 ?_
  refine lv_istore_n (lv' := [(2, .int 0), (1, .int v_bMany), (0, .ref (ad 0))]) hx hb dX0_begins_9 rfl hl (by decide) rfl (fun ls hl => ?_)
  obtain ⟨xx10, ee10, kk10_0⟩ := bd4L hF
  have k10_0 : ∀ (a_bKeys_89 : Nat → Int64) (a_bRow_90 : Nat → Int64) (a_bSlots_91 : Nat → Int32) (v_bMany_92 : Int32), xx10 = (a_bKeys_89, a_bRow_90, a_bSlots_91, v_bMany_92) → ∀ (H : Heap) (locs : List Loc) (ls : Array Slot), MH D vwA A s.heap (cW ad cA sA ta ba na gi rh rt g_sort g_size g_from g_to g_level g_full a_tape a_hAt a_hMany a_tAt a_tMany a_least a_place a_to a_order a_fails a_sKeys a_sRow a_sSlots a_bKeys_89 a_bRow_90 a_bSlots_91 a_easy a_wants a_wantedBy a_ring a_carried a_latest v_taped v_faultKind v_faultPlace v_x v_ordered v_sought v_lastSought v_hMoved v_hWithout v_tMoved v_tWithout v_places v_elsewhere v_sMany v_bMany_92 v_year y_lies a_rsort a_rmany a_nums pl) H locs → lv_has ls 5 [(0, .ref (ad 0)), (1, .int v_bMany)] → W p l e rm_X0_begins s m args below meth c H locs 0 0 Q (F0 m 73 ls []) := by
    intro a_bKeys_89 a_bRow_90 a_bSlots_91 v_bMany_92 hxx H locs ls hH hl
    have hF := un4e (kk10_0 (a_bKeys_89, a_bRow_90, a_bSlots_91, v_bMany_92) hxx)
    refine lv_aload_n hx hb dX0_begins_73 rfl (lv_at hl 0 rfl) ?_
    refine cg_Y_this_states hX hK hNW hH dX0_begins_74 ?_
    obtain ⟨a_sKeys_93, v_sMany_94, he, hF⟩ := bd2e hF
    refine mxV hX hK hEv hE0 hH (met_X6_clears_s hE hPO he) (crecv hK hH 16 6 rfl rfl) gw_StoneYear_397 hd_yX6_clears ⟨Nat.le_of_ble_eq_true rfl, Nat.le_of_ble_eq_true rfl⟩ rfl rfl hl (Nat.le_of_ble_eq_true rfl) dX0_begins_77 ⟨Nat.le_of_ble_eq_true rfl, Nat.le_of_ble_eq_true rfl⟩ (fun w2 H locs hw hH => ?_)
    subst hw
    refine lv_iload_n hx hb dX0_begins_80 rfl (lv_at hl 1 rfl) ?_
    refine lv_istore_n (lv' := [(2, .int v_bMany), (0, .ref (ad 0)), (1, .int v_bMany)]) hx hb dX0_begins_81 rfl hl (by decide) rfl (fun ls hl => ?_)
    obtain ⟨xx82, ee82, kk82_0⟩ := bd4L hF
    have k82_0 : ∀ (a_sKeys_114 : Nat → Int64) (a_sRow_115 : Nat → Int64) (a_sSlots_116 : Nat → Int32) (v_sMany_117 : Int32), xx82 = (a_sKeys_114, a_sRow_115, a_sSlots_116, v_sMany_117) → ∀ (H : Heap) (locs : List Loc) (ls : Array Slot), MH D vwA A s.heap (cW ad cA sA ta ba na gi rh rt g_sort g_size g_from g_to g_level g_full a_tape a_hAt a_hMany a_tAt a_tMany a_least a_place a_to a_order a_fails a_sKeys_114 a_sRow_115 a_sSlots_116 a_bKeys_89 a_bRow_90 a_bSlots_91 a_easy a_wants a_wantedBy a_ring a_carried a_latest v_taped v_faultKind v_faultPlace v_x v_ordered v_sought v_lastSought v_hMoved v_hWithout v_tMoved v_tWithout v_places v_elsewhere v_sMany_117 v_bMany_92 v_year y_lies a_rsort a_rmany a_nums pl) H locs → lv_has ls 5 [(0, .ref (ad 0)), (1, .int v_bMany)] → W p l e rm_X0_begins s m args below meth c H locs 0 0 Q (F0 m 116 ls []) := by
      intro a_sKeys_114 a_sRow_115 a_sSlots_116 v_sMany_117 hxx H locs ls hH hl
      have hF := un4e (kk82_0 (a_sKeys_114, a_sRow_115, a_sSlots_116, v_sMany_117) hxx)
      refine lv_aload_n hx hb dX0_begins_116 rfl (lv_at hl 0 rfl) ?_
      refine cg_Y_this_begun hX hK hNW hH dX0_begins_117 ?_
      refine cg_Y_tabb_many hX hK hNW hH dX0_begins_120 ?_
      refine lv_iload_n hx hb dX0_begins_123 rfl (lv_at hl 1 rfl) ?_
      refine lv_icmp_le (tgt := 131) hx hb dX0_begins_124 rfl (fun c_118 => ?_) (fun c_118 => ?_)
      · have hF := itp c_118 hF
        refine lv_iconst (v := 0) hx hb dX0_begins_131 kyi_0 ?_
        obtain ⟨rfl, rfl, rfl, rfl, rfl, rfl, rfl, rfl, rfl⟩ := re9 hF
        exact hret _ _ _ _ _ rfl hH dX0_begins_132
      · have hF := itn c_118 hF
        refine lv_iconst (v := 1) hx hb dX0_begins_127 kyi_1 ?_
        refine lv_goto (tgt := 132) hx hb dX0_begins_128 rfl ?_
        obtain ⟨rfl, rfl, rfl, rfl, rfl, rfl, rfl, rfl, rfl⟩ := re9 hF
        exact hret _ _ _ _ _ rfl hH dX0_begins_132
    obtain ⟨nn82, en82⟩ := loopC_some ee82
    have l82 : ∀ (n : Nat) (x_102 : Int32) (a_sKeys_103 : Nat → Int64) (a_sRow_104 : Nat → Int64) (a_sSlots_105 : Nat → Int32) (v_sMany_106 : Int32), loopN (fun s => FX0_begins_b82 a_bRow_90 v_bMany_92 s.1 s.2.1 s.2.2.1 s.2.2.2.1 s.2.2.2.2) n (x_102, a_sKeys_103, a_sRow_104, a_sSlots_105, v_sMany_106) = some xx82 → ∀ (H : Heap) (locs : List Loc) (ls : Array Slot), MH D vwA A s.heap (cW ad cA sA ta ba na gi rh rt g_sort g_size g_from g_to g_level g_full a_tape a_hAt a_hMany a_tAt a_tMany a_least a_place a_to a_order a_fails a_sKeys_103 a_sRow_104 a_sSlots_105 a_bKeys_89 a_bRow_90 a_bSlots_91 a_easy a_wants a_wantedBy a_ring a_carried a_latest v_taped v_faultKind v_faultPlace v_x v_ordered v_sought v_lastSought v_hMoved v_hWithout v_tMoved v_tWithout v_places v_elsewhere v_sMany_106 v_bMany_92 v_year y_lies a_rsort a_rmany a_nums pl) H locs → lv_has ls 5 [(0, .ref (ad 0)), (1, .int v_bMany), (2, .int x_102)] → W p l e rm_X0_begins s m args below meth c H locs 0 0 Q (F0 m 82 ls []) := by
      intro n
      induction n with
      | zero =>
        intro x_102 a_sKeys_103 a_sRow_104 a_sSlots_105 v_sMany_106 hN
        exact absurd hN loopN_zero
      | succ n ih =>
        intro x_102 a_sKeys_103 a_sRow_104 a_sSlots_105 v_sMany_106 hN H locs ls hH hl
        obtain ⟨yy82, hB82, hY82⟩ := loopN_succ hN
        have hF : FX0_begins_b82 a_bRow_90 v_bMany_92 x_102 a_sKeys_103 a_sRow_104 a_sSlots_105 v_sMany_106 = some yy82 := hB82
        delta FX0_begins_b82 at hF
        refine lv_iload_n hx hb dX0_begins_82 rfl (lv_at hl 2 rfl) ?_
        refine lv_aload_n hx hb dX0_begins_83 rfl (lv_at hl 0 rfl) ?_
        refine cg_Y_this_begun hX hK hNW hH dX0_begins_84 ?_
        refine cg_Y_tabb_many hX hK hNW hH dX0_begins_87 ?_
        refine lv_icmp_ge (tgt := 116) hx hb dX0_begins_90 rfl (fun c_107 => ?_) (fun c_107 => ?_)
        · have hF := itp c_107 hF
          obtain rfl := Option.some.inj hF
          exact k82_0 a_sKeys_103 a_sRow_104 a_sSlots_105 v_sMany_106 hY82 _ _ _ hH (lv_sub hl [0, 1] rfl)
        · have hF := itn c_107 hF
          refine lv_aload_n hx hb dX0_begins_93 rfl (lv_at hl 0 rfl) ?_
          refine cg_Y_this_states hX hK hNW hH dX0_begins_94 ?_
          refine lv_aload_n hx hb dX0_begins_97 rfl (lv_at hl 0 rfl) ?_
          refine cg_Y_this_begun hX hK hNW hH dX0_begins_98 ?_
          refine cg_Y_tabb_row hX hK hNW hH dX0_begins_101 ?_
          refine lv_iload_n hx hb dX0_begins_104 rfl (lv_at hl 2 rfl) ?_
          obtain ⟨y_108, he, hF⟩ := bd1e hF
          refine cl_bRow hX hK hH he dX0_begins_105 ?_
          obtain ⟨b_109, a_sKeys_110, a_sRow_111, a_sSlots_112, v_sMany_113, he, hF⟩ := bd5e hF
          refine mxV hX hK hEv hE0 hH (met_X6_adds_s hE hPO he) (crecv hK hH 16 6 rfl rfl) gw_StoneYear_391 hd_yX6_adds ⟨Nat.le_of_ble_eq_true rfl, Nat.le_of_ble_eq_true rfl⟩ rfl rfl hl (Nat.le_of_ble_eq_true rfl) dX0_begins_106 ⟨Nat.le_of_ble_eq_true rfl, Nat.le_of_ble_eq_true rfl⟩ (fun w2 H locs hw hH => ?_)
          subst hw
          refine lv_pop hx hb dX0_begins_109 rfl ?_
          refine lv_iinc (v := (x_102 + 1)) (lv' := [(2, .int (x_102 + 1)), (0, .ref (ad 0)), (1, .int v_bMany)]) hx hb dX0_begins_110 hl (k := 2) rfl (syc kyi_1) (by decide) rfl (fun ls hl => ?_)
          refine lv_goto (tgt := 82) hx hb dX0_begins_113 rfl ?_
          obtain rfl := Option.some.inj hF
          exact ih (x_102 + 1) a_sKeys_110 a_sRow_111 a_sSlots_112 v_sMany_113 hY82 _ _ _ hH (lv_sub hl [1, 2, 0] rfl)
    exact l82 nn82 v_bMany a_sKeys_93 a_sRow a_sSlots v_sMany_94 en82 _ _ _ hH (lv_sub hl [1, 2, 0] rfl)
  obtain ⟨nn10, en10⟩ := loopC_some ee10
  have l10 : ∀ (n : Nat) (x_69 : Int32) (a_bKeys_70 : Nat → Int64) (a_bRow_71 : Nat → Int64) (a_bSlots_72 : Nat → Int32) (v_bMany_73 : Int32), loopN (fun s => FX0_begins_b10 a_sRow v_sMany s.1 s.2.1 s.2.2.1 s.2.2.2.1 s.2.2.2.2) n (x_69, a_bKeys_70, a_bRow_71, a_bSlots_72, v_bMany_73) = some xx10 → ∀ (H : Heap) (locs : List Loc) (ls : Array Slot), MH D vwA A s.heap (cW ad cA sA ta ba na gi rh rt g_sort g_size g_from g_to g_level g_full a_tape a_hAt a_hMany a_tAt a_tMany a_least a_place a_to a_order a_fails a_sKeys a_sRow a_sSlots a_bKeys_70 a_bRow_71 a_bSlots_72 a_easy a_wants a_wantedBy a_ring a_carried a_latest v_taped v_faultKind v_faultPlace v_x v_ordered v_sought v_lastSought v_hMoved v_hWithout v_tMoved v_tWithout v_places v_elsewhere v_sMany v_bMany_73 v_year y_lies a_rsort a_rmany a_nums pl) H locs → lv_has ls 5 [(0, .ref (ad 0)), (1, .int v_bMany), (2, .int x_69)] → W p l e rm_X0_begins s m args below meth c H locs 0 0 Q (F0 m 10 ls []) := by
    intro n
    induction n with
    | zero =>
      intro x_69 a_bKeys_70 a_bRow_71 a_bSlots_72 v_bMany_73 hN
      exact absurd hN loopN_zero
    | succ n ih =>
      intro x_69 a_bKeys_70 a_bRow_71 a_bSlots_72 v_bMany_73 hN H locs ls hH hl
      obtain ⟨yy10, hB10, hY10⟩ := loopN_succ hN
      have hF : FX0_begins_b10 a_sRow v_sMany x_69 a_bKeys_70 a_bRow_71 a_bSlots_72 v_bMany_73 = some yy10 := hB10
      delta FX0_begins_b10 at hF
      refine lv_iload_n hx hb dX0_begins_10 rfl (lv_at hl 2 rfl) ?_
      refine lv_aload_n hx hb dX0_begins_11 rfl (lv_at hl 0 rfl) ?_
      refine cg_Y_this_states hX hK hNW hH dX0_begins_12 ?_
      refine cg_Y_tabs_many hX hK hNW hH dX0_begins_15 ?_
      refine lv_icmp_ge (tgt := 73) hx hb dX0_begins_18 rfl (fun c_74 => ?_) (fun c_74 => ?_)
      · have hF := itp c_74 hF
        obtain rfl := Option.some.inj hF
        exact k10_0 a_bKeys_70 a_bRow_71 a_bSlots_72 v_bMany_73 hY10 _ _ _ hH (lv_sub hl [0, 1] rfl)
      · have hF := itn c_74 hF
        refine lv_aload_n hx hb dX0_begins_21 rfl (lv_at hl 0 rfl) ?_
        refine cg_Y_this_begun hX hK hNW hH dX0_begins_22 ?_
        refine cg_Y_tabb_many hX hK hNW hH dX0_begins_25 ?_
        refine lv_sipush (v := 6000) hx hb dX0_begins_28 kys_6000 ?_
        refine lv_icmp_gt (tgt := 73) hx hb dX0_begins_31 rfl (fun c_75 => ?_) (fun c_75 => ?_)
        · have hF := itp c_75 hF
          obtain rfl := Option.some.inj hF
          exact k10_0 a_bKeys_70 a_bRow_71 a_bSlots_72 v_bMany_73 hY10 _ _ _ hH (lv_sub hl [0, 1] rfl)
        · have hF := itn c_75 hF
          refine lv_aload_n hx hb dX0_begins_34 rfl (lv_at hl 0 rfl) ?_
          refine cg_Y_this_states hX hK hNW hH dX0_begins_35 ?_
          refine cg_Y_tabs_row hX hK hNW hH dX0_begins_38 ?_
          refine lv_iload_n hx hb dX0_begins_41 rfl (lv_at hl 2 rfl) ?_
          obtain ⟨y_76, he, hF⟩ := bd1e hF
          refine cl_sRow hX hK hH he dX0_begins_42 ?_
          obtain ⟨y_77, he, hF⟩ := bd1e hF
          refine mxS hX hK hEv hE0 hH (met_X0_resting hE hPO he) gw_StoneYear_255 hd_yX0_resting ⟨Nat.le_of_ble_eq_true rfl, Nat.le_of_ble_eq_true rfl⟩ rfl rfl hl (Nat.le_of_ble_eq_true rfl) dX0_begins_43 ⟨Nat.le_of_ble_eq_true rfl, Nat.le_of_ble_eq_true rfl⟩ (fun w2 H locs hw hH => ?_)
          subst hw
          refine lv_lstore_n (lv' := [(3, .long y_77), (0, .ref (ad 0)), (1, .int v_bMany), (2, .int x_69)]) hx hb dX0_begins_46 rfl hl (by decide) rfl (fun ls hl => ?_)
          refine lv_aload_n hx hb dX0_begins_47 rfl (lv_at hl 1 rfl) ?_
          refine cg_Y_this_begun hX hK hNW hH dX0_begins_48 ?_
          refine lv_lload_n hx hb dX0_begins_51 rfl (lv_at hl 0 rfl) ?_
          obtain ⟨b_78, he, hF⟩ := bd1e hF
          refine mxV hX hK hEv hE0 hH (met_X6_has_b hE hPO he) (crecv hK hH 20 6 rfl rfl) gw_StoneYear_395 hd_yX6_has ⟨Nat.le_of_ble_eq_true rfl, Nat.le_of_ble_eq_true rfl⟩ rfl rfl hl (Nat.le_of_ble_eq_true rfl) dX0_begins_52 ⟨Nat.le_of_ble_eq_true rfl, Nat.le_of_ble_eq_true rfl⟩ (fun w2 H locs hw hH => ?_)
          subst hw
          have j67 : ∀ (a_bKeys_85 : Nat → Int64) (a_bRow_86 : Nat → Int64) (a_bSlots_87 : Nat → Int32) (v_bMany_88 : Int32), FX0_begins_j67 x_69 a_bKeys_85 a_bRow_86 a_bSlots_87 v_bMany_88 = some yy10 → ∀ (H : Heap) (locs : List Loc) (ls : Array Slot), MH D vwA A s.heap (cW ad cA sA ta ba na gi rh rt g_sort g_size g_from g_to g_level g_full a_tape a_hAt a_hMany a_tAt a_tMany a_least a_place a_to a_order a_fails a_sKeys a_sRow a_sSlots a_bKeys_85 a_bRow_86 a_bSlots_87 a_easy a_wants a_wantedBy a_ring a_carried a_latest v_taped v_faultKind v_faultPlace v_x v_ordered v_sought v_lastSought v_hMoved v_hWithout v_tMoved v_tWithout v_places v_elsewhere v_sMany v_bMany_88 v_year y_lies a_rsort a_rmany a_nums pl) H locs → lv_has ls 5 [(0, .ref (ad 0)), (1, .int v_bMany), (2, .int x_69)] → W p l e rm_X0_begins s m args below meth c H locs 0 0 Q (F0 m 67 ls []) := by
            intro a_bKeys_85 a_bRow_86 a_bSlots_87 v_bMany_88 hF H locs ls hH hl
            delta FX0_begins_j67 at hF
            refine lv_iinc (v := (x_69 + 1)) (lv' := [(2, .int (x_69 + 1)), (0, .ref (ad 0)), (1, .int v_bMany)]) hx hb dX0_begins_67 hl (k := 2) rfl (syc kyi_1) (by decide) rfl (fun ls hl => ?_)
            refine lv_goto (tgt := 10) hx hb dX0_begins_70 rfl ?_
            obtain rfl := Option.some.inj hF
            exact ih (x_69 + 1) a_bKeys_85 a_bRow_86 a_bSlots_87 v_bMany_88 hY10 _ _ _ hH (lv_sub hl [1, 2, 0] rfl)
          refine lv_if_ne (tgt := 67) hx hb dX0_begins_55 rfl (fun c_79 => ?_) (fun c_79 => ?_)
          · have hF := itn c_79 hF
            exact j67 a_bKeys_70 a_bRow_71 a_bSlots_72 v_bMany_73 hF _ _ _ hH (lv_sub hl [1, 2, 3] rfl)
          · have hF := itp c_79 hF
            refine lv_aload_n hx hb dX0_begins_58 rfl (lv_at hl 1 rfl) ?_
            refine cg_Y_this_begun hX hK hNW hH dX0_begins_59 ?_
            refine lv_lload_n hx hb dX0_begins_62 rfl (lv_at hl 0 rfl) ?_
            obtain ⟨b_80, a_bKeys_81, a_bRow_82, a_bSlots_83, v_bMany_84, he, hF⟩ := bd5e hF
            refine mxV hX hK hEv hE0 hH (met_X6_adds_b hE hPO he) (crecv hK hH 20 6 rfl rfl) gw_StoneYear_391 hd_yX6_adds ⟨Nat.le_of_ble_eq_true rfl, Nat.le_of_ble_eq_true rfl⟩ rfl rfl hl (Nat.le_of_ble_eq_true rfl) dX0_begins_63 ⟨Nat.le_of_ble_eq_true rfl, Nat.le_of_ble_eq_true rfl⟩ (fun w2 H locs hw hH => ?_)
            subst hw
            refine lv_pop hx hb dX0_begins_66 rfl ?_
            exact j67 a_bKeys_81 a_bRow_82 a_bSlots_83 v_bMany_84 hF _ _ _ hH (lv_sub hl [1, 2, 3] rfl)
  exact l10 nn10 0 a_bKeys a_bRow a_bSlots v_bMany en10 _ _ _ hH (lv_sub hl [2, 1, 0] rfl)
abbrev rm_X0_comes : Room := { frames := 2, cells := 0, slots := 0, locals := 48 }
set_option maxHeartbeats 4000000 in
theorem met_X0_comes {l : Launch} {D : va_G} {ad : Nat → Nat} {cA : Nat → ClassId} {sA ta ba na : Nat → Nat} {gi : Nat → Option Nat} {rh : Option Nat} {rt : Option Nat} {g_sort : Int32} {g_size : Int32} {g_from : Int32} {g_to : Int32} {g_level : Int32} {g_full : Int32} {a_tape : Nat → Int32} {a_hAt : Nat → Int32} {a_hMany : Nat → Int32} {a_tAt : Nat → Int32} {a_tMany : Nat → Int32} {a_least : Nat → Int32} {a_place : Nat → Int32} {a_to : Nat → Int32} {a_order : Nat → Int32} {a_fails : Nat → Int32} {a_sKeys : Nat → Int64} {a_sRow : Nat → Int64} {a_sSlots : Nat → Int32} {a_bKeys : Nat → Int64} {a_bRow : Nat → Int64} {a_bSlots : Nat → Int32} {a_easy : Nat → Int32} {a_wants : Nat → Int32} {a_wantedBy : Nat → Int32} {a_ring : Nat → Int32} {a_carried : Nat → Int32} {a_latest : Nat → Int32} {v_taped : Int32} {v_faultKind : Int32} {v_faultPlace : Int32} {v_x : Int32} {v_ordered : Int32} {v_sought : Int32} {v_lastSought : Int32} {v_hMoved : Int32} {v_hWithout : Int32} {v_tMoved : Int32} {v_tWithout : Int32} {v_places : Int32} {v_elsewhere : Int32} {v_sMany : Int32} {v_bMany : Int32} {v_year : Int32} {y_lies : Int64} {a_rsort : Nat → Int32} {a_rmany : Nat → Int32} {a_nums : Nat → Nat → Int64} {t : Nat → Int32} {nb : Int32} {bv : Nat → Int32 → Int32 → Int32 → Int32 → Int32 → Int32 → Bool} {pl : va_W}  {p1 : Int64} {p3 : Int32} {ra_sKeys : Nat → Int64} {ra_sRow : Nat → Int64} {ra_sSlots : Nat → Int32} {rv_sMany : Int32} {E : EvT} (hE : EvN E) (hPO : PO cA pl ta ba t nb bv) (hF : FX0_comes a_sKeys a_sRow a_sSlots v_sMany p1 p3 = some (ra_sKeys, ra_sRow, ra_sSlots, rv_sMany)) : MX l yX0_comes (ws_ yX0_comes cX0_comes 4 (Option.none : Option Jvm.ClassFile.FieldType)) rm_X0_comes D vwA (cT cA) E [.ref (ad 0), .long p1, .int p3] (cW ad cA sA ta ba na gi rh rt g_sort g_size g_from g_to g_level g_full a_tape a_hAt a_hMany a_tAt a_tMany a_least a_place a_to a_order a_fails a_sKeys a_sRow a_sSlots a_bKeys a_bRow a_bSlots a_easy a_wants a_wantedBy a_ring a_carried a_latest v_taped v_faultKind v_faultPlace v_x v_ordered v_sought v_lastSought v_hMoved v_hWithout v_tMoved v_tWithout v_places v_elsewhere v_sMany v_bMany v_year y_lies a_rsort a_rmany a_nums pl) (fun z => z = (cW ad cA sA ta ba na gi rh rt g_sort g_size g_from g_to g_level g_full a_tape a_hAt a_hMany a_tAt a_tMany a_least a_place a_to a_order a_fails ra_sKeys ra_sRow ra_sSlots a_bKeys a_bRow a_bSlots a_easy a_wants a_wantedBy a_ring a_carried a_latest v_taped v_faultKind v_faultPlace v_x v_ordered v_sought v_lastSought v_hMoved v_hWithout v_tMoved v_tWithout v_places v_elsewhere rv_sMany v_bMany v_year y_lies a_rsort a_rmany a_nums pl)) none := by
  refine MX.ofV (by decide) (Nat.le_of_ble_eq_true rfl) ?_
  intro p e s m args below meth c Q A hX hK hE0 hname hret H locs ls hH hl
  have hX : CallFix p m c cX0_comes 4 s args lw_all RX0 := hX
  have hx := hX.1
  have hb := hX.2.1
  have hown := hX.2.2.2.1
  have hts := hX.2.2.2.2
  have hl : lv_has ls 4 [(0, .ref (ad 0)), (1, .long p1), (3, .int p3)] := hl
  have hEv := hE.1
  have hNW := hE.2.1 _ _ _ hE0
  have hT := hPO.1
  have hB := hPO.2
  delta FX0_comes at hF
  refine lv_aload_n hx hb dX0_comes_0 rfl (lv_at hl 0 rfl) ?_
  refine cg_Y_this_states hX hK hNW hH dX0_comes_1 ?_
  refine lv_iload_n hx hb dX0_comes_4 rfl (lv_at hl 2 rfl) ?_
  have j16 : ∀ (y_58 : Int64), FX0_comes_j16 a_sKeys a_sRow a_sSlots v_sMany y_58 = some (ra_sKeys, ra_sRow, ra_sSlots, rv_sMany) → ∀ (H : Heap) (locs : List Loc) (ls : Array Slot), MH D vwA A s.heap (cW ad cA sA ta ba na gi rh rt g_sort g_size g_from g_to g_level g_full a_tape a_hAt a_hMany a_tAt a_tMany a_least a_place a_to a_order a_fails a_sKeys a_sRow a_sSlots a_bKeys a_bRow a_bSlots a_easy a_wants a_wantedBy a_ring a_carried a_latest v_taped v_faultKind v_faultPlace v_x v_ordered v_sought v_lastSought v_hMoved v_hWithout v_tMoved v_tWithout v_places v_elsewhere v_sMany v_bMany v_year y_lies a_rsort a_rmany a_nums pl) H locs → lv_has ls 4 [] → W p l e rm_X0_comes s m args below meth c H locs 0 0 Q (F0 m 16 ls [.long y_58, .ref (ad 16)]) := by
    intro y_58 hF H locs ls hH hl
    delta FX0_comes_j16 at hF
    obtain ⟨b_59, a_sKeys_60, a_sRow_61, a_sSlots_62, v_sMany_63, he, hF⟩ := bd5e hF
    refine mxV hX hK hEv hE0 hH (met_X6_adds_s hE hPO he) (crecv hK hH 16 6 rfl rfl) gw_StoneYear_391 hd_yX6_adds ⟨Nat.le_of_ble_eq_true rfl, Nat.le_of_ble_eq_true rfl⟩ rfl rfl hl (Nat.le_of_ble_eq_true rfl) dX0_comes_16 ⟨Nat.le_of_ble_eq_true rfl, Nat.le_of_ble_eq_true rfl⟩ (fun w2 H locs hw hH => ?_)
    subst hw
    refine lv_pop hx hb dX0_comes_19 rfl ?_
    obtain ⟨rfl, rfl, rfl, rfl⟩ := re4 hF
    exact hret _ _ _ _ _ rfl hH dX0_comes_20
  refine lv_if_eq (tgt := 15) hx hb dX0_comes_5 rfl (fun c_56 => ?_) (fun c_56 => ?_)
  · have hF := itp c_56 hF
    refine lv_lload_n hx hb dX0_comes_15 rfl (lv_at hl 1 rfl) ?_
    exact j16 p1 hF _ _ _ hH (lv_sub hl [] rfl)
  · have hF := itn c_56 hF
    refine lv_lload_n hx hb dX0_comes_8 rfl (lv_at hl 1 rfl) ?_
    obtain ⟨y_57, he, hF⟩ := bd1e hF
    refine mxS hX hK hEv hE0 hH (met_X0_resting hE hPO he) gw_StoneYear_255 hd_yX0_resting ⟨Nat.le_of_ble_eq_true rfl, Nat.le_of_ble_eq_true rfl⟩ rfl rfl hl (Nat.le_of_ble_eq_true rfl) dX0_comes_9 ⟨Nat.le_of_ble_eq_true rfl, Nat.le_of_ble_eq_true rfl⟩ (fun w2 H locs hw hH => ?_)
    subst hw
    refine lv_goto (tgt := 16) hx hb dX0_comes_12 rfl ?_
    exact j16 y_57 hF _ _ _ hH (lv_sub hl [] rfl)
abbrev rm_X0_to : Room := { frames := 0, cells := 0, slots := 0, locals := 0 }
set_option maxHeartbeats 4000000 in
theorem met_X0_to {l : Launch} {D : va_G} {ad : Nat → Nat} {cA : Nat → ClassId} {sA ta ba na : Nat → Nat} {gi : Nat → Option Nat} {rh : Option Nat} {rt : Option Nat} {g_sort : Int32} {g_size : Int32} {g_from : Int32} {g_to : Int32} {g_level : Int32} {g_full : Int32} {a_tape : Nat → Int32} {a_hAt : Nat → Int32} {a_hMany : Nat → Int32} {a_tAt : Nat → Int32} {a_tMany : Nat → Int32} {a_least : Nat → Int32} {a_place : Nat → Int32} {a_to : Nat → Int32} {a_order : Nat → Int32} {a_fails : Nat → Int32} {a_sKeys : Nat → Int64} {a_sRow : Nat → Int64} {a_sSlots : Nat → Int32} {a_bKeys : Nat → Int64} {a_bRow : Nat → Int64} {a_bSlots : Nat → Int32} {a_easy : Nat → Int32} {a_wants : Nat → Int32} {a_wantedBy : Nat → Int32} {a_ring : Nat → Int32} {a_carried : Nat → Int32} {a_latest : Nat → Int32} {v_taped : Int32} {v_faultKind : Int32} {v_faultPlace : Int32} {v_x : Int32} {v_ordered : Int32} {v_sought : Int32} {v_lastSought : Int32} {v_hMoved : Int32} {v_hWithout : Int32} {v_tMoved : Int32} {v_tWithout : Int32} {v_places : Int32} {v_elsewhere : Int32} {v_sMany : Int32} {v_bMany : Int32} {v_year : Int32} {y_lies : Int64} {a_rsort : Nat → Int32} {a_rmany : Nat → Int32} {a_nums : Nat → Nat → Int64} {t : Nat → Int32} {nb : Int32} {bv : Nat → Int32 → Int32 → Int32 → Int32 → Int32 → Int32 → Bool} {pl : va_W}  {p0 : Int64} {p2 : Int32} {p3 : Int32} {res : Int64} {E : EvT} (hE : EvN E) (hPO : PO cA pl ta ba t nb bv) (hF : FX0_to p0 p2 p3 = some res) : MX l yX0_to (ws_ yX0_to cX0_to 4 (Option.some Jvm.ClassFile.FieldType.long)) rm_X0_to D vwA (cT cA) E [.long p0, .int p2, .int p3] (cW ad cA sA ta ba na gi rh rt g_sort g_size g_from g_to g_level g_full a_tape a_hAt a_hMany a_tAt a_tMany a_least a_place a_to a_order a_fails a_sKeys a_sRow a_sSlots a_bKeys a_bRow a_bSlots a_easy a_wants a_wantedBy a_ring a_carried a_latest v_taped v_faultKind v_faultPlace v_x v_ordered v_sought v_lastSought v_hMoved v_hWithout v_tMoved v_tWithout v_places v_elsewhere v_sMany v_bMany v_year y_lies a_rsort a_rmany a_nums pl) (fun z => z = (cW ad cA sA ta ba na gi rh rt g_sort g_size g_from g_to g_level g_full a_tape a_hAt a_hMany a_tAt a_tMany a_least a_place a_to a_order a_fails a_sKeys a_sRow a_sSlots a_bKeys a_bRow a_bSlots a_easy a_wants a_wantedBy a_ring a_carried a_latest v_taped v_faultKind v_faultPlace v_x v_ordered v_sought v_lastSought v_hMoved v_hWithout v_tMoved v_tWithout v_places v_elsewhere v_sMany v_bMany v_year y_lies a_rsort a_rmany a_nums pl)) (some (.long res)) := by
  refine MX.ofL (by decide) (Nat.le_of_ble_eq_true rfl) ?_
  intro p e s m args below meth c Q A hX hK hE0 hname hret H locs ls hH hl
  have hX : CallFix p m c cX0_to 4 s args lw_all RX0 := hX
  have hx := hX.1
  have hb := hX.2.1
  have hown := hX.2.2.2.1
  have hts := hX.2.2.2.2
  have hl : lv_has ls 4 [(0, .long p0), (2, .int p2), (3, .int p3)] := hl
  have hEv := hE.1
  have hNW := hE.2.1 _ _ _ hE0
  have hT := hPO.1
  have hB := hPO.2
  delta FX0_to at hF
  refine lv_lload_n hx hb dX0_to_0 rfl (lv_at hl 0 rfl) ?_
  refine lv_ldc2 (v := 15) hx hb hown (hts _ q977) dX0_to_1 ?_
  refine lv_iconst (v := 4) hx hb dX0_to_4 kyi_4 ?_
  refine lv_iload_n hx hb dX0_to_5 rfl (lv_at hl 1 rfl) ?_
  refine lv_imul hx hb dX0_to_6 ?_
  refine lv_lshl hx hb dX0_to_7 rfl ?_
  refine lv_ldc2 (v := (-1)) hx hb hown (hts _ q1153) dX0_to_8 ?_
  refine lv_lxor hx hb dX0_to_11 ?_
  refine lv_land hx hb dX0_to_12 ?_
  refine lv_iload_n hx hb dX0_to_13 rfl (lv_at hl 2 rfl) ?_
  refine lv_i2l (v := (Int32.toInt64 p3)) hx hb dX0_to_14 rfl ?_
  refine lv_iconst (v := 4) hx hb dX0_to_15 kyi_4 ?_
  refine lv_iload_n hx hb dX0_to_16 rfl (lv_at hl 1 rfl) ?_
  refine lv_imul hx hb dX0_to_17 ?_
  refine lv_lshl hx hb dX0_to_18 rfl ?_
  refine lv_lor hx hb dX0_to_19 ?_
  refine lv_lconst (v := 1) hx hb dX0_to_20 rfl ?_
  refine lv_bipush (v := 32) hx hb dX0_to_21 kyb_32 ?_
  refine lv_iload_n hx hb dX0_to_23 rfl (lv_at hl 1 rfl) ?_
  refine lv_iadd hx hb dX0_to_24 ?_
  refine lv_lshl hx hb dX0_to_25 rfl ?_
  refine lv_lor hx hb dX0_to_26 ?_
  obtain rfl := Option.some.inj hF
  exact hret _ _ _ _ _ rfl hH dX0_to_27
abbrev rm_X0_closes : Room := { frames := 262, cells := 0, slots := 0, locals := 6047 }
set_option maxHeartbeats 4000000 in
theorem met_X0_closes {l : Launch} {D : va_G} {ad : Nat → Nat} {cA : Nat → ClassId} {sA ta ba na : Nat → Nat} {gi : Nat → Option Nat} {rh : Option Nat} {rt : Option Nat} {g_sort : Int32} {g_size : Int32} {g_from : Int32} {g_to : Int32} {g_level : Int32} {g_full : Int32} {a_tape : Nat → Int32} {a_hAt : Nat → Int32} {a_hMany : Nat → Int32} {a_tAt : Nat → Int32} {a_tMany : Nat → Int32} {a_least : Nat → Int32} {a_place : Nat → Int32} {a_to : Nat → Int32} {a_order : Nat → Int32} {a_fails : Nat → Int32} {a_sKeys : Nat → Int64} {a_sRow : Nat → Int64} {a_sSlots : Nat → Int32} {a_bKeys : Nat → Int64} {a_bRow : Nat → Int64} {a_bSlots : Nat → Int32} {a_easy : Nat → Int32} {a_wants : Nat → Int32} {a_wantedBy : Nat → Int32} {a_ring : Nat → Int32} {a_carried : Nat → Int32} {a_latest : Nat → Int32} {v_taped : Int32} {v_faultKind : Int32} {v_faultPlace : Int32} {v_x : Int32} {v_ordered : Int32} {v_sought : Int32} {v_lastSought : Int32} {v_hMoved : Int32} {v_hWithout : Int32} {v_tMoved : Int32} {v_tWithout : Int32} {v_places : Int32} {v_elsewhere : Int32} {v_sMany : Int32} {v_bMany : Int32} {v_year : Int32} {y_lies : Int64} {a_rsort : Nat → Int32} {a_rmany : Nat → Int32} {a_nums : Nat → Nat → Int64} {t : Nat → Int32} {nb : Int32} {bv : Nat → Int32 → Int32 → Int32 → Int32 → Int32 → Int32 → Bool} {pl : va_W} {tb : Nat → Nat} {u : Nat → Int32}  {p2 : Int32} {p3 : Int32} {res : Bool} {ra_tAt : Nat → Int32} {ra_tMany : Nat → Int32} {ra_sKeys : Nat → Int64} {ra_sRow : Nat → Int64} {ra_sSlots : Nat → Int32} {rv_tMoved : Int32} {rv_sMany : Int32} {E : EvT} (hE : EvN E) (hPO : PO cA pl ta ba t nb bv) (hU : TownAt cA pl tb u) (hF : FX0_closes u a_tAt a_tMany a_sKeys a_sRow a_sSlots v_tMoved v_tWithout v_sMany nb bv p2 p3 = some (res, ra_tAt, ra_tMany, ra_sKeys, ra_sRow, ra_sSlots, rv_tMoved, rv_sMany)) : MX l yX0_closes (ws_ yX0_closes cX0_closes 9 (Option.some Jvm.ClassFile.FieldType.boolean)) rm_X0_closes D vwA (cT cA) E [.ref (ad 0), .ref (tb 0), .int p2, .int p3] (cW ad cA sA ta ba na gi rh rt g_sort g_size g_from g_to g_level g_full a_tape a_hAt a_hMany a_tAt a_tMany a_least a_place a_to a_order a_fails a_sKeys a_sRow a_sSlots a_bKeys a_bRow a_bSlots a_easy a_wants a_wantedBy a_ring a_carried a_latest v_taped v_faultKind v_faultPlace v_x v_ordered v_sought v_lastSought v_hMoved v_hWithout v_tMoved v_tWithout v_places v_elsewhere v_sMany v_bMany v_year y_lies a_rsort a_rmany a_nums pl) (fun z => ∃ rt' : Option Nat, ∃ g_sort' : Int32, ∃ g_size' : Int32, ∃ g_from' : Int32, ∃ g_to' : Int32, ∃ g_level' : Int32, ∃ g_full' : Int32, z = (cW ad cA sA ta ba na gi rh rt' g_sort' g_size' g_from' g_to' g_level' g_full' a_tape a_hAt a_hMany ra_tAt ra_tMany a_least a_place a_to a_order a_fails ra_sKeys ra_sRow ra_sSlots a_bKeys a_bRow a_bSlots a_easy a_wants a_wantedBy a_ring a_carried a_latest v_taped v_faultKind v_faultPlace v_x v_ordered v_sought v_lastSought v_hMoved v_hWithout rv_tMoved v_tWithout v_places v_elsewhere rv_sMany v_bMany v_year y_lies a_rsort a_rmany a_nums pl)) (some (.int (b2i res))) := by
  refine MX.ofZ (by decide) (Nat.le_of_ble_eq_true rfl) ?_
  intro p e s m args below meth c Q A hX hK hE0 hname hret H locs ls hH hl
  have hX : CallFix p m c cX0_closes 9 s args lw_all RX0 := hX
  have hx := hX.1
  have hb := hX.2.1
  have hown := hX.2.2.2.1
  have hts := hX.2.2.2.2
  have hl : lv_has ls 9 [(0, .ref (ad 0)), (1, .ref (tb 0)), (2, .int p2), (3, .int p3)] := hl
  have hEv := hE.1
  have hNW := hE.2.1 _ _ _ hE0
  have hT := hPO.1
  have hB := hPO.2
  delta FX0_closes at hF
  refine lv_iconst (v := 0) hx hb dX0_closes_0 kyi_0 ?_
  refine lv_istore (lv' := [(4, .int 0), (0, .ref (ad 0)), (1, .ref (tb 0)), (2, .int p2), (3, .int p3)]) hx hb dX0_closes_1 hl (by decide) rfl (fun ls hl => ?_)
  obtain ⟨xx3, ee3, kk3_0, kk3_1⟩ := bdS2e hF
  have k3_0 : ∀ (a_tAt_672 : Nat → Int32) (a_tMany_673 : Nat → Int32) (a_sKeys_674 : Nat → Int64) (a_sRow_675 : Nat → Int64) (a_sSlots_676 : Nat → Int32) (v_tMoved_677 : Int32) (v_sMany_678 : Int32), xx3 = (.inl (a_tAt_672, a_tMany_673, a_sKeys_674, a_sRow_675, a_sSlots_676, v_tMoved_677, v_sMany_678)) → ∀ (g_sort_679 : Int32) (g_size_680 : Int32) (g_from_681 : Int32) (g_to_682 : Int32) (g_level_683 : Int32) (g_full_684 : Int32), ∀ (H : Heap) (locs : List Loc) (ls : Array Slot), MH D vwA A s.heap (cW ad cA sA ta ba na gi rh (some (tb 0)) g_sort_679 g_size_680 g_from_681 g_to_682 g_level_683 g_full_684 a_tape a_hAt a_hMany a_tAt_672 a_tMany_673 a_least a_place a_to a_order a_fails a_sKeys_674 a_sRow_675 a_sSlots_676 a_bKeys a_bRow a_bSlots a_easy a_wants a_wantedBy a_ring a_carried a_latest v_taped v_faultKind v_faultPlace v_x v_ordered v_sought v_lastSought v_hMoved v_hWithout v_tMoved_677 v_tWithout v_places v_elsewhere v_sMany_678 v_bMany v_year y_lies a_rsort a_rmany a_nums pl) H locs → lv_has ls 9 [] → W p l e rm_X0_closes s m args below meth c H locs 0 0 Q (F0 m 217 ls []) := by
    intro a_tAt_672 a_tMany_673 a_sKeys_674 a_sRow_675 a_sSlots_676 v_tMoved_677 v_sMany_678 hxx g_sort_679 g_size_680 g_from_681 g_to_682 g_level_683 g_full_684 H locs ls hH hl
    have hF := un7e (kk3_0 (a_tAt_672, a_tMany_673, a_sKeys_674, a_sRow_675, a_sSlots_676, v_tMoved_677, v_sMany_678) hxx)
    refine lv_iconst (v := 0) hx hb dX0_closes_217 kyi_0 ?_
    obtain ⟨rfl, rfl, rfl, rfl, rfl, rfl, rfl, rfl⟩ := re8 hF
    exact hret _ _ _ _ _ ⟨_, _, _, _, _, _, _, rfl⟩ hH dX0_closes_218
  have k3_1 : ∀ (a_tAt_685 : Nat → Int32) (a_tMany_686 : Nat → Int32) (a_sKeys_687 : Nat → Int64) (a_sRow_688 : Nat → Int64) (a_sSlots_689 : Nat → Int32) (v_tMoved_690 : Int32) (v_sMany_691 : Int32), xx3 = (.inr (a_tAt_685, a_tMany_686, a_sKeys_687, a_sRow_688, a_sSlots_689, v_tMoved_690, v_sMany_691)) → ∀ (rt_692 : Option Nat) (g_sort_693 : Int32) (g_size_694 : Int32) (g_from_695 : Int32) (g_to_696 : Int32) (g_level_697 : Int32) (g_full_698 : Int32), ∀ (H : Heap) (locs : List Loc) (ls : Array Slot), MH D vwA A s.heap (cW ad cA sA ta ba na gi rh rt_692 g_sort_693 g_size_694 g_from_695 g_to_696 g_level_697 g_full_698 a_tape a_hAt a_hMany a_tAt_685 a_tMany_686 a_least a_place a_to a_order a_fails a_sKeys_687 a_sRow_688 a_sSlots_689 a_bKeys a_bRow a_bSlots a_easy a_wants a_wantedBy a_ring a_carried a_latest v_taped v_faultKind v_faultPlace v_x v_ordered v_sought v_lastSought v_hMoved v_hWithout v_tMoved_690 v_tWithout v_places v_elsewhere v_sMany_691 v_bMany v_year y_lies a_rsort a_rmany a_nums pl) H locs → lv_has ls 9 [] → W p l e rm_X0_closes s m args below meth c H locs 0 0 Q (F0 m 237 ls []) := by
    intro a_tAt_685 a_tMany_686 a_sKeys_687 a_sRow_688 a_sSlots_689 v_tMoved_690 v_sMany_691 hxx rt_692 g_sort_693 g_size_694 g_from_695 g_to_696 g_level_697 g_full_698 H locs ls hH hl
    have hF := un7e (kk3_1 (a_tAt_685, a_tMany_686, a_sKeys_687, a_sRow_688, a_sSlots_689, v_tMoved_690, v_sMany_691) hxx)
    refine lv_iconst (v := 1) hx hb dX0_closes_237 kyi_1 ?_
    obtain ⟨rfl, rfl, rfl, rfl, rfl, rfl, rfl, rfl⟩ := re8 hF
    exact hret _ _ _ _ _ ⟨_, _, _, _, _, _, _, rfl⟩ hH dX0_closes_238
  obtain ⟨nn3, en3⟩ := loopC_some ee3
  have l3 : ∀ (n : Nat) (x_357 : Int32) (a_tAt_358 : Nat → Int32) (a_tMany_359 : Nat → Int32) (a_sKeys_360 : Nat → Int64) (a_sRow_361 : Nat → Int64) (a_sSlots_362 : Nat → Int32) (v_tMoved_363 : Int32) (v_sMany_364 : Int32), loopN (fun s => FX0_closes_b3 v_tWithout nb bv u p2 p3 s.1 s.2.1 s.2.2.1 s.2.2.2.1 s.2.2.2.2.1 s.2.2.2.2.2.1 s.2.2.2.2.2.2.1 s.2.2.2.2.2.2.2) n (x_357, a_tAt_358, a_tMany_359, a_sKeys_360, a_sRow_361, a_sSlots_362, v_tMoved_363, v_sMany_364) = some xx3 → ∀ (rt_365 : Option Nat) (g_sort_366 : Int32) (g_size_367 : Int32) (g_from_368 : Int32) (g_to_369 : Int32) (g_level_370 : Int32) (g_full_371 : Int32), ∀ (H : Heap) (locs : List Loc) (ls : Array Slot), MH D vwA A s.heap (cW ad cA sA ta ba na gi rh rt_365 g_sort_366 g_size_367 g_from_368 g_to_369 g_level_370 g_full_371 a_tape a_hAt a_hMany a_tAt_358 a_tMany_359 a_least a_place a_to a_order a_fails a_sKeys_360 a_sRow_361 a_sSlots_362 a_bKeys a_bRow a_bSlots a_easy a_wants a_wantedBy a_ring a_carried a_latest v_taped v_faultKind v_faultPlace v_x v_ordered v_sought v_lastSought v_hMoved v_hWithout v_tMoved_363 v_tWithout v_places v_elsewhere v_sMany_364 v_bMany v_year y_lies a_rsort a_rmany a_nums pl) H locs → lv_has ls 9 [(0, .ref (ad 0)), (1, .ref (tb 0)), (2, .int p2), (3, .int p3), (4, .int x_357)] → W p l e rm_X0_closes s m args below meth c H locs 0 0 Q (F0 m 3 ls []) := by
    intro n
    induction n with
    | zero =>
      intro x_357 a_tAt_358 a_tMany_359 a_sKeys_360 a_sRow_361 a_sSlots_362 v_tMoved_363 v_sMany_364 hN
      exact absurd hN loopN_zero
    | succ n ih =>
      intro x_357 a_tAt_358 a_tMany_359 a_sKeys_360 a_sRow_361 a_sSlots_362 v_tMoved_363 v_sMany_364 hN rt_365 g_sort_366 g_size_367 g_from_368 g_to_369 g_level_370 g_full_371 H locs ls hH hl
      obtain ⟨yy3, hB3, hY3⟩ := loopN_succ hN
      have hF : FX0_closes_b3 v_tWithout nb bv u p2 p3 x_357 a_tAt_358 a_tMany_359 a_sKeys_360 a_sRow_361 a_sSlots_362 v_tMoved_363 v_sMany_364 = some yy3 := hB3
      delta FX0_closes_b3 at hF
      refine lv_iload hx hb dX0_closes_3 (lv_at hl 4 rfl) ?_
      refine lv_aload_n hx hb dX0_closes_5 rfl (lv_at hl 0 rfl) ?_
      refine cg_Y_this_states hX hK hNW hH dX0_closes_6 ?_
      refine cg_Y_tabs_many hX hK hNW hH dX0_closes_9 ?_
      refine lv_icmp_ge (tgt := 237) hx hb dX0_closes_12 rfl (fun c_372 => ?_) (fun c_372 => ?_)
      · have hF := itp c_372 hF
        obtain rfl := Option.some.inj hF
        exact k3_1 a_tAt_358 a_tMany_359 a_sKeys_360 a_sRow_361 a_sSlots_362 v_tMoved_363 v_sMany_364 hY3 _ _ _ _ _ _ _ _ _ _ hH (lv_sub hl [] rfl)
      · have hF := itn c_372 hF
        refine lv_aload_n hx hb dX0_closes_15 rfl (lv_at hl 0 rfl) ?_
        refine cg_Y_this_states hX hK hNW hH dX0_closes_16 ?_
        refine cg_Y_tabs_row hX hK hNW hH dX0_closes_19 ?_
        refine lv_iload hx hb dX0_closes_22 (lv_at hl 4 rfl) ?_
        obtain ⟨y_373, he, hF⟩ := bd1e hF
        refine cl_sRow hX hK hH he dX0_closes_24 ?_
        refine lv_lstore (lv' := [(5, .long y_373), (0, .ref (ad 0)), (1, .ref (tb 0)), (2, .int p2), (3, .int p3), (4, .int x_357)]) hx hb dX0_closes_25 hl (by decide) rfl (fun ls hl => ?_)
        refine lv_aload_n hx hb dX0_closes_27 rfl (lv_at hl 1 rfl) ?_
        refine cg_Y_this_trial hX hK hNW hH dX0_closes_28 ?_
        refine lv_aload_n hx hb dX0_closes_31 rfl (lv_at hl 2 rfl) ?_
        refine lv_lload hx hb dX0_closes_32 (lv_at hl 0 rfl) ?_
        obtain ⟨a_tAt_374, a_tMany_375, v_tMoved_376, he, hF⟩ := bd3e hF
        refine mxV hX hK hEv hE0 hH (met_X4_lays_t hE hPO hU he) (crecv hK hH 7 4 rfl rfl) gw_StoneYear_151 hd_yX4_lays ⟨Nat.le_of_ble_eq_true rfl, Nat.le_of_ble_eq_true rfl⟩ rfl rfl hl (Nat.le_of_ble_eq_true rfl) dX0_closes_34 ⟨Nat.le_of_ble_eq_true rfl, Nat.le_of_ble_eq_true rfl⟩ (fun w2 H locs hw hH => ?_)
        subst hw
        refine lv_pop hx hb dX0_closes_37 rfl ?_
        refine lv_iconst (v := 0) hx hb dX0_closes_38 kyi_0 ?_
        refine lv_istore (lv' := [(7, .int 0), (5, .long y_373), (0, .ref (ad 0)), (1, .ref (tb 0)), (2, .int p2), (3, .int p3), (4, .int x_357)]) hx hb dX0_closes_39 hl (by decide) rfl (fun ls hl => ?_)
        obtain ⟨xx41, ee41, kk41_0, kk41_1⟩ := bdS2e hF
        have k41_0 : ∀ (a_sKeys_652 : Nat → Int64) (a_sRow_653 : Nat → Int64) (a_sSlots_654 : Nat → Int32) (v_sMany_655 : Int32), xx41 = (.inl (a_sKeys_652, a_sRow_653, a_sSlots_654, v_sMany_655)) → ∀ (g_sort_656 : Int32) (g_size_657 : Int32) (g_from_658 : Int32) (g_to_659 : Int32) (g_level_660 : Int32) (g_full_661 : Int32), ∀ (H : Heap) (locs : List Loc) (ls : Array Slot), MH D vwA A s.heap (cW ad cA sA ta ba na gi rh (some (tb 0)) g_sort_656 g_size_657 g_from_658 g_to_659 g_level_660 g_full_661 a_tape a_hAt a_hMany a_tAt_374 a_tMany_375 a_least a_place a_to a_order a_fails a_sKeys_652 a_sRow_653 a_sSlots_654 a_bKeys a_bRow a_bSlots a_easy a_wants a_wantedBy a_ring a_carried a_latest v_taped v_faultKind v_faultPlace v_x v_ordered v_sought v_lastSought v_hMoved v_hWithout v_tMoved_376 v_tWithout v_places v_elsewhere v_sMany_655 v_bMany v_year y_lies a_rsort a_rmany a_nums pl) H locs → lv_has ls 9 [] → W p l e rm_X0_closes s m args below meth c H locs 0 0 Q (F0 m 217 ls []) := by
          intro a_sKeys_652 a_sRow_653 a_sSlots_654 v_sMany_655 hxx g_sort_656 g_size_657 g_from_658 g_to_659 g_level_660 g_full_661 H locs ls hH hl
          have hF := un4e (kk41_0 (a_sKeys_652, a_sRow_653, a_sSlots_654, v_sMany_655) hxx)
          obtain rfl := Option.some.inj hF
          exact k3_0 a_tAt_374 a_tMany_375 a_sKeys_652 a_sRow_653 a_sSlots_654 v_tMoved_376 v_sMany_655 hY3 _ _ _ _ _ _ _ _ _ hH (lv_sub hl [] rfl)
        have k41_1 : ∀ (a_sKeys_662 : Nat → Int64) (a_sRow_663 : Nat → Int64) (a_sSlots_664 : Nat → Int32) (v_sMany_665 : Int32), xx41 = (.inr (a_sKeys_662, a_sRow_663, a_sSlots_664, v_sMany_665)) → ∀ (g_sort_666 : Int32) (g_size_667 : Int32) (g_from_668 : Int32) (g_to_669 : Int32) (g_level_670 : Int32) (g_full_671 : Int32), ∀ (H : Heap) (locs : List Loc) (ls : Array Slot), MH D vwA A s.heap (cW ad cA sA ta ba na gi rh (some (tb 0)) g_sort_666 g_size_667 g_from_668 g_to_669 g_level_670 g_full_671 a_tape a_hAt a_hMany a_tAt_374 a_tMany_375 a_least a_place a_to a_order a_fails a_sKeys_662 a_sRow_663 a_sSlots_664 a_bKeys a_bRow a_bSlots a_easy a_wants a_wantedBy a_ring a_carried a_latest v_taped v_faultKind v_faultPlace v_x v_ordered v_sought v_lastSought v_hMoved v_hWithout v_tMoved_376 v_tWithout v_places v_elsewhere v_sMany_665 v_bMany v_year y_lies a_rsort a_rmany a_nums pl) H locs → lv_has ls 9 [(0, .ref (ad 0)), (1, .ref (tb 0)), (2, .int p2), (3, .int p3), (4, .int x_357)] → W p l e rm_X0_closes s m args below meth c H locs 0 0 Q (F0 m 231 ls []) := by
          intro a_sKeys_662 a_sRow_663 a_sSlots_664 v_sMany_665 hxx g_sort_666 g_size_667 g_from_668 g_to_669 g_level_670 g_full_671 H locs ls hH hl
          have hF := un4e (kk41_1 (a_sKeys_662, a_sRow_663, a_sSlots_664, v_sMany_665) hxx)
          refine lv_iinc (v := (x_357 + 1)) (lv' := [(4, .int (x_357 + 1)), (0, .ref (ad 0)), (1, .ref (tb 0)), (2, .int p2), (3, .int p3)]) hx hb dX0_closes_231 hl (k := 4) rfl (syc kyi_1) (by decide) rfl (fun ls hl => ?_)
          refine lv_goto (tgt := 3) hx hb dX0_closes_234 rfl ?_
          obtain rfl := Option.some.inj hF
          exact ih (x_357 + 1) a_tAt_374 a_tMany_375 a_sKeys_662 a_sRow_663 a_sSlots_664 v_tMoved_376 v_sMany_665 hY3 _ _ _ _ _ _ _ _ _ _ hH (lv_sub hl [1, 2, 3, 4, 0] rfl)
        obtain ⟨nn41, en41⟩ := loopC_some ee41
        have l41 : ∀ (n : Nat) (x_509 : Int32) (a_sKeys_510 : Nat → Int64) (a_sRow_511 : Nat → Int64) (a_sSlots_512 : Nat → Int32) (v_sMany_513 : Int32), loopN (fun s => FX0_closes_b41 v_tWithout nb bv u p2 p3 y_373 a_tAt_374 a_tMany_375 v_tMoved_376 s.1 s.2.1 s.2.2.1 s.2.2.2.1 s.2.2.2.2) n (x_509, a_sKeys_510, a_sRow_511, a_sSlots_512, v_sMany_513) = some xx41 → ∀ (g_sort_514 : Int32) (g_size_515 : Int32) (g_from_516 : Int32) (g_to_517 : Int32) (g_level_518 : Int32) (g_full_519 : Int32), ∀ (H : Heap) (locs : List Loc) (ls : Array Slot), MH D vwA A s.heap (cW ad cA sA ta ba na gi rh (some (tb 0)) g_sort_514 g_size_515 g_from_516 g_to_517 g_level_518 g_full_519 a_tape a_hAt a_hMany a_tAt_374 a_tMany_375 a_least a_place a_to a_order a_fails a_sKeys_510 a_sRow_511 a_sSlots_512 a_bKeys a_bRow a_bSlots a_easy a_wants a_wantedBy a_ring a_carried a_latest v_taped v_faultKind v_faultPlace v_x v_ordered v_sought v_lastSought v_hMoved v_hWithout v_tMoved_376 v_tWithout v_places v_elsewhere v_sMany_513 v_bMany v_year y_lies a_rsort a_rmany a_nums pl) H locs → lv_has ls 9 [(0, .ref (ad 0)), (1, .ref (tb 0)), (2, .int p2), (3, .int p3), (4, .int x_357), (5, .long y_373), (7, .int x_509)] → W p l e rm_X0_closes s m args below meth c H locs 0 0 Q (F0 m 41 ls []) := by
          intro n
          induction n with
          | zero =>
            intro x_509 a_sKeys_510 a_sRow_511 a_sSlots_512 v_sMany_513 hN
            exact absurd hN loopN_zero
          | succ n ih =>
            intro x_509 a_sKeys_510 a_sRow_511 a_sSlots_512 v_sMany_513 hN g_sort_514 g_size_515 g_from_516 g_to_517 g_level_518 g_full_519 H locs ls hH hl
            obtain ⟨yy41, hB41, hY41⟩ := loopN_succ hN
            have hF : FX0_closes_b41 v_tWithout nb bv u p2 p3 y_373 a_tAt_374 a_tMany_375 v_tMoved_376 x_509 a_sKeys_510 a_sRow_511 a_sSlots_512 v_sMany_513 = some yy41 := hB41
            delta FX0_closes_b41 at hF
            refine lv_iload hx hb dX0_closes_41 (lv_at hl 6 rfl) ?_
            refine lv_aload_n hx hb dX0_closes_43 rfl (lv_at hl 1 rfl) ?_
            refine cg_Y_town_rows hU (fun _ h => cW_pl h) hX hK hNW hH dX0_closes_44 ?_
            refine mxV hX hK hEv hE0 hH (met_J2_size hE.1 hU.rows (fun _ h => cW_pl h)) (precv (fun _ h => cW_pl h) hK hH 17 rfl hU.rows.obj) gw_StoneYear_133 hd_yJ2_size ⟨Nat.le_of_ble_eq_true rfl, Nat.le_of_ble_eq_true rfl⟩ rfl rfl hl (Nat.le_of_ble_eq_true rfl) dX0_closes_47 ⟨Nat.le_of_ble_eq_true rfl, Nat.le_of_ble_eq_true rfl⟩ (fun w2 H locs hw hH => ?_)
            subst hw
            refine lv_icmp_ge (tgt := 231) hx hb dX0_closes_50 rfl (fun c_520 => ?_) (fun c_520 => ?_)
            · have hF := itp c_520 hF
              obtain rfl := Option.some.inj hF
              exact k41_1 a_sKeys_510 a_sRow_511 a_sSlots_512 v_sMany_513 hY41 _ _ _ _ _ _ _ _ _ hH (lv_sub hl [0, 1, 2, 3, 4] rfl)
            · have hF := itn c_520 hF
              refine lv_iconst (v := 0) hx hb dX0_closes_53 kyi_0 ?_
              refine lv_istore (lv' := [(8, .int 0), (0, .ref (ad 0)), (1, .ref (tb 0)), (2, .int p2), (3, .int p3), (4, .int x_357), (5, .long y_373), (7, .int x_509)]) hx hb dX0_closes_54 hl (by decide) rfl (fun ls hl => ?_)
              obtain ⟨xx56, ee56, kk56_0, kk56_1⟩ := bdS2e hF
              have k56_0 : ∀ (a_sKeys_632 : Nat → Int64) (a_sRow_633 : Nat → Int64) (a_sSlots_634 : Nat → Int32) (v_sMany_635 : Int32), xx56 = (.inl (a_sKeys_632, a_sRow_633, a_sSlots_634, v_sMany_635)) → ∀ (g_sort_636 : Int32) (g_size_637 : Int32) (g_from_638 : Int32) (g_to_639 : Int32) (g_level_640 : Int32) (g_full_641 : Int32), ∀ (H : Heap) (locs : List Loc) (ls : Array Slot), MH D vwA A s.heap (cW ad cA sA ta ba na gi rh (some (tb 0)) g_sort_636 g_size_637 g_from_638 g_to_639 g_level_640 g_full_641 a_tape a_hAt a_hMany a_tAt_374 a_tMany_375 a_least a_place a_to a_order a_fails a_sKeys_632 a_sRow_633 a_sSlots_634 a_bKeys a_bRow a_bSlots a_easy a_wants a_wantedBy a_ring a_carried a_latest v_taped v_faultKind v_faultPlace v_x v_ordered v_sought v_lastSought v_hMoved v_hWithout v_tMoved_376 v_tWithout v_places v_elsewhere v_sMany_635 v_bMany v_year y_lies a_rsort a_rmany a_nums pl) H locs → lv_has ls 9 [] → W p l e rm_X0_closes s m args below meth c H locs 0 0 Q (F0 m 217 ls []) := by
                intro a_sKeys_632 a_sRow_633 a_sSlots_634 v_sMany_635 hxx g_sort_636 g_size_637 g_from_638 g_to_639 g_level_640 g_full_641 H locs ls hH hl
                have hF := un4e (kk56_0 (a_sKeys_632, a_sRow_633, a_sSlots_634, v_sMany_635) hxx)
                obtain rfl := Option.some.inj hF
                exact k41_0 a_sKeys_632 a_sRow_633 a_sSlots_634 v_sMany_635 hY41 _ _ _ _ _ _ _ _ _ hH (lv_sub hl [] rfl)
              have k56_1 : ∀ (a_sKeys_642 : Nat → Int64) (a_sRow_643 : Nat → Int64) (a_sSlots_644 : Nat → Int32) (v_sMany_645 : Int32), xx56 = (.inr (a_sKeys_642, a_sRow_643, a_sSlots_644, v_sMany_645)) → ∀ (g_sort_646 : Int32) (g_size_647 : Int32) (g_from_648 : Int32) (g_to_649 : Int32) (g_level_650 : Int32) (g_full_651 : Int32), ∀ (H : Heap) (locs : List Loc) (ls : Array Slot), MH D vwA A s.heap (cW ad cA sA ta ba na gi rh (some (tb 0)) g_sort_646 g_size_647 g_from_648 g_to_649 g_level_650 g_full_651 a_tape a_hAt a_hMany a_tAt_374 a_tMany_375 a_least a_place a_to a_order a_fails a_sKeys_642 a_sRow_643 a_sSlots_644 a_bKeys a_bRow a_bSlots a_easy a_wants a_wantedBy a_ring a_carried a_latest v_taped v_faultKind v_faultPlace v_x v_ordered v_sought v_lastSought v_hMoved v_hWithout v_tMoved_376 v_tWithout v_places v_elsewhere v_sMany_645 v_bMany v_year y_lies a_rsort a_rmany a_nums pl) H locs → lv_has ls 9 [(0, .ref (ad 0)), (1, .ref (tb 0)), (2, .int p2), (3, .int p3), (4, .int x_357), (5, .long y_373), (7, .int x_509)] → W p l e rm_X0_closes s m args below meth c H locs 0 0 Q (F0 m 225 ls []) := by
                intro a_sKeys_642 a_sRow_643 a_sSlots_644 v_sMany_645 hxx g_sort_646 g_size_647 g_from_648 g_to_649 g_level_650 g_full_651 H locs ls hH hl
                have hF := un4e (kk56_1 (a_sKeys_642, a_sRow_643, a_sSlots_644, v_sMany_645) hxx)
                refine lv_iinc (v := (x_509 + 1)) (lv' := [(7, .int (x_509 + 1)), (0, .ref (ad 0)), (1, .ref (tb 0)), (2, .int p2), (3, .int p3), (4, .int x_357), (5, .long y_373)]) hx hb dX0_closes_225 hl (k := 6) rfl (syc kyi_1) (by decide) rfl (fun ls hl => ?_)
                refine lv_goto (tgt := 41) hx hb dX0_closes_228 rfl ?_
                obtain rfl := Option.some.inj hF
                exact ih (x_509 + 1) a_sKeys_642 a_sRow_643 a_sSlots_644 v_sMany_645 hY41 _ _ _ _ _ _ _ _ _ hH (lv_sub hl [1, 2, 3, 4, 5, 6, 0] rfl)
              obtain ⟨nn56, en56⟩ := loopC_some ee56
              have l56 : ∀ (n : Nat) (x_571 : Int32) (a_sKeys_572 : Nat → Int64) (a_sRow_573 : Nat → Int64) (a_sSlots_574 : Nat → Int32) (v_sMany_575 : Int32), loopN (fun s => FX0_closes_b56 v_tWithout nb bv u p2 p3 y_373 a_tAt_374 a_tMany_375 v_tMoved_376 x_509 s.1 s.2.1 s.2.2.1 s.2.2.2.1 s.2.2.2.2) n (x_571, a_sKeys_572, a_sRow_573, a_sSlots_574, v_sMany_575) = some xx56 → ∀ (g_sort_576 : Int32) (g_size_577 : Int32) (g_from_578 : Int32) (g_to_579 : Int32) (g_level_580 : Int32) (g_full_581 : Int32), ∀ (H : Heap) (locs : List Loc) (ls : Array Slot), MH D vwA A s.heap (cW ad cA sA ta ba na gi rh (some (tb 0)) g_sort_576 g_size_577 g_from_578 g_to_579 g_level_580 g_full_581 a_tape a_hAt a_hMany a_tAt_374 a_tMany_375 a_least a_place a_to a_order a_fails a_sKeys_572 a_sRow_573 a_sSlots_574 a_bKeys a_bRow a_bSlots a_easy a_wants a_wantedBy a_ring a_carried a_latest v_taped v_faultKind v_faultPlace v_x v_ordered v_sought v_lastSought v_hMoved v_hWithout v_tMoved_376 v_tWithout v_places v_elsewhere v_sMany_575 v_bMany v_year y_lies a_rsort a_rmany a_nums pl) H locs → lv_has ls 9 [(0, .ref (ad 0)), (1, .ref (tb 0)), (2, .int p2), (3, .int p3), (4, .int x_357), (5, .long y_373), (7, .int x_509), (8, .int x_571)] → W p l e rm_X0_closes s m args below meth c H locs 0 0 Q (F0 m 56 ls []) := by
                intro n
                induction n with
                | zero =>
                  intro x_571 a_sKeys_572 a_sRow_573 a_sSlots_574 v_sMany_575 hN
                  exact absurd hN loopN_zero
                | succ n ih =>
                  intro x_571 a_sKeys_572 a_sRow_573 a_sSlots_574 v_sMany_575 hN g_sort_576 g_size_577 g_from_578 g_to_579 g_level_580 g_full_581 H locs ls hH hl
                  obtain ⟨yy56, hB56, hY56⟩ := loopN_succ hN
                  have hF : FX0_closes_b56 v_tWithout nb bv u p2 p3 y_373 a_tAt_374 a_tMany_375 v_tMoved_376 x_509 x_571 a_sKeys_572 a_sRow_573 a_sSlots_574 v_sMany_575 = some yy56 := hB56
                  delta FX0_closes_b56 at hF
                  refine lv_iload hx hb dX0_closes_56 (lv_at hl 7 rfl) ?_
                  refine lv_aload_n hx hb dX0_closes_58 rfl (lv_at hl 1 rfl) ?_
                  refine cg_Y_town_rows hU (fun _ h => cW_pl h) hX hK hNW hH dX0_closes_59 ?_
                  refine mxV hX hK hEv hE0 hH (met_J2_size hE.1 hU.rows (fun _ h => cW_pl h)) (precv (fun _ h => cW_pl h) hK hH 17 rfl hU.rows.obj) gw_StoneYear_133 hd_yJ2_size ⟨Nat.le_of_ble_eq_true rfl, Nat.le_of_ble_eq_true rfl⟩ rfl rfl hl (Nat.le_of_ble_eq_true rfl) dX0_closes_62 ⟨Nat.le_of_ble_eq_true rfl, Nat.le_of_ble_eq_true rfl⟩ (fun w2 H locs hw hH => ?_)
                  subst hw
                  refine lv_icmp_ge (tgt := 225) hx hb dX0_closes_65 rfl (fun c_582 => ?_) (fun c_582 => ?_)
                  · have hF := itp c_582 hF
                    obtain rfl := Option.some.inj hF
                    exact k56_1 a_sKeys_572 a_sRow_573 a_sSlots_574 v_sMany_575 hY56 _ _ _ _ _ _ _ _ _ hH (lv_sub hl [0, 1, 2, 3, 4, 5, 6] rfl)
                  · have hF := itn c_582 hF
                    refine lv_aload_n hx hb dX0_closes_68 rfl (lv_at hl 0 rfl) ?_
                    refine cg_Y_this_trial hX hK hNW hH dX0_closes_69 ?_
                    refine lv_iload hx hb dX0_closes_72 (lv_at hl 6 rfl) ?_
                    refine lv_iload hx hb dX0_closes_74 (lv_at hl 7 rfl) ?_
                    obtain ⟨x_583, he, hF⟩ := bd1e hF
                    refine mxV hX hK hEv hE0 hH (met_X4_may_t hE hPO hU he) (crecv hK hH 7 4 rfl rfl) gw_StoneYear_227 hd_yX4_may ⟨Nat.le_of_ble_eq_true rfl, Nat.le_of_ble_eq_true rfl⟩ rfl rfl hl (Nat.le_of_ble_eq_true rfl) dX0_closes_76 ⟨Nat.le_of_ble_eq_true rfl, Nat.le_of_ble_eq_true rfl⟩ (fun w2 H locs hw hH => ?_)
                    obtain ⟨g_sort_584, g_size_585, g_from_586, g_to_587, g_level_588, g_full_589, rfl⟩ := hw
                    have j116 : ∀ (a_sKeys_598 : Nat → Int64) (a_sRow_599 : Nat → Int64) (a_sSlots_600 : Nat → Int32) (v_sMany_601 : Int32), FX0_closes_j116 nb bv u p2 p3 y_373 a_tAt_374 a_tMany_375 v_tMoved_376 x_509 x_571 a_sKeys_598 a_sRow_599 a_sSlots_600 v_sMany_601 = some yy56 → ∀ (H : Heap) (locs : List Loc) (ls : Array Slot), MH D vwA A s.heap (cW ad cA sA ta ba na gi rh (some (tb 0)) g_sort_584 g_size_585 g_from_586 g_to_587 g_level_588 g_full_589 a_tape a_hAt a_hMany a_tAt_374 a_tMany_375 a_least a_place a_to a_order a_fails a_sKeys_598 a_sRow_599 a_sSlots_600 a_bKeys a_bRow a_bSlots a_easy a_wants a_wantedBy a_ring a_carried a_latest v_taped v_faultKind v_faultPlace v_x v_ordered v_sought v_lastSought v_hMoved v_hWithout v_tMoved_376 v_tWithout v_places v_elsewhere v_sMany_601 v_bMany v_year y_lies a_rsort a_rmany a_nums pl) H locs → lv_has ls 9 [(0, .ref (ad 0)), (1, .ref (tb 0)), (2, .int p2), (3, .int p3), (4, .int x_357), (5, .long y_373), (7, .int x_509), (8, .int x_571)] → W p l e rm_X0_closes s m args below meth c H locs 0 0 Q (F0 m 116 ls []) := by
                      intro a_sKeys_598 a_sRow_599 a_sSlots_600 v_sMany_601 hF H locs ls hH hl
                      delta FX0_closes_j116 at hF
                      refine lv_iload hx hb dX0_closes_116 (lv_at hl 6 rfl) ?_
                      refine lv_iload hx hb dX0_closes_118 (lv_at hl 7 rfl) ?_
                      have j202 : ∀ (a_sKeys_621 : Nat → Int64) (a_sRow_622 : Nat → Int64) (a_sSlots_623 : Nat → Int32) (v_sMany_624 : Int32), FX0_closes_j202 p2 x_571 a_sKeys_621 a_sRow_622 a_sSlots_623 v_sMany_624 = some yy56 → ∀ (g_sort_625 : Int32) (g_size_626 : Int32) (g_from_627 : Int32) (g_to_628 : Int32) (g_level_629 : Int32) (g_full_630 : Int32), ∀ (H : Heap) (locs : List Loc) (ls : Array Slot), MH D vwA A s.heap (cW ad cA sA ta ba na gi rh (some (tb 0)) g_sort_625 g_size_626 g_from_627 g_to_628 g_level_629 g_full_630 a_tape a_hAt a_hMany a_tAt_374 a_tMany_375 a_least a_place a_to a_order a_fails a_sKeys_621 a_sRow_622 a_sSlots_623 a_bKeys a_bRow a_bSlots a_easy a_wants a_wantedBy a_ring a_carried a_latest v_taped v_faultKind v_faultPlace v_x v_ordered v_sought v_lastSought v_hMoved v_hWithout v_tMoved_376 v_tWithout v_places v_elsewhere v_sMany_624 v_bMany v_year y_lies a_rsort a_rmany a_nums pl) H locs → lv_has ls 9 [(0, .ref (ad 0)), (1, .ref (tb 0)), (2, .int p2), (3, .int p3), (4, .int x_357), (5, .long y_373), (7, .int x_509), (8, .int x_571)] → W p l e rm_X0_closes s m args below meth c H locs 0 0 Q (F0 m 202 ls []) := by
                        intro a_sKeys_621 a_sRow_622 a_sSlots_623 v_sMany_624 hF g_sort_625 g_size_626 g_from_627 g_to_628 g_level_629 g_full_630 H locs ls hH hl
                        delta FX0_closes_j202 at hF
                        refine lv_iload_n hx hb dX0_closes_202 rfl (lv_at hl 2 rfl) ?_
                        refine lv_aload_n hx hb dX0_closes_203 rfl (lv_at hl 0 rfl) ?_
                        refine cg_Y_this_states hX hK hNW hH dX0_closes_204 ?_
                        refine cg_Y_tabs_many hX hK hNW hH dX0_closes_207 ?_
                        refine lv_iadd hx hb dX0_closes_210 ?_
                        refine lv_sipush (v := 6000) hx hb dX0_closes_211 kys_6000 ?_
                        refine lv_icmp_le (tgt := 219) hx hb dX0_closes_214 rfl (fun c_631 => ?_) (fun c_631 => ?_)
                        · have hF := itp c_631 hF
                          refine lv_iinc (v := (x_571 + 1)) (lv' := [(8, .int (x_571 + 1)), (0, .ref (ad 0)), (1, .ref (tb 0)), (2, .int p2), (3, .int p3), (4, .int x_357), (5, .long y_373), (7, .int x_509)]) hx hb dX0_closes_219 hl (k := 7) rfl (syc kyi_1) (by decide) rfl (fun ls hl => ?_)
                          refine lv_goto (tgt := 56) hx hb dX0_closes_222 rfl ?_
                          obtain rfl := Option.some.inj hF
                          exact ih (x_571 + 1) a_sKeys_621 a_sRow_622 a_sSlots_623 v_sMany_624 hY56 _ _ _ _ _ _ _ _ _ hH (lv_sub hl [1, 2, 3, 4, 5, 6, 7, 0] rfl)
                        · have hF := itn c_631 hF
                          obtain rfl := Option.some.inj hF
                          exact k56_0 a_sKeys_621 a_sRow_622 a_sSlots_623 v_sMany_624 hY56 _ _ _ _ _ _ _ _ _ hH (lv_sub hl [] rfl)
                      refine lv_icmp_ge (tgt := 202) hx hb dX0_closes_120 rfl (fun c_602 => ?_) (fun c_602 => ?_)
                      · have hF := itp c_602 hF
                        exact j202 a_sKeys_598 a_sRow_599 a_sSlots_600 v_sMany_601 hF _ _ _ _ _ _ _ _ _ hH (lv_sub hl [0, 1, 2, 3, 4, 5, 6, 7] rfl)
                      · have hF := itn c_602 hF
                        refine lv_aload_n hx hb dX0_closes_123 rfl (lv_at hl 0 rfl) ?_
                        refine cg_Y_this_trial hX hK hNW hH dX0_closes_124 ?_
                        refine lv_iload hx hb dX0_closes_127 (lv_at hl 6 rfl) ?_
                        refine lv_iload hx hb dX0_closes_129 (lv_at hl 7 rfl) ?_
                        obtain ⟨x_603, he, hF⟩ := bd1e hF
                        refine mxV hX hK hEv hE0 hH (met_X4_mayExchange_t hE hPO hU he) (crecv hK hH 7 4 rfl rfl) gw_StoneYear_230 hd_yX4_mayExchange ⟨Nat.le_of_ble_eq_true rfl, Nat.le_of_ble_eq_true rfl⟩ rfl rfl hl (Nat.le_of_ble_eq_true rfl) dX0_closes_131 ⟨Nat.le_of_ble_eq_true rfl, Nat.le_of_ble_eq_true rfl⟩ (fun w2 H locs hw hH => ?_)
                        obtain ⟨g_sort_604, g_size_605, g_from_606, g_to_607, g_level_608, g_full_609, rfl⟩ := hw
                        refine lv_if_ne (tgt := 202) hx hb dX0_closes_134 rfl (fun c_610 => ?_) (fun c_610 => ?_)
                        · have hF := itn c_610 hF
                          exact j202 a_sKeys_598 a_sRow_599 a_sSlots_600 v_sMany_601 hF _ _ _ _ _ _ _ _ _ hH (lv_sub hl [0, 1, 2, 3, 4, 5, 6, 7] rfl)
                        · have hF := itp c_610 hF
                          refine lv_aload_n hx hb dX0_closes_137 rfl (lv_at hl 0 rfl) ?_
                          refine lv_lload hx hb dX0_closes_138 (lv_at hl 5 rfl) ?_
                          refine lv_aload_n hx hb dX0_closes_140 rfl (lv_at hl 0 rfl) ?_
                          refine cg_Y_this_trial hX hK hNW hH dX0_closes_141 ?_
                          refine lv_iload hx hb dX0_closes_144 (lv_at hl 6 rfl) ?_
                          obtain ⟨x_611, he, hF⟩ := bd1e hF
                          refine mxV hX hK hEv hE0 hH (met_X4_top_t hE hPO hU he) (crecv hK hH 7 4 rfl rfl) gw_StoneYear_249 hd_yX4_top ⟨Nat.le_of_ble_eq_true rfl, Nat.le_of_ble_eq_true rfl⟩ rfl rfl hl (Nat.le_of_ble_eq_true rfl) dX0_closes_146 ⟨Nat.le_of_ble_eq_true rfl, Nat.le_of_ble_eq_true rfl⟩ (fun w2 H locs hw hH => ?_)
                          subst hw
                          refine lv_iconst (v := 3) hx hb dX0_closes_149 kyi_3 ?_
                          refine lv_iload hx hb dX0_closes_150 (lv_at hl 7 rfl) ?_
                          refine lv_imul hx hb dX0_closes_152 ?_
                          refine lv_aload_n hx hb dX0_closes_153 rfl (lv_at hl 0 rfl) ?_
                          refine cg_Y_this_trial hX hK hNW hH dX0_closes_154 ?_
                          refine cg_Y_stkt_many hX hK hNW hH dX0_closes_157 ?_
                          refine lv_iload hx hb dX0_closes_160 (lv_at hl 7 rfl) ?_
                          obtain ⟨x_612, he, hF⟩ := bd1e hF
                          refine cl_tMany hX hK hH he dX0_closes_162 ?_
                          refine lv_iadd hx hb dX0_closes_163 ?_
                          refine lv_iconst (v := 1) hx hb dX0_closes_164 kyi_1 ?_
                          refine lv_isub hx hb dX0_closes_165 ?_
                          obtain ⟨y_613, he, hF⟩ := bd1e hF
                          refine mxS hX hK hEv hE0 hH (met_X0_to hE hPO he) gw_StoneYear_384 hd_yX0_to ⟨Nat.le_of_ble_eq_true rfl, Nat.le_of_ble_eq_true rfl⟩ rfl rfl hl (Nat.le_of_ble_eq_true rfl) dX0_closes_166 ⟨Nat.le_of_ble_eq_true rfl, Nat.le_of_ble_eq_true rfl⟩ (fun w2 H locs hw hH => ?_)
                          subst hw
                          refine lv_aload_n hx hb dX0_closes_169 rfl (lv_at hl 0 rfl) ?_
                          refine cg_Y_this_trial hX hK hNW hH dX0_closes_170 ?_
                          refine lv_iload hx hb dX0_closes_173 (lv_at hl 7 rfl) ?_
                          obtain ⟨x_614, he, hF⟩ := bd1e hF
                          refine mxV hX hK hEv hE0 hH (met_X4_top_t hE hPO hU he) (crecv hK hH 7 4 rfl rfl) gw_StoneYear_249 hd_yX4_top ⟨Nat.le_of_ble_eq_true rfl, Nat.le_of_ble_eq_true rfl⟩ rfl rfl hl (Nat.le_of_ble_eq_true rfl) dX0_closes_175 ⟨Nat.le_of_ble_eq_true rfl, Nat.le_of_ble_eq_true rfl⟩ (fun w2 H locs hw hH => ?_)
                          subst hw
                          refine lv_iconst (v := 3) hx hb dX0_closes_178 kyi_3 ?_
                          refine lv_iload hx hb dX0_closes_179 (lv_at hl 6 rfl) ?_
                          refine lv_imul hx hb dX0_closes_181 ?_
                          refine lv_aload_n hx hb dX0_closes_182 rfl (lv_at hl 0 rfl) ?_
                          refine cg_Y_this_trial hX hK hNW hH dX0_closes_183 ?_
                          refine cg_Y_stkt_many hX hK hNW hH dX0_closes_186 ?_
                          refine lv_iload hx hb dX0_closes_189 (lv_at hl 6 rfl) ?_
                          obtain ⟨x_615, he, hF⟩ := bd1e hF
                          refine cl_tMany hX hK hH he dX0_closes_191 ?_
                          refine lv_iadd hx hb dX0_closes_192 ?_
                          refine lv_iconst (v := 1) hx hb dX0_closes_193 kyi_1 ?_
                          refine lv_isub hx hb dX0_closes_194 ?_
                          obtain ⟨y_616, he, hF⟩ := bd1e hF
                          refine mxS hX hK hEv hE0 hH (met_X0_to hE hPO he) gw_StoneYear_384 hd_yX0_to ⟨Nat.le_of_ble_eq_true rfl, Nat.le_of_ble_eq_true rfl⟩ rfl rfl hl (Nat.le_of_ble_eq_true rfl) dX0_closes_195 ⟨Nat.le_of_ble_eq_true rfl, Nat.le_of_ble_eq_true rfl⟩ (fun w2 H locs hw hH => ?_)
                          subst hw
                          refine lv_iload_n hx hb dX0_closes_198 rfl (lv_at hl 3 rfl) ?_
                          obtain ⟨a_sKeys_617, a_sRow_618, a_sSlots_619, v_sMany_620, he, hF⟩ := bd4e hF
                          refine mxV hX hK hEv hE0 hH (met_X0_comes hE hPO he) (crecv hK hH 0 0 rfl rfl) gw_StoneYear_387 hd_yX0_comes ⟨Nat.le_of_ble_eq_true rfl, Nat.le_of_ble_eq_true rfl⟩ rfl rfl hl (Nat.le_of_ble_eq_true rfl) dX0_closes_199 ⟨Nat.le_of_ble_eq_true rfl, Nat.le_of_ble_eq_true rfl⟩ (fun w2 H locs hw hH => ?_)
                          subst hw
                          exact j202 a_sKeys_617 a_sRow_618 a_sSlots_619 v_sMany_620 hF _ _ _ _ _ _ _ _ _ hH (lv_sub hl [0, 1, 2, 3, 4, 5, 6, 7] rfl)
                    refine lv_if_ne (tgt := 116) hx hb dX0_closes_79 rfl (fun c_590 => ?_) (fun c_590 => ?_)
                    · have hF := itn c_590 hF
                      exact j116 a_sKeys_572 a_sRow_573 a_sSlots_574 v_sMany_575 hF _ _ _ hH (lv_sub hl [0, 1, 2, 3, 4, 5, 6, 7] rfl)
                    · have hF := itp c_590 hF
                      refine lv_aload_n hx hb dX0_closes_82 rfl (lv_at hl 0 rfl) ?_
                      refine lv_lload hx hb dX0_closes_83 (lv_at hl 5 rfl) ?_
                      refine lv_aload_n hx hb dX0_closes_85 rfl (lv_at hl 0 rfl) ?_
                      refine cg_Y_this_trial hX hK hNW hH dX0_closes_86 ?_
                      refine lv_iload hx hb dX0_closes_89 (lv_at hl 6 rfl) ?_
                      obtain ⟨x_591, he, hF⟩ := bd1e hF
                      refine mxV hX hK hEv hE0 hH (met_X4_top_t hE hPO hU he) (crecv hK hH 7 4 rfl rfl) gw_StoneYear_249 hd_yX4_top ⟨Nat.le_of_ble_eq_true rfl, Nat.le_of_ble_eq_true rfl⟩ rfl rfl hl (Nat.le_of_ble_eq_true rfl) dX0_closes_91 ⟨Nat.le_of_ble_eq_true rfl, Nat.le_of_ble_eq_true rfl⟩ (fun w2 H locs hw hH => ?_)
                      subst hw
                      refine lv_iconst (v := 3) hx hb dX0_closes_94 kyi_3 ?_
                      refine lv_iload hx hb dX0_closes_95 (lv_at hl 7 rfl) ?_
                      refine lv_imul hx hb dX0_closes_97 ?_
                      refine lv_aload_n hx hb dX0_closes_98 rfl (lv_at hl 0 rfl) ?_
                      refine cg_Y_this_trial hX hK hNW hH dX0_closes_99 ?_
                      refine cg_Y_stkt_many hX hK hNW hH dX0_closes_102 ?_
                      refine lv_iload hx hb dX0_closes_105 (lv_at hl 7 rfl) ?_
                      obtain ⟨x_592, he, hF⟩ := bd1e hF
                      refine cl_tMany hX hK hH he dX0_closes_107 ?_
                      refine lv_iadd hx hb dX0_closes_108 ?_
                      obtain ⟨y_593, he, hF⟩ := bd1e hF
                      refine mxS hX hK hEv hE0 hH (met_X0_to hE hPO he) gw_StoneYear_384 hd_yX0_to ⟨Nat.le_of_ble_eq_true rfl, Nat.le_of_ble_eq_true rfl⟩ rfl rfl hl (Nat.le_of_ble_eq_true rfl) dX0_closes_109 ⟨Nat.le_of_ble_eq_true rfl, Nat.le_of_ble_eq_true rfl⟩ (fun w2 H locs hw hH => ?_)
                      subst hw
                      refine lv_iload_n hx hb dX0_closes_112 rfl (lv_at hl 3 rfl) ?_
                      obtain ⟨a_sKeys_594, a_sRow_595, a_sSlots_596, v_sMany_597, he, hF⟩ := bd4e hF
                      refine mxV hX hK hEv hE0 hH (met_X0_comes hE hPO he) (crecv hK hH 0 0 rfl rfl) gw_StoneYear_387 hd_yX0_comes ⟨Nat.le_of_ble_eq_true rfl, Nat.le_of_ble_eq_true rfl⟩ rfl rfl hl (Nat.le_of_ble_eq_true rfl) dX0_closes_113 ⟨Nat.le_of_ble_eq_true rfl, Nat.le_of_ble_eq_true rfl⟩ (fun w2 H locs hw hH => ?_)
                      subst hw
                      exact j116 a_sKeys_594 a_sRow_595 a_sSlots_596 v_sMany_597 hF _ _ _ hH (lv_sub hl [0, 1, 2, 3, 4, 5, 6, 7] rfl)
              exact l56 nn56 0 a_sKeys_510 a_sRow_511 a_sSlots_512 v_sMany_513 en56 _ _ _ _ _ _ _ _ _ hH (lv_sub hl [1, 2, 3, 4, 5, 6, 7, 0] rfl)
        exact l41 nn41 0 a_sKeys_360 a_sRow_361 a_sSlots_362 v_sMany_364 en41 _ _ _ _ _ _ _ _ _ hH (lv_sub hl [2, 3, 4, 5, 6, 1, 0] rfl)
  exact l3 nn3 0 a_tAt a_tMany a_sKeys a_sRow a_sSlots v_tMoved v_sMany en3 _ _ _ _ _ _ _ _ _ _ hH (lv_sub hl [1, 2, 3, 4, 0] rfl)
abbrev rm_X0_isAnyDone : Room := { frames := 5, cells := 0, slots := 0, locals := 165 }
set_option maxHeartbeats 4000000 in
theorem met_X0_isAnyDone {l : Launch} {D : va_G} {ad : Nat → Nat} {cA : Nat → ClassId} {sA ta ba na : Nat → Nat} {gi : Nat → Option Nat} {rh : Option Nat} {rt : Option Nat} {g_sort : Int32} {g_size : Int32} {g_from : Int32} {g_to : Int32} {g_level : Int32} {g_full : Int32} {a_tape : Nat → Int32} {a_hAt : Nat → Int32} {a_hMany : Nat → Int32} {a_tAt : Nat → Int32} {a_tMany : Nat → Int32} {a_least : Nat → Int32} {a_place : Nat → Int32} {a_to : Nat → Int32} {a_order : Nat → Int32} {a_fails : Nat → Int32} {a_sKeys : Nat → Int64} {a_sRow : Nat → Int64} {a_sSlots : Nat → Int32} {a_bKeys : Nat → Int64} {a_bRow : Nat → Int64} {a_bSlots : Nat → Int32} {a_easy : Nat → Int32} {a_wants : Nat → Int32} {a_wantedBy : Nat → Int32} {a_ring : Nat → Int32} {a_carried : Nat → Int32} {a_latest : Nat → Int32} {v_taped : Int32} {v_faultKind : Int32} {v_faultPlace : Int32} {v_x : Int32} {v_ordered : Int32} {v_sought : Int32} {v_lastSought : Int32} {v_hMoved : Int32} {v_hWithout : Int32} {v_tMoved : Int32} {v_tWithout : Int32} {v_places : Int32} {v_elsewhere : Int32} {v_sMany : Int32} {v_bMany : Int32} {v_year : Int32} {y_lies : Int64} {a_rsort : Nat → Int32} {a_rmany : Nat → Int32} {a_nums : Nat → Nat → Int64} {t : Nat → Int32} {nb : Int32} {bv : Nat → Int32 → Int32 → Int32 → Int32 → Int32 → Int32 → Bool} {pl : va_W} {tb : Nat → Nat} {u : Nat → Int32}  {p2 : Int32} {res : Bool} {ra_tAt : Nat → Int32} {ra_tMany : Nat → Int32} {rv_tMoved : Int32} {E : EvT} (hE : EvN E) (hPO : PO cA pl ta ba t nb bv) (hU : TownAt cA pl tb u) (hF : FX0_isAnyDone u a_tAt a_tMany a_sRow v_tMoved v_sMany p2 = some (res, ra_tAt, ra_tMany, rv_tMoved)) : MX l yX0_isAnyDone (ws_ yX0_isAnyDone cX0_isAnyDone 4 (Option.some Jvm.ClassFile.FieldType.boolean)) rm_X0_isAnyDone D vwA (cT cA) E [.ref (ad 0), .ref (tb 0), .int p2] (cW ad cA sA ta ba na gi rh rt g_sort g_size g_from g_to g_level g_full a_tape a_hAt a_hMany a_tAt a_tMany a_least a_place a_to a_order a_fails a_sKeys a_sRow a_sSlots a_bKeys a_bRow a_bSlots a_easy a_wants a_wantedBy a_ring a_carried a_latest v_taped v_faultKind v_faultPlace v_x v_ordered v_sought v_lastSought v_hMoved v_hWithout v_tMoved v_tWithout v_places v_elsewhere v_sMany v_bMany v_year y_lies a_rsort a_rmany a_nums pl) (fun z => ∃ rt' : Option Nat, z = (cW ad cA sA ta ba na gi rh rt' g_sort g_size g_from g_to g_level g_full a_tape a_hAt a_hMany ra_tAt ra_tMany a_least a_place a_to a_order a_fails a_sKeys a_sRow a_sSlots a_bKeys a_bRow a_bSlots a_easy a_wants a_wantedBy a_ring a_carried a_latest v_taped v_faultKind v_faultPlace v_x v_ordered v_sought v_lastSought v_hMoved v_hWithout rv_tMoved v_tWithout v_places v_elsewhere v_sMany v_bMany v_year y_lies a_rsort a_rmany a_nums pl)) (some (.int (b2i res))) := by
  refine MX.ofZ (by decide) (Nat.le_of_ble_eq_true rfl) ?_
  intro p e s m args below meth c Q A hX hK hE0 hname hret H locs ls hH hl
  have hX : CallFix p m c cX0_isAnyDone 4 s args lw_all RX0 := hX
  have hx := hX.1
  have hb := hX.2.1
  have hown := hX.2.2.2.1
  have hts := hX.2.2.2.2
  have hl : lv_has ls 4 [(0, .ref (ad 0)), (1, .ref (tb 0)), (2, .int p2)] := hl
  have hEv := hE.1
  have hNW := hE.2.1 _ _ _ hE0
  have hT := hPO.1
  have hB := hPO.2
  delta FX0_isAnyDone at hF
  refine lv_iconst (v := 0) hx hb dX0_isAnyDone_0 kyi_0 ?_
  refine lv_istore_n (lv' := [(3, .int 0), (0, .ref (ad 0)), (1, .ref (tb 0)), (2, .int p2)]) hx hb dX0_isAnyDone_1 rfl hl (by decide) rfl (fun ls hl => ?_)
  obtain ⟨xx2, ee2, kk2_0, kk2_1⟩ := bdS2e hF
  have k2_0 : ∀ (a_tAt_75 : Nat → Int32) (a_tMany_76 : Nat → Int32) (v_tMoved_77 : Int32), xx2 = (.inl (a_tAt_75, a_tMany_76, v_tMoved_77)) → ∀ (H : Heap) (locs : List Loc) (ls : Array Slot), MH D vwA A s.heap (cW ad cA sA ta ba na gi rh (some (tb 0)) g_sort g_size g_from g_to g_level g_full a_tape a_hAt a_hMany a_tAt_75 a_tMany_76 a_least a_place a_to a_order a_fails a_sKeys a_sRow a_sSlots a_bKeys a_bRow a_bSlots a_easy a_wants a_wantedBy a_ring a_carried a_latest v_taped v_faultKind v_faultPlace v_x v_ordered v_sought v_lastSought v_hMoved v_hWithout v_tMoved_77 v_tWithout v_places v_elsewhere v_sMany v_bMany v_year y_lies a_rsort a_rmany a_nums pl) H locs → lv_has ls 4 [] → W p l e rm_X0_isAnyDone s m args below meth c H locs 0 0 Q (F0 m 37 ls []) := by
    intro a_tAt_75 a_tMany_76 v_tMoved_77 hxx H locs ls hH hl
    have hF := un3e (kk2_0 (a_tAt_75, a_tMany_76, v_tMoved_77) hxx)
    refine lv_iconst (v := 1) hx hb dX0_isAnyDone_37 kyi_1 ?_
    obtain ⟨rfl, rfl, rfl, rfl⟩ := re4 hF
    exact hret _ _ _ _ _ ⟨_, rfl⟩ hH dX0_isAnyDone_38
  have k2_1 : ∀ (a_tAt_78 : Nat → Int32) (a_tMany_79 : Nat → Int32) (v_tMoved_80 : Int32), xx2 = (.inr (a_tAt_78, a_tMany_79, v_tMoved_80)) → ∀ (rt_81 : Option Nat), ∀ (H : Heap) (locs : List Loc) (ls : Array Slot), MH D vwA A s.heap (cW ad cA sA ta ba na gi rh rt_81 g_sort g_size g_from g_to g_level g_full a_tape a_hAt a_hMany a_tAt_78 a_tMany_79 a_least a_place a_to a_order a_fails a_sKeys a_sRow a_sSlots a_bKeys a_bRow a_bSlots a_easy a_wants a_wantedBy a_ring a_carried a_latest v_taped v_faultKind v_faultPlace v_x v_ordered v_sought v_lastSought v_hMoved v_hWithout v_tMoved_80 v_tWithout v_places v_elsewhere v_sMany v_bMany v_year y_lies a_rsort a_rmany a_nums pl) H locs → lv_has ls 4 [] → W p l e rm_X0_isAnyDone s m args below meth c H locs 0 0 Q (F0 m 45 ls []) := by
    intro a_tAt_78 a_tMany_79 v_tMoved_80 hxx rt_81 H locs ls hH hl
    have hF := un3e (kk2_1 (a_tAt_78, a_tMany_79, v_tMoved_80) hxx)
    refine lv_iconst (v := 0) hx hb dX0_isAnyDone_45 kyi_0 ?_
    obtain ⟨rfl, rfl, rfl, rfl⟩ := re4 hF
    exact hret _ _ _ _ _ ⟨_, rfl⟩ hH dX0_isAnyDone_46
  obtain ⟨nn2, en2⟩ := loopC_some ee2
  have l2 : ∀ (n : Nat) (x_63 : Int32) (a_tAt_64 : Nat → Int32) (a_tMany_65 : Nat → Int32) (v_tMoved_66 : Int32), loopN (fun s => FX0_isAnyDone_b2 a_sRow v_sMany u p2 s.1 s.2.1 s.2.2.1 s.2.2.2) n (x_63, a_tAt_64, a_tMany_65, v_tMoved_66) = some xx2 → ∀ (rt_67 : Option Nat), ∀ (H : Heap) (locs : List Loc) (ls : Array Slot), MH D vwA A s.heap (cW ad cA sA ta ba na gi rh rt_67 g_sort g_size g_from g_to g_level g_full a_tape a_hAt a_hMany a_tAt_64 a_tMany_65 a_least a_place a_to a_order a_fails a_sKeys a_sRow a_sSlots a_bKeys a_bRow a_bSlots a_easy a_wants a_wantedBy a_ring a_carried a_latest v_taped v_faultKind v_faultPlace v_x v_ordered v_sought v_lastSought v_hMoved v_hWithout v_tMoved_66 v_tWithout v_places v_elsewhere v_sMany v_bMany v_year y_lies a_rsort a_rmany a_nums pl) H locs → lv_has ls 4 [(0, .ref (ad 0)), (1, .ref (tb 0)), (2, .int p2), (3, .int x_63)] → W p l e rm_X0_isAnyDone s m args below meth c H locs 0 0 Q (F0 m 2 ls []) := by
    intro n
    induction n with
    | zero =>
      intro x_63 a_tAt_64 a_tMany_65 v_tMoved_66 hN
      exact absurd hN loopN_zero
    | succ n ih =>
      intro x_63 a_tAt_64 a_tMany_65 v_tMoved_66 hN rt_67 H locs ls hH hl
      obtain ⟨yy2, hB2, hY2⟩ := loopN_succ hN
      have hF : FX0_isAnyDone_b2 a_sRow v_sMany u p2 x_63 a_tAt_64 a_tMany_65 v_tMoved_66 = some yy2 := hB2
      delta FX0_isAnyDone_b2 at hF
      refine lv_iload_n hx hb dX0_isAnyDone_2 rfl (lv_at hl 3 rfl) ?_
      refine lv_aload_n hx hb dX0_isAnyDone_3 rfl (lv_at hl 0 rfl) ?_
      refine cg_Y_this_states hX hK hNW hH dX0_isAnyDone_4 ?_
      refine cg_Y_tabs_many hX hK hNW hH dX0_isAnyDone_7 ?_
      refine lv_icmp_ge (tgt := 45) hx hb dX0_isAnyDone_10 rfl (fun c_68 => ?_) (fun c_68 => ?_)
      · have hF := itp c_68 hF
        obtain rfl := Option.some.inj hF
        exact k2_1 a_tAt_64 a_tMany_65 v_tMoved_66 hY2 _ _ _ _ hH (lv_sub hl [] rfl)
      · have hF := itn c_68 hF
        refine lv_aload_n hx hb dX0_isAnyDone_13 rfl (lv_at hl 0 rfl) ?_
        refine cg_Y_this_trial hX hK hNW hH dX0_isAnyDone_14 ?_
        refine lv_aload_n hx hb dX0_isAnyDone_17 rfl (lv_at hl 1 rfl) ?_
        refine lv_aload_n hx hb dX0_isAnyDone_18 rfl (lv_at hl 0 rfl) ?_
        refine cg_Y_this_states hX hK hNW hH dX0_isAnyDone_19 ?_
        refine cg_Y_tabs_row hX hK hNW hH dX0_isAnyDone_22 ?_
        refine lv_iload_n hx hb dX0_isAnyDone_25 rfl (lv_at hl 3 rfl) ?_
        obtain ⟨y_69, he, hF⟩ := bd1e hF
        refine cl_sRow hX hK hH he dX0_isAnyDone_26 ?_
        obtain ⟨a_tAt_70, a_tMany_71, v_tMoved_72, he, hF⟩ := bd3e hF
        refine mxV hX hK hEv hE0 hH (met_X4_lays_t hE hPO hU he) (crecv hK hH 7 4 rfl rfl) gw_StoneYear_151 hd_yX4_lays ⟨Nat.le_of_ble_eq_true rfl, Nat.le_of_ble_eq_true rfl⟩ rfl rfl hl (Nat.le_of_ble_eq_true rfl) dX0_isAnyDone_27 ⟨Nat.le_of_ble_eq_true rfl, Nat.le_of_ble_eq_true rfl⟩ (fun w2 H locs hw hH => ?_)
        subst hw
        refine lv_iload_n hx hb dX0_isAnyDone_30 rfl (lv_at hl 2 rfl) ?_
        obtain ⟨b_73, he, hF⟩ := bd1e hF
        refine mxV hX hK hEv hE0 hH (met_X4_isDone_t hE hPO hU he) (crecv hK hH 7 4 rfl rfl) gw_StoneYear_289 hd_yX4_isDone ⟨Nat.le_of_ble_eq_true rfl, Nat.le_of_ble_eq_true rfl⟩ rfl rfl hl (Nat.le_of_ble_eq_true rfl) dX0_isAnyDone_31 ⟨Nat.le_of_ble_eq_true rfl, Nat.le_of_ble_eq_true rfl⟩ (fun w2 H locs hw hH => ?_)
        subst hw
        refine lv_if_eq (tgt := 39) hx hb dX0_isAnyDone_34 rfl (fun c_74 => ?_) (fun c_74 => ?_)
        · have hF := itp c_74 hF
          refine lv_iinc (v := (x_63 + 1)) (lv' := [(3, .int (x_63 + 1)), (0, .ref (ad 0)), (1, .ref (tb 0)), (2, .int p2)]) hx hb dX0_isAnyDone_39 hl (k := 3) rfl (syc kyi_1) (by decide) rfl (fun ls hl => ?_)
          refine lv_goto (tgt := 2) hx hb dX0_isAnyDone_42 rfl ?_
          obtain rfl := Option.some.inj hF
          exact ih (x_63 + 1) a_tAt_70 a_tMany_71 v_tMoved_72 hY2 _ _ _ _ hH (lv_sub hl [1, 2, 3, 0] rfl)
        · have hF := itn c_74 hF
          obtain rfl := Option.some.inj hF
          exact k2_0 a_tAt_70 a_tMany_71 v_tMoved_72 hY2 _ _ _ hH (lv_sub hl [] rfl)
  exact l2 nn2 0 a_tAt a_tMany v_tMoved en2 _ _ _ _ hH (lv_sub hl [1, 2, 3, 0] rfl)
abbrev rm_X0_opens : Room := { frames := 2, cells := 0, slots := 0, locals := 48 }
set_option maxHeartbeats 4000000 in
theorem met_X0_opens {l : Launch} {D : va_G} {ad : Nat → Nat} {cA : Nat → ClassId} {sA ta ba na : Nat → Nat} {gi : Nat → Option Nat} {rh : Option Nat} {rt : Option Nat} {g_sort : Int32} {g_size : Int32} {g_from : Int32} {g_to : Int32} {g_level : Int32} {g_full : Int32} {a_tape : Nat → Int32} {a_hAt : Nat → Int32} {a_hMany : Nat → Int32} {a_tAt : Nat → Int32} {a_tMany : Nat → Int32} {a_least : Nat → Int32} {a_place : Nat → Int32} {a_to : Nat → Int32} {a_order : Nat → Int32} {a_fails : Nat → Int32} {a_sKeys : Nat → Int64} {a_sRow : Nat → Int64} {a_sSlots : Nat → Int32} {a_bKeys : Nat → Int64} {a_bRow : Nat → Int64} {a_bSlots : Nat → Int32} {a_easy : Nat → Int32} {a_wants : Nat → Int32} {a_wantedBy : Nat → Int32} {a_ring : Nat → Int32} {a_carried : Nat → Int32} {a_latest : Nat → Int32} {v_taped : Int32} {v_faultKind : Int32} {v_faultPlace : Int32} {v_x : Int32} {v_ordered : Int32} {v_sought : Int32} {v_lastSought : Int32} {v_hMoved : Int32} {v_hWithout : Int32} {v_tMoved : Int32} {v_tWithout : Int32} {v_places : Int32} {v_elsewhere : Int32} {v_sMany : Int32} {v_bMany : Int32} {v_year : Int32} {y_lies : Int64} {a_rsort : Nat → Int32} {a_rmany : Nat → Int32} {a_nums : Nat → Nat → Int64} {t : Nat → Int32} {nb : Int32} {bv : Nat → Int32 → Int32 → Int32 → Int32 → Int32 → Int32 → Bool} {pl : va_W}  {p1 : Int64} {ra_sKeys : Nat → Int64} {ra_sRow : Nat → Int64} {ra_sSlots : Nat → Int32} {ra_bKeys : Nat → Int64} {ra_bRow : Nat → Int64} {ra_bSlots : Nat → Int32} {rv_sought : Int32} {rv_sMany : Int32} {rv_bMany : Int32} {E : EvT} (hE : EvN E) (hPO : PO cA pl ta ba t nb bv) (hF : FX0_opens a_sKeys a_sRow a_sSlots a_bKeys a_bRow a_bSlots v_sMany v_bMany p1 = some (ra_sKeys, ra_sRow, ra_sSlots, ra_bKeys, ra_bRow, ra_bSlots, rv_sought, rv_sMany, rv_bMany)) : MX l yX0_opens (ws_ yX0_opens cX0_opens 3 (Option.none : Option Jvm.ClassFile.FieldType)) rm_X0_opens D vwA (cT cA) E [.ref (ad 0), .long p1] (cW ad cA sA ta ba na gi rh rt g_sort g_size g_from g_to g_level g_full a_tape a_hAt a_hMany a_tAt a_tMany a_least a_place a_to a_order a_fails a_sKeys a_sRow a_sSlots a_bKeys a_bRow a_bSlots a_easy a_wants a_wantedBy a_ring a_carried a_latest v_taped v_faultKind v_faultPlace v_x v_ordered v_sought v_lastSought v_hMoved v_hWithout v_tMoved v_tWithout v_places v_elsewhere v_sMany v_bMany v_year y_lies a_rsort a_rmany a_nums pl) (fun z => z = (cW ad cA sA ta ba na gi rh rt g_sort g_size g_from g_to g_level g_full a_tape a_hAt a_hMany a_tAt a_tMany a_least a_place a_to a_order a_fails ra_sKeys ra_sRow ra_sSlots ra_bKeys ra_bRow ra_bSlots a_easy a_wants a_wantedBy a_ring a_carried a_latest v_taped v_faultKind v_faultPlace v_x v_ordered rv_sought v_lastSought v_hMoved v_hWithout v_tMoved v_tWithout v_places v_elsewhere rv_sMany rv_bMany v_year y_lies a_rsort a_rmany a_nums pl)) none := by
  refine MX.ofV (by decide) (Nat.le_of_ble_eq_true rfl) ?_
  intro p e s m args below meth c Q A hX hK hE0 hname hret H locs ls hH hl
  have hX : CallFix p m c cX0_opens 3 s args lw_all RX0 := hX
  have hx := hX.1
  have hb := hX.2.1
  have hown := hX.2.2.2.1
  have hts := hX.2.2.2.2
  have hl : lv_has ls 3 [(0, .ref (ad 0)), (1, .long p1)] := hl
  have hEv := hE.1
  have hNW := hE.2.1 _ _ _ hE0
  have hT := hPO.1
  have hB := hPO.2
  delta FX0_opens at hF
  refine lv_aload_n hx hb dX0_opens_0 rfl (lv_at hl 0 rfl) ?_
  refine cg_Y_this_states hX hK hNW hH dX0_opens_1 ?_
  obtain ⟨a_sKeys_55, v_sMany_56, he, hF⟩ := bd2e hF
  refine mxV hX hK hEv hE0 hH (met_X6_clears_s hE hPO he) (crecv hK hH 16 6 rfl rfl) gw_StoneYear_397 hd_yX6_clears ⟨Nat.le_of_ble_eq_true rfl, Nat.le_of_ble_eq_true rfl⟩ rfl rfl hl (Nat.le_of_ble_eq_true rfl) dX0_opens_4 ⟨Nat.le_of_ble_eq_true rfl, Nat.le_of_ble_eq_true rfl⟩ (fun w2 H locs hw hH => ?_)
  subst hw
  refine lv_aload_n hx hb dX0_opens_7 rfl (lv_at hl 0 rfl) ?_
  refine cg_Y_this_begun hX hK hNW hH dX0_opens_8 ?_
  obtain ⟨a_bKeys_57, v_bMany_58, he, hF⟩ := bd2e hF
  refine mxV hX hK hEv hE0 hH (met_X6_clears_b hE hPO he) (crecv hK hH 20 6 rfl rfl) gw_StoneYear_397 hd_yX6_clears ⟨Nat.le_of_ble_eq_true rfl, Nat.le_of_ble_eq_true rfl⟩ rfl rfl hl (Nat.le_of_ble_eq_true rfl) dX0_opens_11 ⟨Nat.le_of_ble_eq_true rfl, Nat.le_of_ble_eq_true rfl⟩ (fun w2 H locs hw hH => ?_)
  subst hw
  refine lv_aload_n hx hb dX0_opens_14 rfl (lv_at hl 0 rfl) ?_
  refine cg_Y_this_states hX hK hNW hH dX0_opens_15 ?_
  refine lv_lload_n hx hb dX0_opens_18 rfl (lv_at hl 1 rfl) ?_
  obtain ⟨b_59, a_sKeys_60, a_sRow_61, a_sSlots_62, v_sMany_63, he, hF⟩ := bd5e hF
  refine mxV hX hK hEv hE0 hH (met_X6_adds_s hE hPO he) (crecv hK hH 16 6 rfl rfl) gw_StoneYear_391 hd_yX6_adds ⟨Nat.le_of_ble_eq_true rfl, Nat.le_of_ble_eq_true rfl⟩ rfl rfl hl (Nat.le_of_ble_eq_true rfl) dX0_opens_19 ⟨Nat.le_of_ble_eq_true rfl, Nat.le_of_ble_eq_true rfl⟩ (fun w2 H locs hw hH => ?_)
  subst hw
  refine lv_pop hx hb dX0_opens_22 rfl ?_
  refine lv_lload_n hx hb dX0_opens_23 rfl (lv_at hl 1 rfl) ?_
  obtain ⟨y_64, he, hF⟩ := bd1e hF
  refine mxS hX hK hEv hE0 hH (met_X0_resting hE hPO he) gw_StoneYear_255 hd_yX0_resting ⟨Nat.le_of_ble_eq_true rfl, Nat.le_of_ble_eq_true rfl⟩ rfl rfl hl (Nat.le_of_ble_eq_true rfl) dX0_opens_24 ⟨Nat.le_of_ble_eq_true rfl, Nat.le_of_ble_eq_true rfl⟩ (fun w2 H locs hw hH => ?_)
  subst hw
  refine lv_lload_n hx hb dX0_opens_27 rfl (lv_at hl 1 rfl) ?_
  refine W.lcmp hx hb dX0_opens_28 ?_
  have j41 : ∀ (a_bKeys_71 : Nat → Int64) (a_bRow_72 : Nat → Int64) (a_bSlots_73 : Nat → Int32) (v_bMany_74 : Int32), FX0_opens_j41 a_sKeys_60 a_sRow_61 a_sSlots_62 v_sMany_63 a_bKeys_71 a_bRow_72 a_bSlots_73 v_bMany_74 = some (ra_sKeys, ra_sRow, ra_sSlots, ra_bKeys, ra_bRow, ra_bSlots, rv_sought, rv_sMany, rv_bMany) → ∀ (H : Heap) (locs : List Loc) (ls : Array Slot), MH D vwA A s.heap (cW ad cA sA ta ba na gi rh rt g_sort g_size g_from g_to g_level g_full a_tape a_hAt a_hMany a_tAt a_tMany a_least a_place a_to a_order a_fails a_sKeys_60 a_sRow_61 a_sSlots_62 a_bKeys_71 a_bRow_72 a_bSlots_73 a_easy a_wants a_wantedBy a_ring a_carried a_latest v_taped v_faultKind v_faultPlace v_x v_ordered v_sought v_lastSought v_hMoved v_hWithout v_tMoved v_tWithout v_places v_elsewhere v_sMany_63 v_bMany_74 v_year y_lies a_rsort a_rmany a_nums pl) H locs → lv_has ls 3 [(0, .ref (ad 0))] → W p l e rm_X0_opens s m args below meth c H locs 0 0 Q (F0 m 41 ls []) := by
    intro a_bKeys_71 a_bRow_72 a_bSlots_73 v_bMany_74 hF H locs ls hH hl
    delta FX0_opens_j41 at hF
    refine lv_aload_n hx hb dX0_opens_41 rfl (lv_at hl 0 rfl) ?_
    refine lv_iconst (v := 0) hx hb dX0_opens_42 kyi_0 ?_
    refine cp_Y_this_sought hX hK hNW hH dX0_opens_43 (fun H locs hH => ?_)
    obtain ⟨rfl, rfl, rfl, rfl, rfl, rfl, rfl, rfl, rfl⟩ := re9 hF
    exact hret _ _ _ _ _ rfl hH dX0_opens_46
  refine lv_if_ne (tgt := 41) hx hb dX0_opens_29 rfl (fun c_65 => ?_) (fun c_65 => ?_)
  · have hF := itn c_65 hF
    exact j41 a_bKeys_57 a_bRow a_bSlots v_bMany_58 hF _ _ _ hH (lv_sub hl [0] rfl)
  · have hF := itp c_65 hF
    refine lv_aload_n hx hb dX0_opens_32 rfl (lv_at hl 0 rfl) ?_
    refine cg_Y_this_begun hX hK hNW hH dX0_opens_33 ?_
    refine lv_lload_n hx hb dX0_opens_36 rfl (lv_at hl 1 rfl) ?_
    obtain ⟨b_66, a_bKeys_67, a_bRow_68, a_bSlots_69, v_bMany_70, he, hF⟩ := bd5e hF
    refine mxV hX hK hEv hE0 hH (met_X6_adds_b hE hPO he) (crecv hK hH 20 6 rfl rfl) gw_StoneYear_391 hd_yX6_adds ⟨Nat.le_of_ble_eq_true rfl, Nat.le_of_ble_eq_true rfl⟩ rfl rfl hl (Nat.le_of_ble_eq_true rfl) dX0_opens_37 ⟨Nat.le_of_ble_eq_true rfl, Nat.le_of_ble_eq_true rfl⟩ (fun w2 H locs hw hH => ?_)
    subst hw
    refine lv_pop hx hb dX0_opens_40 rfl ?_
    exact j41 a_bKeys_67 a_bRow_68 a_bSlots_69 v_bMany_70 hF _ _ _ hH (lv_sub hl [0] rfl)
abbrev rm_X0_seeks : Room := { frames := 263, cells := 0, slots := 0, locals := 6075 }
set_option maxHeartbeats 4000000 in
theorem met_X0_seeks {l : Launch} {D : va_G} {ad : Nat → Nat} {cA : Nat → ClassId} {sA ta ba na : Nat → Nat} {gi : Nat → Option Nat} {rh : Option Nat} {rt : Option Nat} {g_sort : Int32} {g_size : Int32} {g_from : Int32} {g_to : Int32} {g_level : Int32} {g_full : Int32} {a_tape : Nat → Int32} {a_hAt : Nat → Int32} {a_hMany : Nat → Int32} {a_tAt : Nat → Int32} {a_tMany : Nat → Int32} {a_least : Nat → Int32} {a_place : Nat → Int32} {a_to : Nat → Int32} {a_order : Nat → Int32} {a_fails : Nat → Int32} {a_sKeys : Nat → Int64} {a_sRow : Nat → Int64} {a_sSlots : Nat → Int32} {a_bKeys : Nat → Int64} {a_bRow : Nat → Int64} {a_bSlots : Nat → Int32} {a_easy : Nat → Int32} {a_wants : Nat → Int32} {a_wantedBy : Nat → Int32} {a_ring : Nat → Int32} {a_carried : Nat → Int32} {a_latest : Nat → Int32} {v_taped : Int32} {v_faultKind : Int32} {v_faultPlace : Int32} {v_x : Int32} {v_ordered : Int32} {v_sought : Int32} {v_lastSought : Int32} {v_hMoved : Int32} {v_hWithout : Int32} {v_tMoved : Int32} {v_tWithout : Int32} {v_places : Int32} {v_elsewhere : Int32} {v_sMany : Int32} {v_bMany : Int32} {v_year : Int32} {y_lies : Int64} {a_rsort : Nat → Int32} {a_rmany : Nat → Int32} {a_nums : Nat → Nat → Int64} {t : Nat → Int32} {nb : Int32} {bv : Nat → Int32 → Int32 → Int32 → Int32 → Int32 → Int32 → Bool} {pl : va_W} {tb : Nat → Nat} {u : Nat → Int32}  {p2 : Int64} {p4 : Int32} {p5 : Int32} {res : Int32} {ra_tAt : Nat → Int32} {ra_tMany : Nat → Int32} {ra_sKeys : Nat → Int64} {ra_sRow : Nat → Int64} {ra_sSlots : Nat → Int32} {ra_bKeys : Nat → Int64} {ra_bRow : Nat → Int64} {ra_bSlots : Nat → Int32} {rv_sought : Int32} {rv_tMoved : Int32} {rv_tWithout : Int32} {rv_sMany : Int32} {rv_bMany : Int32} {E : EvT} (hE : EvN E) (hPO : PO cA pl ta ba t nb bv) (hU : TownAt cA pl tb u) (hF : FX0_seeks u a_tAt a_tMany a_sKeys a_sRow a_sSlots a_bKeys a_bRow a_bSlots v_sMany v_bMany nb bv p2 p4 p5 = some (res, ra_tAt, ra_tMany, ra_sKeys, ra_sRow, ra_sSlots, ra_bKeys, ra_bRow, ra_bSlots, rv_sought, rv_tMoved, rv_tWithout, rv_sMany, rv_bMany)) : MX l yX0_seeks (ws_ yX0_seeks cX0_seeks 8 (Option.some Jvm.ClassFile.FieldType.int)) rm_X0_seeks D vwA (cT cA) E [.ref (ad 0), .ref (tb 0), .long p2, .int p4, .int p5] (cW ad cA sA ta ba na gi rh rt g_sort g_size g_from g_to g_level g_full a_tape a_hAt a_hMany a_tAt a_tMany a_least a_place a_to a_order a_fails a_sKeys a_sRow a_sSlots a_bKeys a_bRow a_bSlots a_easy a_wants a_wantedBy a_ring a_carried a_latest v_taped v_faultKind v_faultPlace v_x v_ordered v_sought v_lastSought v_hMoved v_hWithout v_tMoved v_tWithout v_places v_elsewhere v_sMany v_bMany v_year y_lies a_rsort a_rmany a_nums pl) (fun z => ∃ rt' : Option Nat, ∃ g_sort' : Int32, ∃ g_size' : Int32, ∃ g_from' : Int32, ∃ g_to' : Int32, ∃ g_level' : Int32, ∃ g_full' : Int32, z = (cW ad cA sA ta ba na gi rh rt' g_sort' g_size' g_from' g_to' g_level' g_full' a_tape a_hAt a_hMany ra_tAt ra_tMany a_least a_place a_to a_order a_fails ra_sKeys ra_sRow ra_sSlots ra_bKeys ra_bRow ra_bSlots a_easy a_wants a_wantedBy a_ring a_carried a_latest v_taped v_faultKind v_faultPlace v_x v_ordered rv_sought v_lastSought v_hMoved v_hWithout rv_tMoved rv_tWithout v_places v_elsewhere rv_sMany rv_bMany v_year y_lies a_rsort a_rmany a_nums pl)) (some (.int res)) := by
  refine MX.ofI (by decide) (Nat.le_of_ble_eq_true rfl) ?_
  intro p e s m args below meth c Q A hX hK hE0 hname hret H locs ls hH hl
  have hX : CallFix p m c cX0_seeks 8 s args lw_all RX0 := hX
  have hx := hX.1
  have hb := hX.2.1
  have hown := hX.2.2.2.1
  have hts := hX.2.2.2.2
  have hl : lv_has ls 8 [(0, .ref (ad 0)), (1, .ref (tb 0)), (2, .long p2), (4, .int p4), (5, .int p5)] := hl
  have hEv := hE.1
  have hNW := hE.2.1 _ _ _ hE0
  have hT := hPO.1
  have hB := hPO.2
  delta FX0_seeks at hF
  refine lv_aload_n hx hb dX0_seeks_0 rfl (lv_at hl 0 rfl) ?_
  refine cg_Y_this_trial hX hK hNW hH dX0_seeks_1 ?_
  refine lv_iload hx hb dX0_seeks_4 (lv_at hl 4 rfl) ?_
  refine cp_Y_stkt_without hX hK hNW hH dX0_seeks_6 (fun H locs hH => ?_)
  refine lv_aload_n hx hb dX0_seeks_9 rfl (lv_at hl 0 rfl) ?_
  refine lv_iconst (v := 0) hx hb dX0_seeks_10 kyi_0 ?_
  refine cp_Y_this_sought hX hK hNW hH dX0_seeks_11 (fun H locs hH => ?_)
  refine lv_aload_n hx hb dX0_seeks_14 rfl (lv_at hl 0 rfl) ?_
  refine cg_Y_this_trial hX hK hNW hH dX0_seeks_15 ?_
  refine lv_aload_n hx hb dX0_seeks_18 rfl (lv_at hl 1 rfl) ?_
  refine lv_lload_n hx hb dX0_seeks_19 rfl (lv_at hl 2 rfl) ?_
  obtain ⟨a_tAt_58, a_tMany_59, v_tMoved_60, he, hF⟩ := bd3e hF
  refine mxV hX hK hEv hE0 hH (met_X4_lays_t hE hPO hU he) (crecv hK hH 7 4 rfl rfl) gw_StoneYear_151 hd_yX4_lays ⟨Nat.le_of_ble_eq_true rfl, Nat.le_of_ble_eq_true rfl⟩ rfl rfl hl (Nat.le_of_ble_eq_true rfl) dX0_seeks_20 ⟨Nat.le_of_ble_eq_true rfl, Nat.le_of_ble_eq_true rfl⟩ (fun w2 H locs hw hH => ?_)
  subst hw
  refine lv_iload hx hb dX0_seeks_23 (lv_at hl 3 rfl) ?_
  obtain ⟨b_61, he, hF⟩ := bd1e hF
  refine mxV hX hK hEv hE0 hH (met_X4_isDone_t hE hPO hU he) (crecv hK hH 7 4 rfl rfl) gw_StoneYear_289 hd_yX4_isDone ⟨Nat.le_of_ble_eq_true rfl, Nat.le_of_ble_eq_true rfl⟩ rfl rfl hl (Nat.le_of_ble_eq_true rfl) dX0_seeks_25 ⟨Nat.le_of_ble_eq_true rfl, Nat.le_of_ble_eq_true rfl⟩ (fun w2 H locs hw hH => ?_)
  subst hw
  refine lv_if_eq (tgt := 33) hx hb dX0_seeks_28 rfl (fun c_62 => ?_) (fun c_62 => ?_)
  · have hF := itp c_62 hF
    refine lv_aload_n hx hb dX0_seeks_33 rfl (lv_at hl 0 rfl) ?_
    refine lv_lload_n hx hb dX0_seeks_34 rfl (lv_at hl 2 rfl) ?_
    obtain ⟨a_sKeys_63, a_sRow_64, a_sSlots_65, a_bKeys_66, a_bRow_67, a_bSlots_68, v_sought_69, v_sMany_70, v_bMany_71, he, hF⟩ := bd9e hF
    refine mxV hX hK hEv hE0 hH (met_X0_opens hE hPO he) (crecv hK hH 0 0 rfl rfl) gw_StoneYear_403 hd_yX0_opens ⟨Nat.le_of_ble_eq_true rfl, Nat.le_of_ble_eq_true rfl⟩ rfl rfl hl (Nat.le_of_ble_eq_true rfl) dX0_seeks_35 ⟨Nat.le_of_ble_eq_true rfl, Nat.le_of_ble_eq_true rfl⟩ (fun w2 H locs hw hH => ?_)
    subst hw
    refine lv_iconst (v := 1) hx hb dX0_seeks_38 kyi_1 ?_
    refine lv_istore (lv' := [(6, .int 1), (0, .ref (ad 0)), (1, .ref (tb 0)), (2, .long p2), (4, .int p4), (5, .int p5)]) hx hb dX0_seeks_39 hl (by decide) rfl (fun ls hl => ?_)
    refine lv_iconst (v := 1) hx hb dX0_seeks_41 kyi_1 ?_
    refine lv_istore (lv' := [(7, .int 1), (6, .int 1), (0, .ref (ad 0)), (1, .ref (tb 0)), (2, .long p2), (4, .int p4), (5, .int p5)]) hx hb dX0_seeks_42 hl (by decide) rfl (fun ls hl => ?_)
    obtain ⟨xx44, ee44, kk44_0, kk44_1, kk44_2⟩ := bdS3e hF
    have k44_0 : ∀ (a_tAt_157 : Nat → Int32) (a_tMany_158 : Nat → Int32) (a_sKeys_159 : Nat → Int64) (a_sRow_160 : Nat → Int64) (a_sSlots_161 : Nat → Int32) (a_bKeys_162 : Nat → Int64) (a_bRow_163 : Nat → Int64) (a_bSlots_164 : Nat → Int32) (v_sought_165 : Int32) (v_tMoved_166 : Int32) (v_sMany_167 : Int32) (v_bMany_168 : Int32), xx44 = (.inl (a_tAt_157, a_tMany_158, a_sKeys_159, a_sRow_160, a_sSlots_161, a_bKeys_162, a_bRow_163, a_bSlots_164, v_sought_165, v_tMoved_166, v_sMany_167, v_bMany_168)) → ∀ (rt_169 : Option Nat) (g_sort_170 : Int32) (g_size_171 : Int32) (g_from_172 : Int32) (g_to_173 : Int32) (g_level_174 : Int32) (g_full_175 : Int32), ∀ (H : Heap) (locs : List Loc) (ls : Array Slot), MH D vwA A s.heap (cW ad cA sA ta ba na gi rh rt_169 g_sort_170 g_size_171 g_from_172 g_to_173 g_level_174 g_full_175 a_tape a_hAt a_hMany a_tAt_157 a_tMany_158 a_least a_place a_to a_order a_fails a_sKeys_159 a_sRow_160 a_sSlots_161 a_bKeys_162 a_bRow_163 a_bSlots_164 a_easy a_wants a_wantedBy a_ring a_carried a_latest v_taped v_faultKind v_faultPlace v_x v_ordered v_sought_165 v_lastSought v_hMoved v_hWithout v_tMoved_166 p5 v_places v_elsewhere v_sMany_167 v_bMany_168 v_year y_lies a_rsort a_rmany a_nums pl) H locs → lv_has ls 8 [] → W p l e rm_X0_seeks s m args below meth c H locs 0 0 Q (F0 m 62 ls []) := by
      intro a_tAt_157 a_tMany_158 a_sKeys_159 a_sRow_160 a_sSlots_161 a_bKeys_162 a_bRow_163 a_bSlots_164 v_sought_165 v_tMoved_166 v_sMany_167 v_bMany_168 hxx rt_169 g_sort_170 g_size_171 g_from_172 g_to_173 g_level_174 g_full_175 H locs ls hH hl
      have hF := un12e (kk44_0 (a_tAt_157, a_tMany_158, a_sKeys_159, a_sRow_160, a_sSlots_161, a_bKeys_162, a_bRow_163, a_bSlots_164, v_sought_165, v_tMoved_166, v_sMany_167, v_bMany_168) hxx)
      refine lv_bipush (v := (-4)) hx hb dX0_seeks_62 kyb_m4 ?_
      obtain ⟨rfl, rfl, rfl, rfl, rfl, rfl, rfl, rfl, rfl, rfl, rfl, rfl, rfl, rfl⟩ := re14 hF
      exact hret _ _ _ _ _ ⟨_, _, _, _, _, _, _, rfl⟩ hH dX0_seeks_64
    have k44_1 : ∀ (x_176 : Int32) (a_tAt_177 : Nat → Int32) (a_tMany_178 : Nat → Int32) (a_sKeys_179 : Nat → Int64) (a_sRow_180 : Nat → Int64) (a_sSlots_181 : Nat → Int32) (a_bKeys_182 : Nat → Int64) (a_bRow_183 : Nat → Int64) (a_bSlots_184 : Nat → Int32) (v_sought_185 : Int32) (v_tMoved_186 : Int32) (v_sMany_187 : Int32) (v_bMany_188 : Int32), xx44 = (.inr (.inl (x_176, a_tAt_177, a_tMany_178, a_sKeys_179, a_sRow_180, a_sSlots_181, a_bKeys_182, a_bRow_183, a_bSlots_184, v_sought_185, v_tMoved_186, v_sMany_187, v_bMany_188))) → ∀ (rt_189 : Option Nat) (g_sort_190 : Int32) (g_size_191 : Int32) (g_from_192 : Int32) (g_to_193 : Int32) (g_level_194 : Int32) (g_full_195 : Int32), ∀ (H : Heap) (locs : List Loc) (ls : Array Slot), MH D vwA A s.heap (cW ad cA sA ta ba na gi rh rt_189 g_sort_190 g_size_191 g_from_192 g_to_193 g_level_194 g_full_195 a_tape a_hAt a_hMany a_tAt_177 a_tMany_178 a_least a_place a_to a_order a_fails a_sKeys_179 a_sRow_180 a_sSlots_181 a_bKeys_182 a_bRow_183 a_bSlots_184 a_easy a_wants a_wantedBy a_ring a_carried a_latest v_taped v_faultKind v_faultPlace v_x v_ordered v_sought_185 v_lastSought v_hMoved v_hWithout v_tMoved_186 p5 v_places v_elsewhere v_sMany_187 v_bMany_188 v_year y_lies a_rsort a_rmany a_nums pl) H locs → lv_has ls 8 [(6, .int x_176)] → W p l e rm_X0_seeks s m args below meth c H locs 0 0 Q (F0 m 91 ls []) := by
      intro x_176 a_tAt_177 a_tMany_178 a_sKeys_179 a_sRow_180 a_sSlots_181 a_bKeys_182 a_bRow_183 a_bSlots_184 v_sought_185 v_tMoved_186 v_sMany_187 v_bMany_188 hxx rt_189 g_sort_190 g_size_191 g_from_192 g_to_193 g_level_194 g_full_195 H locs ls hH hl
      have hF := un13e (kk44_1 (x_176, a_tAt_177, a_tMany_178, a_sKeys_179, a_sRow_180, a_sSlots_181, a_bKeys_182, a_bRow_183, a_bSlots_184, v_sought_185, v_tMoved_186, v_sMany_187, v_bMany_188) hxx)
      refine lv_iload hx hb dX0_seeks_91 (lv_at hl 0 rfl) ?_
      obtain ⟨rfl, rfl, rfl, rfl, rfl, rfl, rfl, rfl, rfl, rfl, rfl, rfl, rfl, rfl⟩ := re14 hF
      exact hret _ _ _ _ _ ⟨_, _, _, _, _, _, _, rfl⟩ hH dX0_seeks_93
    have k44_2 : ∀ (a_tAt_196 : Nat → Int32) (a_tMany_197 : Nat → Int32) (a_sKeys_198 : Nat → Int64) (a_sRow_199 : Nat → Int64) (a_sSlots_200 : Nat → Int32) (a_bKeys_201 : Nat → Int64) (a_bRow_202 : Nat → Int64) (a_bSlots_203 : Nat → Int32) (v_sought_204 : Int32) (v_tMoved_205 : Int32) (v_sMany_206 : Int32) (v_bMany_207 : Int32), xx44 = (.inr (.inr (a_tAt_196, a_tMany_197, a_sKeys_198, a_sRow_199, a_sSlots_200, a_bKeys_201, a_bRow_202, a_bSlots_203, v_sought_204, v_tMoved_205, v_sMany_206, v_bMany_207))) → ∀ (rt_208 : Option Nat) (g_sort_209 : Int32) (g_size_210 : Int32) (g_from_211 : Int32) (g_to_212 : Int32) (g_level_213 : Int32) (g_full_214 : Int32), ∀ (H : Heap) (locs : List Loc) (ls : Array Slot), MH D vwA A s.heap (cW ad cA sA ta ba na gi rh rt_208 g_sort_209 g_size_210 g_from_211 g_to_212 g_level_213 g_full_214 a_tape a_hAt a_hMany a_tAt_196 a_tMany_197 a_least a_place a_to a_order a_fails a_sKeys_198 a_sRow_199 a_sSlots_200 a_bKeys_201 a_bRow_202 a_bSlots_203 a_easy a_wants a_wantedBy a_ring a_carried a_latest v_taped v_faultKind v_faultPlace v_x v_ordered v_sought_204 v_lastSought v_hMoved v_hWithout v_tMoved_205 p5 v_places v_elsewhere v_sMany_206 v_bMany_207 v_year y_lies a_rsort a_rmany a_nums pl) H locs → lv_has ls 8 [] → W p l e rm_X0_seeks s m args below meth c H locs 0 0 Q (F0 m 106 ls []) := by
      intro a_tAt_196 a_tMany_197 a_sKeys_198 a_sRow_199 a_sSlots_200 a_bKeys_201 a_bRow_202 a_bSlots_203 v_sought_204 v_tMoved_205 v_sMany_206 v_bMany_207 hxx rt_208 g_sort_209 g_size_210 g_from_211 g_to_212 g_level_213 g_full_214 H locs ls hH hl
      have hF := un12e (kk44_2 (a_tAt_196, a_tMany_197, a_sKeys_198, a_sRow_199, a_sSlots_200, a_bKeys_201, a_bRow_202, a_bSlots_203, v_sought_204, v_tMoved_205, v_sMany_206, v_bMany_207) hxx)
      refine lv_iconst (v := (-1)) hx hb dX0_seeks_106 kyi_m1 ?_
      obtain ⟨rfl, rfl, rfl, rfl, rfl, rfl, rfl, rfl, rfl, rfl, rfl, rfl, rfl, rfl⟩ := re14 hF
      exact hret _ _ _ _ _ ⟨_, _, _, _, _, _, _, rfl⟩ hH dX0_seeks_107
    obtain ⟨nn44, en44⟩ := loopC_some ee44
    have l44 : ∀ (n : Nat) (x_104 : Int32) (x_105 : Int32) (a_tAt_106 : Nat → Int32) (a_tMany_107 : Nat → Int32) (a_sKeys_108 : Nat → Int64) (a_sRow_109 : Nat → Int64) (a_sSlots_110 : Nat → Int32) (a_bKeys_111 : Nat → Int64) (a_bRow_112 : Nat → Int64) (a_bSlots_113 : Nat → Int32) (v_sought_114 : Int32) (v_tMoved_115 : Int32) (v_sMany_116 : Int32) (v_bMany_117 : Int32), loopN (fun s => FX0_seeks_b44 nb bv u p4 p5 s.1 s.2.1 s.2.2.1 s.2.2.2.1 s.2.2.2.2.1 s.2.2.2.2.2.1 s.2.2.2.2.2.2.1 s.2.2.2.2.2.2.2.1 s.2.2.2.2.2.2.2.2.1 s.2.2.2.2.2.2.2.2.2.1 s.2.2.2.2.2.2.2.2.2.2.1 s.2.2.2.2.2.2.2.2.2.2.2.1 s.2.2.2.2.2.2.2.2.2.2.2.2.1 s.2.2.2.2.2.2.2.2.2.2.2.2.2) n (x_104, x_105, a_tAt_106, a_tMany_107, a_sKeys_108, a_sRow_109, a_sSlots_110, a_bKeys_111, a_bRow_112, a_bSlots_113, v_sought_114, v_tMoved_115, v_sMany_116, v_bMany_117) = some xx44 → ∀ (rt_118 : Option Nat) (g_sort_119 : Int32) (g_size_120 : Int32) (g_from_121 : Int32) (g_to_122 : Int32) (g_level_123 : Int32) (g_full_124 : Int32), ∀ (H : Heap) (locs : List Loc) (ls : Array Slot), MH D vwA A s.heap (cW ad cA sA ta ba na gi rh rt_118 g_sort_119 g_size_120 g_from_121 g_to_122 g_level_123 g_full_124 a_tape a_hAt a_hMany a_tAt_106 a_tMany_107 a_least a_place a_to a_order a_fails a_sKeys_108 a_sRow_109 a_sSlots_110 a_bKeys_111 a_bRow_112 a_bSlots_113 a_easy a_wants a_wantedBy a_ring a_carried a_latest v_taped v_faultKind v_faultPlace v_x v_ordered v_sought_114 v_lastSought v_hMoved v_hWithout v_tMoved_115 p5 v_places v_elsewhere v_sMany_116 v_bMany_117 v_year y_lies a_rsort a_rmany a_nums pl) H locs → lv_has ls 8 [(0, .ref (ad 0)), (1, .ref (tb 0)), (4, .int p4), (6, .int x_104), (7, .int x_105)] → W p l e rm_X0_seeks s m args below meth c H locs 0 0 Q (F0 m 44 ls []) := by
      intro n
      induction n with
      | zero =>
        intro x_104 x_105 a_tAt_106 a_tMany_107 a_sKeys_108 a_sRow_109 a_sSlots_110 a_bKeys_111 a_bRow_112 a_bSlots_113 v_sought_114 v_tMoved_115 v_sMany_116 v_bMany_117 hN
        exact absurd hN loopN_zero
      | succ n ih =>
        intro x_104 x_105 a_tAt_106 a_tMany_107 a_sKeys_108 a_sRow_109 a_sSlots_110 a_bKeys_111 a_bRow_112 a_bSlots_113 v_sought_114 v_tMoved_115 v_sMany_116 v_bMany_117 hN rt_118 g_sort_119 g_size_120 g_from_121 g_to_122 g_level_123 g_full_124 H locs ls hH hl
        obtain ⟨yy44, hB44, hY44⟩ := loopN_succ hN
        have hF : FX0_seeks_b44 nb bv u p4 p5 x_104 x_105 a_tAt_106 a_tMany_107 a_sKeys_108 a_sRow_109 a_sSlots_110 a_bKeys_111 a_bRow_112 a_bSlots_113 v_sought_114 v_tMoved_115 v_sMany_116 v_bMany_117 = some yy44 := hB44
        delta FX0_seeks_b44 at hF
        refine lv_iload hx hb dX0_seeks_44 (lv_at hl 4 rfl) ?_
        refine lv_if_eq (tgt := 106) hx hb dX0_seeks_46 rfl (fun c_125 => ?_) (fun c_125 => ?_)
        · have hF := itp c_125 hF
          obtain rfl := Option.some.inj hF
          exact k44_2 a_tAt_106 a_tMany_107 a_sKeys_108 a_sRow_109 a_sSlots_110 a_bKeys_111 a_bRow_112 a_bSlots_113 v_sought_114 v_tMoved_115 v_sMany_116 v_bMany_117 hY44 _ _ _ _ _ _ _ _ _ _ hH (lv_sub hl [] rfl)
        · have hF := itn c_125 hF
          refine lv_aload_n hx hb dX0_seeks_49 rfl (lv_at hl 0 rfl) ?_
          refine lv_aload_n hx hb dX0_seeks_50 rfl (lv_at hl 1 rfl) ?_
          refine lv_aload_n hx hb dX0_seeks_51 rfl (lv_at hl 0 rfl) ?_
          refine cg_Y_this_sought hX hK hNW hH dX0_seeks_52 ?_
          refine lv_iconst (v := 0) hx hb dX0_seeks_55 kyi_0 ?_
          obtain ⟨b_126, a_tAt_127, a_tMany_128, a_sKeys_129, a_sRow_130, a_sSlots_131, v_tMoved_132, v_sMany_133, he, hF⟩ := bd8e hF
          refine mxV hX hK hEv hE0 hH (met_X0_closes hE hPO hU he) (crecv hK hH 0 0 rfl rfl) gw_StoneYear_407 hd_yX0_closes ⟨Nat.le_of_ble_eq_true rfl, Nat.le_of_ble_eq_true rfl⟩ rfl rfl hl (Nat.le_of_ble_eq_true rfl) dX0_seeks_56 ⟨Nat.le_of_ble_eq_true rfl, Nat.le_of_ble_eq_true rfl⟩ (fun w2 H locs hw hH => ?_)
          obtain ⟨rt_134, g_sort_135, g_size_136, g_from_137, g_to_138, g_level_139, g_full_140, rfl⟩ := hw
          refine lv_if_ne (tgt := 65) hx hb dX0_seeks_59 rfl (fun c_141 => ?_) (fun c_141 => ?_)
          · have hF := itn c_141 hF
            refine lv_aload_n hx hb dX0_seeks_65 rfl (lv_at hl 0 rfl) ?_
            refine lv_dup hx hb dX0_seeks_66 rfl ?_
            refine cg_Y_this_sought hX hK hNW hH dX0_seeks_67 ?_
            refine lv_aload_n hx hb dX0_seeks_70 rfl (lv_at hl 0 rfl) ?_
            refine cg_Y_this_states hX hK hNW hH dX0_seeks_71 ?_
            refine cg_Y_tabs_many hX hK hNW hH dX0_seeks_74 ?_
            refine lv_iadd hx hb dX0_seeks_77 ?_
            refine cp_Y_this_sought hX hK hNW hH dX0_seeks_78 (fun H locs hH => ?_)
            refine lv_aload_n hx hb dX0_seeks_81 rfl (lv_at hl 0 rfl) ?_
            refine lv_aload_n hx hb dX0_seeks_82 rfl (lv_at hl 1 rfl) ?_
            refine lv_iload hx hb dX0_seeks_83 (lv_at hl 2 rfl) ?_
            obtain ⟨b_142, a_tAt_143, a_tMany_144, v_tMoved_145, he, hF⟩ := bd4e hF
            refine mxV hX hK hEv hE0 hH (met_X0_isAnyDone hE hPO hU he) (crecv hK hH 0 0 rfl rfl) gw_StoneYear_411 hd_yX0_isAnyDone ⟨Nat.le_of_ble_eq_true rfl, Nat.le_of_ble_eq_true rfl⟩ rfl rfl hl (Nat.le_of_ble_eq_true rfl) dX0_seeks_85 ⟨Nat.le_of_ble_eq_true rfl, Nat.le_of_ble_eq_true rfl⟩ (fun w2 H locs hw hH => ?_)
            obtain ⟨rt_146, rfl⟩ := hw
            refine lv_if_eq (tgt := 94) hx hb dX0_seeks_88 rfl (fun c_147 => ?_) (fun c_147 => ?_)
            · have hF := itp c_147 hF
              refine lv_iinc (v := (x_104 + 1)) (lv' := [(6, .int (x_104 + 1)), (0, .ref (ad 0)), (1, .ref (tb 0)), (4, .int p4), (7, .int x_105)]) hx hb dX0_seeks_94 hl (k := 3) rfl (syc kyi_1) (by decide) rfl (fun ls hl => ?_)
              refine lv_aload_n hx hb dX0_seeks_97 rfl (lv_at hl 1 rfl) ?_
              obtain ⟨b_148, a_sKeys_149, a_sRow_150, a_sSlots_151, a_bKeys_152, a_bRow_153, a_bSlots_154, v_sMany_155, v_bMany_156, he, hF⟩ := bd9e hF
              refine mxV hX hK hEv hE0 hH (met_X0_begins hE hPO he) (crecv hK hH 0 0 rfl rfl) gw_StoneYear_415 hd_yX0_begins ⟨Nat.le_of_ble_eq_true rfl, Nat.le_of_ble_eq_true rfl⟩ rfl rfl hl (Nat.le_of_ble_eq_true rfl) dX0_seeks_98 ⟨Nat.le_of_ble_eq_true rfl, Nat.le_of_ble_eq_true rfl⟩ (fun w2 H locs hw hH => ?_)
              subst hw
              refine lv_istore (lv' := [(7, .int (b2i b_148)), (6, .int (x_104 + 1)), (0, .ref (ad 0)), (1, .ref (tb 0)), (4, .int p4)]) hx hb dX0_seeks_101 hl (by decide) rfl (fun ls hl => ?_)
              refine lv_goto (tgt := 44) hx hb dX0_seeks_103 rfl ?_
              obtain rfl := Option.some.inj hF
              exact ih (x_104 + 1) (b2i b_148) a_tAt_143 a_tMany_144 a_sKeys_149 a_sRow_150 a_sSlots_151 a_bKeys_152 a_bRow_153 a_bSlots_154 (v_sought_114 + v_sMany_133) v_tMoved_145 v_sMany_155 v_bMany_156 hY44 _ _ _ _ _ _ _ _ _ _ hH (lv_sub hl [2, 3, 4, 1, 0] rfl)
            · have hF := itn c_147 hF
              obtain rfl := Option.some.inj hF
              exact k44_1 x_104 a_tAt_143 a_tMany_144 a_sKeys_129 a_sRow_130 a_sSlots_131 a_bKeys_111 a_bRow_112 a_bSlots_113 (v_sought_114 + v_sMany_133) v_tMoved_145 v_sMany_133 v_bMany_117 hY44 _ _ _ _ _ _ _ _ _ _ hH (lv_sub hl [3] rfl)
          · have hF := itp c_141 hF
            obtain rfl := Option.some.inj hF
            exact k44_0 a_tAt_127 a_tMany_128 a_sKeys_129 a_sRow_130 a_sSlots_131 a_bKeys_111 a_bRow_112 a_bSlots_113 v_sought_114 v_tMoved_132 v_sMany_133 v_bMany_117 hY44 _ _ _ _ _ _ _ _ _ _ hH (lv_sub hl [] rfl)
    exact l44 nn44 1 1 a_tAt_58 a_tMany_59 a_sKeys_63 a_sRow_64 a_sSlots_65 a_bKeys_66 a_bRow_67 a_bSlots_68 v_sought_69 v_tMoved_60 v_sMany_70 v_bMany_71 en44 _ _ _ _ _ _ _ _ _ _ hH (lv_sub hl [2, 3, 5, 1, 0] rfl)
  · have hF := itn c_62 hF
    refine lv_iconst (v := 0) hx hb dX0_seeks_31 kyi_0 ?_
    obtain ⟨rfl, rfl, rfl, rfl, rfl, rfl, rfl, rfl, rfl, rfl, rfl, rfl, rfl, rfl⟩ := re14 hF
    exact hret _ _ _ _ _ ⟨_, _, _, _, _, _, _, rfl⟩ hH dX0_seeks_32
abbrev rm_X0_years : Room := { frames := 264, cells := 0, slots := 0, locals := 6102 }
set_option maxHeartbeats 4000000 in
theorem met_X0_years {l : Launch} {D : va_G} {ad : Nat → Nat} {cA : Nat → ClassId} {sA ta ba na : Nat → Nat} {gi : Nat → Option Nat} {rh : Option Nat} {rt : Option Nat} {g_sort : Int32} {g_size : Int32} {g_from : Int32} {g_to : Int32} {g_level : Int32} {g_full : Int32} {a_tape : Nat → Int32} {a_hAt : Nat → Int32} {a_hMany : Nat → Int32} {a_tAt : Nat → Int32} {a_tMany : Nat → Int32} {a_least : Nat → Int32} {a_place : Nat → Int32} {a_to : Nat → Int32} {a_order : Nat → Int32} {a_fails : Nat → Int32} {a_sKeys : Nat → Int64} {a_sRow : Nat → Int64} {a_sSlots : Nat → Int32} {a_bKeys : Nat → Int64} {a_bRow : Nat → Int64} {a_bSlots : Nat → Int32} {a_easy : Nat → Int32} {a_wants : Nat → Int32} {a_wantedBy : Nat → Int32} {a_ring : Nat → Int32} {a_carried : Nat → Int32} {a_latest : Nat → Int32} {v_taped : Int32} {v_faultKind : Int32} {v_faultPlace : Int32} {v_x : Int32} {v_ordered : Int32} {v_sought : Int32} {v_lastSought : Int32} {v_hMoved : Int32} {v_hWithout : Int32} {v_tMoved : Int32} {v_tWithout : Int32} {v_places : Int32} {v_elsewhere : Int32} {v_sMany : Int32} {v_bMany : Int32} {v_year : Int32} {y_lies : Int64} {a_rsort : Nat → Int32} {a_rmany : Nat → Int32} {a_nums : Nat → Nat → Int64} {t : Nat → Int32} {nb : Int32} {bv : Nat → Int32 → Int32 → Int32 → Int32 → Int32 → Int32 → Bool} {pl : va_W}  {p1 : Int32} {res : Int32} {ra_tAt : Nat → Int32} {ra_tMany : Nat → Int32} {ra_sKeys : Nat → Int64} {ra_sRow : Nat → Int64} {ra_sSlots : Nat → Int32} {ra_bKeys : Nat → Int64} {ra_bRow : Nat → Int64} {ra_bSlots : Nat → Int32} {rv_sought : Int32} {rv_lastSought : Int32} {rv_tMoved : Int32} {rv_tWithout : Int32} {rv_sMany : Int32} {rv_bMany : Int32} {E : EvT} (hE : EvN E) (hPO : PO cA pl ta ba t nb bv) (hF : FX0_years a_tAt a_tMany a_sKeys a_sRow a_sSlots a_bKeys a_bRow a_bSlots v_sought v_lastSought v_tMoved v_tWithout v_sMany v_bMany y_lies t nb bv p1 = some (res, ra_tAt, ra_tMany, ra_sKeys, ra_sRow, ra_sSlots, ra_bKeys, ra_bRow, ra_bSlots, rv_sought, rv_lastSought, rv_tMoved, rv_tWithout, rv_sMany, rv_bMany)) : MX l yX0_years (ws_ yX0_years cX0_years 3 (Option.some Jvm.ClassFile.FieldType.int)) rm_X0_years D vwA (cT cA) E [.ref (ad 0), .int p1] (cW ad cA sA ta ba na gi rh rt g_sort g_size g_from g_to g_level g_full a_tape a_hAt a_hMany a_tAt a_tMany a_least a_place a_to a_order a_fails a_sKeys a_sRow a_sSlots a_bKeys a_bRow a_bSlots a_easy a_wants a_wantedBy a_ring a_carried a_latest v_taped v_faultKind v_faultPlace v_x v_ordered v_sought v_lastSought v_hMoved v_hWithout v_tMoved v_tWithout v_places v_elsewhere v_sMany v_bMany v_year y_lies a_rsort a_rmany a_nums pl) (fun z => ∃ rt' : Option Nat, ∃ g_sort' : Int32, ∃ g_size' : Int32, ∃ g_from' : Int32, ∃ g_to' : Int32, ∃ g_level' : Int32, ∃ g_full' : Int32, z = (cW ad cA sA ta ba na gi rh rt' g_sort' g_size' g_from' g_to' g_level' g_full' a_tape a_hAt a_hMany ra_tAt ra_tMany a_least a_place a_to a_order a_fails ra_sKeys ra_sRow ra_sSlots ra_bKeys ra_bRow ra_bSlots a_easy a_wants a_wantedBy a_ring a_carried a_latest v_taped v_faultKind v_faultPlace v_x v_ordered rv_sought rv_lastSought v_hMoved v_hWithout rv_tMoved rv_tWithout v_places v_elsewhere rv_sMany rv_bMany v_year y_lies a_rsort a_rmany a_nums pl)) (some (.int res)) := by
  refine MX.ofI (by decide) (Nat.le_of_ble_eq_true rfl) ?_
  intro p e s m args below meth c Q A hX hK hE0 hname hret H locs ls hH hl
  have hX : CallFix p m c cX0_years 3 s args lw_all RX0 := hX
  have hx := hX.1
  have hb := hX.2.1
  have hown := hX.2.2.2.1
  have hts := hX.2.2.2.2
  have hl : lv_has ls 3 [(0, .ref (ad 0)), (1, .int p1)] := hl
  have hEv := hE.1
  have hNW := hE.2.1 _ _ _ hE0
  have hT := hPO.1
  have hB := hPO.2
  delta FX0_years at hF
  refine lv_iload_n hx hb dX0_years_0 rfl (lv_at hl 1 rfl) ?_
  obtain ⟨b_55, he, hF⟩ := bd1e hF
  refine mxS hX hK hEv hE0 hH (met_X0_isWho hE hPO he) gw_StoneYear_286 hd_yX0_isWho ⟨Nat.le_of_ble_eq_true rfl, Nat.le_of_ble_eq_true rfl⟩ rfl rfl hl (Nat.le_of_ble_eq_true rfl) dX0_years_1 ⟨Nat.le_of_ble_eq_true rfl, Nat.le_of_ble_eq_true rfl⟩ (fun w2 H locs hw hH => ?_)
  subst hw
  refine lv_if_ne (tgt := 10) hx hb dX0_years_4 rfl (fun c_56 => ?_) (fun c_56 => ?_)
  · have hF := itn c_56 hF
    refine lv_aload_n hx hb dX0_years_10 rfl (lv_at hl 0 rfl) ?_
    refine lv_aload_n hx hb dX0_years_11 rfl (lv_at hl 0 rfl) ?_
    refine cg_Y_this_s hX hK hNW hH dX0_years_12 ?_
    refine cg_Y_state_town hX hK hNW hH dX0_years_15 ?_
    refine lv_aload_n hx hb dX0_years_18 rfl (lv_at hl 0 rfl) ?_
    refine cg_Y_this_s hX hK hNW hH dX0_years_19 ?_
    refine cg_Y_state_lies hX hK hNW hH dX0_years_22 ?_
    refine lv_iload_n hx hb dX0_years_25 rfl (lv_at hl 1 rfl) ?_
    refine lv_iconst (v := (-1)) hx hb dX0_years_26 kyi_m1 ?_
    obtain ⟨x_57, a_tAt_58, a_tMany_59, a_sKeys_60, a_sRow_61, a_sSlots_62, a_bKeys_63, a_bRow_64, a_bSlots_65, v_sought_66, v_tMoved_67, v_tWithout_68, v_sMany_69, v_bMany_70, he, hF⟩ := bd14e hF
    refine mxV hX hK hEv hE0 hH (met_X0_seeks hE hPO hT he) (crecv hK hH 0 0 rfl rfl) gw_StoneYear_418 hd_yX0_seeks ⟨Nat.le_of_ble_eq_true rfl, Nat.le_of_ble_eq_true rfl⟩ rfl rfl hl (Nat.le_of_ble_eq_true rfl) dX0_years_27 ⟨Nat.le_of_ble_eq_true rfl, Nat.le_of_ble_eq_true rfl⟩ (fun w2 H locs hw hH => ?_)
    obtain ⟨rt_71, g_sort_72, g_size_73, g_from_74, g_to_75, g_level_76, g_full_77, rfl⟩ := hw
    refine lv_istore_n (lv' := [(2, .int x_57), (0, .ref (ad 0)), (1, .int p1)]) hx hb dX0_years_30 rfl hl (by decide) rfl (fun ls hl => ?_)
    refine lv_iload_n hx hb dX0_years_31 rfl (lv_at hl 0 rfl) ?_
    refine lv_bipush (v := (-4)) hx hb dX0_years_32 kyb_m4 ?_
    refine lv_icmp_eq (tgt := 45) hx hb dX0_years_34 rfl (fun c_78 => ?_) (fun c_78 => ?_)
    · have hF := itp c_78 hF
      refine lv_iload_n hx hb dX0_years_45 rfl (lv_at hl 0 rfl) ?_
      obtain ⟨rfl, rfl, rfl, rfl, rfl, rfl, rfl, rfl, rfl, rfl, rfl, rfl, rfl, rfl, rfl⟩ := re15 hF
      exact hret _ _ _ _ _ ⟨_, _, _, _, _, _, _, rfl⟩ hH dX0_years_46
    · have hF := itn c_78 hF
      refine lv_aload_n hx hb dX0_years_37 rfl (lv_at hl 1 rfl) ?_
      refine lv_aload_n hx hb dX0_years_38 rfl (lv_at hl 1 rfl) ?_
      refine cg_Y_this_sought hX hK hNW hH dX0_years_39 ?_
      refine cp_Y_this_lastSought hX hK hNW hH dX0_years_42 (fun H locs hH => ?_)
      refine lv_iload_n hx hb dX0_years_45 rfl (lv_at hl 0 rfl) ?_
      obtain ⟨rfl, rfl, rfl, rfl, rfl, rfl, rfl, rfl, rfl, rfl, rfl, rfl, rfl, rfl, rfl⟩ := re15 hF
      exact hret _ _ _ _ _ ⟨_, _, _, _, _, _, _, rfl⟩ hH dX0_years_46
  · have hF := itp c_56 hF
    refine lv_bipush (v := (-2)) hx hb dX0_years_7 kyb_m2 ?_
    obtain ⟨rfl, rfl, rfl, rfl, rfl, rfl, rfl, rfl, rfl, rfl, rfl, rfl, rfl, rfl, rfl⟩ := re15 hF
    exact hret _ _ _ _ _ ⟨_, _, _, _, _, _, _, rfl⟩ hH dX0_years_9
abbrev rm_X0_states : Room := { frames := 0, cells := 0, slots := 0, locals := 0 }
set_option maxHeartbeats 4000000 in
theorem met_X0_states {l : Launch} {D : va_G} {ad : Nat → Nat} {cA : Nat → ClassId} {sA ta ba na : Nat → Nat} {gi : Nat → Option Nat} {rh : Option Nat} {rt : Option Nat} {g_sort : Int32} {g_size : Int32} {g_from : Int32} {g_to : Int32} {g_level : Int32} {g_full : Int32} {a_tape : Nat → Int32} {a_hAt : Nat → Int32} {a_hMany : Nat → Int32} {a_tAt : Nat → Int32} {a_tMany : Nat → Int32} {a_least : Nat → Int32} {a_place : Nat → Int32} {a_to : Nat → Int32} {a_order : Nat → Int32} {a_fails : Nat → Int32} {a_sKeys : Nat → Int64} {a_sRow : Nat → Int64} {a_sSlots : Nat → Int32} {a_bKeys : Nat → Int64} {a_bRow : Nat → Int64} {a_bSlots : Nat → Int32} {a_easy : Nat → Int32} {a_wants : Nat → Int32} {a_wantedBy : Nat → Int32} {a_ring : Nat → Int32} {a_carried : Nat → Int32} {a_latest : Nat → Int32} {v_taped : Int32} {v_faultKind : Int32} {v_faultPlace : Int32} {v_x : Int32} {v_ordered : Int32} {v_sought : Int32} {v_lastSought : Int32} {v_hMoved : Int32} {v_hWithout : Int32} {v_tMoved : Int32} {v_tWithout : Int32} {v_places : Int32} {v_elsewhere : Int32} {v_sMany : Int32} {v_bMany : Int32} {v_year : Int32} {y_lies : Int64} {a_rsort : Nat → Int32} {a_rmany : Nat → Int32} {a_nums : Nat → Nat → Int64} {t : Nat → Int32} {nb : Int32} {bv : Nat → Int32 → Int32 → Int32 → Int32 → Int32 → Int32 → Bool} {pl : va_W}   {res : Int32} {E : EvT} (hE : EvN E) (hPO : PO cA pl ta ba t nb bv) (hF : FX0_states v_lastSought = some res) : MX l yX0_states (ws_ yX0_states cX0_states 1 (Option.some Jvm.ClassFile.FieldType.int)) rm_X0_states D vwA (cT cA) E [.ref (ad 0)] (cW ad cA sA ta ba na gi rh rt g_sort g_size g_from g_to g_level g_full a_tape a_hAt a_hMany a_tAt a_tMany a_least a_place a_to a_order a_fails a_sKeys a_sRow a_sSlots a_bKeys a_bRow a_bSlots a_easy a_wants a_wantedBy a_ring a_carried a_latest v_taped v_faultKind v_faultPlace v_x v_ordered v_sought v_lastSought v_hMoved v_hWithout v_tMoved v_tWithout v_places v_elsewhere v_sMany v_bMany v_year y_lies a_rsort a_rmany a_nums pl) (fun z => z = (cW ad cA sA ta ba na gi rh rt g_sort g_size g_from g_to g_level g_full a_tape a_hAt a_hMany a_tAt a_tMany a_least a_place a_to a_order a_fails a_sKeys a_sRow a_sSlots a_bKeys a_bRow a_bSlots a_easy a_wants a_wantedBy a_ring a_carried a_latest v_taped v_faultKind v_faultPlace v_x v_ordered v_sought v_lastSought v_hMoved v_hWithout v_tMoved v_tWithout v_places v_elsewhere v_sMany v_bMany v_year y_lies a_rsort a_rmany a_nums pl)) (some (.int res)) := by
  refine MX.ofI (by decide) (Nat.le_of_ble_eq_true rfl) ?_
  intro p e s m args below meth c Q A hX hK hE0 hname hret H locs ls hH hl
  have hX : CallFix p m c cX0_states 1 s args lw_all RX0 := hX
  have hx := hX.1
  have hb := hX.2.1
  have hown := hX.2.2.2.1
  have hts := hX.2.2.2.2
  have hl : lv_has ls 1 [(0, .ref (ad 0))] := hl
  have hEv := hE.1
  have hNW := hE.2.1 _ _ _ hE0
  have hT := hPO.1
  have hB := hPO.2
  delta FX0_states at hF
  refine lv_aload_n hx hb dX0_states_0 rfl (lv_at hl 0 rfl) ?_
  refine cg_Y_this_lastSought hX hK hNW hH dX0_states_1 ?_
  obtain rfl := Option.some.inj hF
  exact hret _ _ _ _ _ rfl hH dX0_states_4
abbrev rm_X0_after : Room := { frames := 264, cells := 0, slots := 0, locals := 6102 }
set_option maxHeartbeats 4000000 in
theorem met_X0_after {l : Launch} {D : va_G} {ad : Nat → Nat} {cA : Nat → ClassId} {sA ta ba na : Nat → Nat} {gi : Nat → Option Nat} {rh : Option Nat} {rt : Option Nat} {g_sort : Int32} {g_size : Int32} {g_from : Int32} {g_to : Int32} {g_level : Int32} {g_full : Int32} {a_tape : Nat → Int32} {a_hAt : Nat → Int32} {a_hMany : Nat → Int32} {a_tAt : Nat → Int32} {a_tMany : Nat → Int32} {a_least : Nat → Int32} {a_place : Nat → Int32} {a_to : Nat → Int32} {a_order : Nat → Int32} {a_fails : Nat → Int32} {a_sKeys : Nat → Int64} {a_sRow : Nat → Int64} {a_sSlots : Nat → Int32} {a_bKeys : Nat → Int64} {a_bRow : Nat → Int64} {a_bSlots : Nat → Int32} {a_easy : Nat → Int32} {a_wants : Nat → Int32} {a_wantedBy : Nat → Int32} {a_ring : Nat → Int32} {a_carried : Nat → Int32} {a_latest : Nat → Int32} {v_taped : Int32} {v_faultKind : Int32} {v_faultPlace : Int32} {v_x : Int32} {v_ordered : Int32} {v_sought : Int32} {v_lastSought : Int32} {v_hMoved : Int32} {v_hWithout : Int32} {v_tMoved : Int32} {v_tWithout : Int32} {v_places : Int32} {v_elsewhere : Int32} {v_sMany : Int32} {v_bMany : Int32} {v_year : Int32} {y_lies : Int64} {a_rsort : Nat → Int32} {a_rmany : Nat → Int32} {a_nums : Nat → Nat → Int64} {t : Nat → Int32} {nb : Int32} {bv : Nat → Int32 → Int32 → Int32 → Int32 → Int32 → Int32 → Bool} {pl : va_W}  {p1 : Int32} {p2 : Int32} {res : Int32} {ra_hAt : Nat → Int32} {ra_hMany : Nat → Int32} {ra_tAt : Nat → Int32} {ra_tMany : Nat → Int32} {ra_sKeys : Nat → Int64} {ra_sRow : Nat → Int64} {ra_sSlots : Nat → Int32} {ra_bKeys : Nat → Int64} {ra_bRow : Nat → Int64} {ra_bSlots : Nat → Int32} {rv_sought : Int32} {rv_hMoved : Int32} {rv_tMoved : Int32} {rv_tWithout : Int32} {rv_sMany : Int32} {rv_bMany : Int32} {E : EvT} (hE : EvN E) (hPO : PO cA pl ta ba t nb bv) (hF : FX0_after a_hAt a_hMany a_tAt a_tMany a_sKeys a_sRow a_sSlots a_bKeys a_bRow a_bSlots v_sought v_hWithout v_tMoved v_tWithout v_sMany v_bMany y_lies t nb bv p1 p2 = some (res, ra_hAt, ra_hMany, ra_tAt, ra_tMany, ra_sKeys, ra_sRow, ra_sSlots, ra_bKeys, ra_bRow, ra_bSlots, rv_sought, rv_hMoved, rv_tMoved, rv_tWithout, rv_sMany, rv_bMany)) : MX l yX0_after (ws_ yX0_after cX0_after 3 (Option.some Jvm.ClassFile.FieldType.int)) rm_X0_after D vwA (cT cA) E [.ref (ad 0), .int p1, .int p2] (cW ad cA sA ta ba na gi rh rt g_sort g_size g_from g_to g_level g_full a_tape a_hAt a_hMany a_tAt a_tMany a_least a_place a_to a_order a_fails a_sKeys a_sRow a_sSlots a_bKeys a_bRow a_bSlots a_easy a_wants a_wantedBy a_ring a_carried a_latest v_taped v_faultKind v_faultPlace v_x v_ordered v_sought v_lastSought v_hMoved v_hWithout v_tMoved v_tWithout v_places v_elsewhere v_sMany v_bMany v_year y_lies a_rsort a_rmany a_nums pl) (fun z => ∃ rt' : Option Nat, ∃ g_sort' : Int32, ∃ g_size' : Int32, ∃ g_from' : Int32, ∃ g_to' : Int32, ∃ g_level' : Int32, ∃ g_full' : Int32, z = (cW ad cA sA ta ba na gi (some (ta 0)) rt' g_sort' g_size' g_from' g_to' g_level' g_full' a_tape ra_hAt ra_hMany ra_tAt ra_tMany a_least a_place a_to a_order a_fails ra_sKeys ra_sRow ra_sSlots ra_bKeys ra_bRow ra_bSlots a_easy a_wants a_wantedBy a_ring a_carried a_latest v_taped v_faultKind v_faultPlace v_x v_ordered rv_sought v_lastSought rv_hMoved v_hWithout rv_tMoved rv_tWithout v_places v_elsewhere rv_sMany rv_bMany v_year y_lies a_rsort a_rmany a_nums pl)) (some (.int res)) := by
  refine MX.ofI (by decide) (Nat.le_of_ble_eq_true rfl) ?_
  intro p e s m args below meth c Q A hX hK hE0 hname hret H locs ls hH hl
  have hX : CallFix p m c cX0_after 3 s args lw_all RX0 := hX
  have hx := hX.1
  have hb := hX.2.1
  have hown := hX.2.2.2.1
  have hts := hX.2.2.2.2
  have hl : lv_has ls 3 [(0, .ref (ad 0)), (1, .int p1), (2, .int p2)] := hl
  have hEv := hE.1
  have hNW := hE.2.1 _ _ _ hE0
  have hT := hPO.1
  have hB := hPO.2
  delta FX0_after at hF
  refine lv_aload_n hx hb dX0_after_0 rfl (lv_at hl 0 rfl) ?_
  obtain ⟨a_hAt_56, a_hMany_57, v_hMoved_58, he, hF⟩ := bd3e hF
  refine mxV hX hK hEv hE0 hH (met_X0_here hE hPO he) (crecv hK hH 0 0 rfl rfl) gw_StoneYear_195 hd_yX0_here ⟨Nat.le_of_ble_eq_true rfl, Nat.le_of_ble_eq_true rfl⟩ rfl rfl hl (Nat.le_of_ble_eq_true rfl) dX0_after_1 ⟨Nat.le_of_ble_eq_true rfl, Nat.le_of_ble_eq_true rfl⟩ (fun w2 H locs hw hH => ?_)
  subst hw
  refine lv_iload_n hx hb dX0_after_4 rfl (lv_at hl 1 rfl) ?_
  refine lv_iload_n hx hb dX0_after_5 rfl (lv_at hl 2 rfl) ?_
  obtain ⟨x_59, he, hF⟩ := bd1e hF
  refine mxV hX hK hEv hE0 hH (met_X4_may_h hE hPO hT he) (crecv hK hH 4 4 rfl rfl) gw_StoneYear_227 hd_yX4_may ⟨Nat.le_of_ble_eq_true rfl, Nat.le_of_ble_eq_true rfl⟩ rfl rfl hl (Nat.le_of_ble_eq_true rfl) dX0_after_6 ⟨Nat.le_of_ble_eq_true rfl, Nat.le_of_ble_eq_true rfl⟩ (fun w2 H locs hw hH => ?_)
  obtain ⟨g_sort_60, g_size_61, g_from_62, g_to_63, g_level_64, g_full_65, rfl⟩ := hw
  refine lv_if_eq (tgt := 15) hx hb dX0_after_9 rfl (fun c_66 => ?_) (fun c_66 => ?_)
  · have hF := itp c_66 hF
    refine lv_aload_n hx hb dX0_after_15 rfl (lv_at hl 0 rfl) ?_
    refine cg_Y_this_here hX hK hNW hH dX0_after_16 ?_
    refine lv_iload_n hx hb dX0_after_19 rfl (lv_at hl 1 rfl) ?_
    refine lv_iload_n hx hb dX0_after_20 rfl (lv_at hl 2 rfl) ?_
    refine lv_iconst (v := 1) hx hb dX0_after_21 kyi_1 ?_
    obtain ⟨x_67, a_hAt_68, a_hMany_69, v_hMoved_70, he, hF⟩ := bd4e hF
    refine mxV hX hK hEv hE0 hH (met_X4_carries_h hE hPO hT he) (crecv hK hH 4 4 rfl rfl) gw_StoneYear_236 hd_yX4_carries ⟨Nat.le_of_ble_eq_true rfl, Nat.le_of_ble_eq_true rfl⟩ rfl rfl hl (Nat.le_of_ble_eq_true rfl) dX0_after_22 ⟨Nat.le_of_ble_eq_true rfl, Nat.le_of_ble_eq_true rfl⟩ (fun w2 H locs hw hH => ?_)
    subst hw
    refine lv_pop hx hb dX0_after_25 rfl ?_
    refine lv_aload_n hx hb dX0_after_26 rfl (lv_at hl 0 rfl) ?_
    refine lv_aload_n hx hb dX0_after_27 rfl (lv_at hl 0 rfl) ?_
    refine cg_Y_this_s hX hK hNW hH dX0_after_28 ?_
    refine cg_Y_state_town hX hK hNW hH dX0_after_31 ?_
    refine lv_aload_n hx hb dX0_after_34 rfl (lv_at hl 0 rfl) ?_
    refine cg_Y_this_here hX hK hNW hH dX0_after_35 ?_
    refine lv_aload_n hx hb dX0_after_38 rfl (lv_at hl 0 rfl) ?_
    refine cg_Y_this_s hX hK hNW hH dX0_after_39 ?_
    refine cg_Y_state_lies hX hK hNW hH dX0_after_42 ?_
    obtain ⟨y_71, he, hF⟩ := bd1e hF
    refine mxV hX hK hEv hE0 hH (met_X4_lies_h hE hPO hT he) (crecv hK hH 4 4 rfl rfl) gw_StoneYear_243 hd_yX4_lies ⟨Nat.le_of_ble_eq_true rfl, Nat.le_of_ble_eq_true rfl⟩ rfl rfl hl (Nat.le_of_ble_eq_true rfl) dX0_after_45 ⟨Nat.le_of_ble_eq_true rfl, Nat.le_of_ble_eq_true rfl⟩ (fun w2 H locs hw hH => ?_)
    subst hw
    refine lv_iconst (v := (-1)) hx hb dX0_after_48 kyi_m1 ?_
    refine lv_iconst (v := (-1)) hx hb dX0_after_49 kyi_m1 ?_
    obtain ⟨x_72, a_tAt_73, a_tMany_74, a_sKeys_75, a_sRow_76, a_sSlots_77, a_bKeys_78, a_bRow_79, a_bSlots_80, v_sought_81, v_tMoved_82, v_tWithout_83, v_sMany_84, v_bMany_85, he, hF⟩ := bd14e hF
    refine mxV hX hK hEv hE0 hH (met_X0_seeks hE hPO hT he) (crecv hK hH 0 0 rfl rfl) gw_StoneYear_418 hd_yX0_seeks ⟨Nat.le_of_ble_eq_true rfl, Nat.le_of_ble_eq_true rfl⟩ rfl rfl hl (Nat.le_of_ble_eq_true rfl) dX0_after_50 ⟨Nat.le_of_ble_eq_true rfl, Nat.le_of_ble_eq_true rfl⟩ (fun w2 H locs hw hH => ?_)
    obtain ⟨rt_86, g_sort_87, g_size_88, g_from_89, g_to_90, g_level_91, g_full_92, rfl⟩ := hw
    obtain ⟨rfl, rfl, rfl, rfl, rfl, rfl, rfl, rfl, rfl, rfl, rfl, rfl, rfl, rfl, rfl, rfl, rfl⟩ := re17 hF
    exact hret _ _ _ _ _ ⟨_, _, _, _, _, _, _, rfl⟩ hH dX0_after_53
  · have hF := itn c_66 hF
    refine lv_bipush (v := (-5)) hx hb dX0_after_12 kyb_m5 ?_
    obtain ⟨rfl, rfl, rfl, rfl, rfl, rfl, rfl, rfl, rfl, rfl, rfl, rfl, rfl, rfl, rfl, rfl, rfl⟩ := re17 hF
    exact hret _ _ _ _ _ ⟨_, _, _, _, _, _, _, rfl⟩ hH dX0_after_14
abbrev rm_X0_without : Room := { frames := 264, cells := 0, slots := 0, locals := 6102 }
set_option maxHeartbeats 4000000 in
theorem met_X0_without {l : Launch} {D : va_G} {ad : Nat → Nat} {cA : Nat → ClassId} {sA ta ba na : Nat → Nat} {gi : Nat → Option Nat} {rh : Option Nat} {rt : Option Nat} {g_sort : Int32} {g_size : Int32} {g_from : Int32} {g_to : Int32} {g_level : Int32} {g_full : Int32} {a_tape : Nat → Int32} {a_hAt : Nat → Int32} {a_hMany : Nat → Int32} {a_tAt : Nat → Int32} {a_tMany : Nat → Int32} {a_least : Nat → Int32} {a_place : Nat → Int32} {a_to : Nat → Int32} {a_order : Nat → Int32} {a_fails : Nat → Int32} {a_sKeys : Nat → Int64} {a_sRow : Nat → Int64} {a_sSlots : Nat → Int32} {a_bKeys : Nat → Int64} {a_bRow : Nat → Int64} {a_bSlots : Nat → Int32} {a_easy : Nat → Int32} {a_wants : Nat → Int32} {a_wantedBy : Nat → Int32} {a_ring : Nat → Int32} {a_carried : Nat → Int32} {a_latest : Nat → Int32} {v_taped : Int32} {v_faultKind : Int32} {v_faultPlace : Int32} {v_x : Int32} {v_ordered : Int32} {v_sought : Int32} {v_lastSought : Int32} {v_hMoved : Int32} {v_hWithout : Int32} {v_tMoved : Int32} {v_tWithout : Int32} {v_places : Int32} {v_elsewhere : Int32} {v_sMany : Int32} {v_bMany : Int32} {v_year : Int32} {y_lies : Int64} {a_rsort : Nat → Int32} {a_rmany : Nat → Int32} {a_nums : Nat → Nat → Int64} {t : Nat → Int32} {nb : Int32} {bv : Nat → Int32 → Int32 → Int32 → Int32 → Int32 → Int32 → Bool} {pl : va_W}  {p1 : Int32} {res : Int32} {ra_tAt : Nat → Int32} {ra_tMany : Nat → Int32} {ra_sKeys : Nat → Int64} {ra_sRow : Nat → Int64} {ra_sSlots : Nat → Int32} {ra_bKeys : Nat → Int64} {ra_bRow : Nat → Int64} {ra_bSlots : Nat → Int32} {rv_sought : Int32} {rv_tMoved : Int32} {rv_tWithout : Int32} {rv_sMany : Int32} {rv_bMany : Int32} {E : EvT} (hE : EvN E) (hPO : PO cA pl ta ba t nb bv) (hF : FX0_without a_tAt a_tMany a_sKeys a_sRow a_sSlots a_bKeys a_bRow a_bSlots v_sought v_tMoved v_tWithout v_sMany v_bMany y_lies t nb bv p1 = some (res, ra_tAt, ra_tMany, ra_sKeys, ra_sRow, ra_sSlots, ra_bKeys, ra_bRow, ra_bSlots, rv_sought, rv_tMoved, rv_tWithout, rv_sMany, rv_bMany)) : MX l yX0_without (ws_ yX0_without cX0_without 2 (Option.some Jvm.ClassFile.FieldType.int)) rm_X0_without D vwA (cT cA) E [.ref (ad 0), .int p1] (cW ad cA sA ta ba na gi rh rt g_sort g_size g_from g_to g_level g_full a_tape a_hAt a_hMany a_tAt a_tMany a_least a_place a_to a_order a_fails a_sKeys a_sRow a_sSlots a_bKeys a_bRow a_bSlots a_easy a_wants a_wantedBy a_ring a_carried a_latest v_taped v_faultKind v_faultPlace v_x v_ordered v_sought v_lastSought v_hMoved v_hWithout v_tMoved v_tWithout v_places v_elsewhere v_sMany v_bMany v_year y_lies a_rsort a_rmany a_nums pl) (fun z => ∃ rt' : Option Nat, ∃ g_sort' : Int32, ∃ g_size' : Int32, ∃ g_from' : Int32, ∃ g_to' : Int32, ∃ g_level' : Int32, ∃ g_full' : Int32, z = (cW ad cA sA ta ba na gi rh rt' g_sort' g_size' g_from' g_to' g_level' g_full' a_tape a_hAt a_hMany ra_tAt ra_tMany a_least a_place a_to a_order a_fails ra_sKeys ra_sRow ra_sSlots ra_bKeys ra_bRow ra_bSlots a_easy a_wants a_wantedBy a_ring a_carried a_latest v_taped v_faultKind v_faultPlace v_x v_ordered rv_sought v_lastSought v_hMoved v_hWithout rv_tMoved rv_tWithout v_places v_elsewhere rv_sMany rv_bMany v_year y_lies a_rsort a_rmany a_nums pl)) (some (.int res)) := by
  refine MX.ofI (by decide) (Nat.le_of_ble_eq_true rfl) ?_
  intro p e s m args below meth c Q A hX hK hE0 hname hret H locs ls hH hl
  have hX : CallFix p m c cX0_without 2 s args lw_all RX0 := hX
  have hx := hX.1
  have hb := hX.2.1
  have hown := hX.2.2.2.1
  have hts := hX.2.2.2.2
  have hl : lv_has ls 2 [(0, .ref (ad 0)), (1, .int p1)] := hl
  have hEv := hE.1
  have hNW := hE.2.1 _ _ _ hE0
  have hT := hPO.1
  have hB := hPO.2
  delta FX0_without at hF
  refine lv_iload_n hx hb dX0_without_0 rfl (lv_at hl 1 rfl) ?_
  refine lv_i2l (v := (Int32.toInt64 p1)) hx hb dX0_without_1 rfl ?_
  refine lv_lconst (v := 0) hx hb dX0_without_2 rfl ?_
  refine lv_aload_n hx hb dX0_without_3 rfl (lv_at hl 0 rfl) ?_
  refine cg_Y_this_s hX hK hNW hH dX0_without_4 ?_
  refine cg_Y_state_town hX hK hNW hH dX0_without_7 ?_
  refine cg_Y_town_musts hT (fun _ h => cW_pl h) hX hK hNW hH dX0_without_10 ?_
  refine mxV hX hK hEv hE0 hH (met_J2_size hE.1 hT.musts (fun _ h => cW_pl h)) (precv (fun _ h => cW_pl h) hK hH 17 rfl hT.musts.obj) gw_StoneYear_133 hd_yJ2_size ⟨Nat.le_of_ble_eq_true rfl, Nat.le_of_ble_eq_true rfl⟩ rfl rfl hl (Nat.le_of_ble_eq_true rfl) dX0_without_13 ⟨Nat.le_of_ble_eq_true rfl, Nat.le_of_ble_eq_true rfl⟩ (fun w2 H locs hw hH => ?_)
  subst hw
  refine lv_iconst (v := 1) hx hb dX0_without_16 kyi_1 ?_
  refine lv_isub hx hb dX0_without_17 ?_
  refine lv_i2l (v := (Int32.toInt64 ((t 56) - 1))) hx hb dX0_without_18 rfl ?_
  obtain ⟨b_55, he, hF⟩ := bd1e hF
  refine mxS hX hK hEv hE0 hH (met_X0_in hE hPO he) gw_StoneYear_106 hd_yX0_in ⟨Nat.le_of_ble_eq_true rfl, Nat.le_of_ble_eq_true rfl⟩ rfl rfl hl (Nat.le_of_ble_eq_true rfl) dX0_without_19 ⟨Nat.le_of_ble_eq_true rfl, Nat.le_of_ble_eq_true rfl⟩ (fun w2 H locs hw hH => ?_)
  subst hw
  refine lv_if_eq (tgt := 48) hx hb dX0_without_22 rfl (fun c_56 => ?_) (fun c_56 => ?_)
  · have hF := itp c_56 hF
    refine lv_bipush (v := (-2)) hx hb dX0_without_48 kyb_m2 ?_
    obtain ⟨rfl, rfl, rfl, rfl, rfl, rfl, rfl, rfl, rfl, rfl, rfl, rfl, rfl, rfl⟩ := re14 hF
    exact hret _ _ _ _ _ ⟨_, _, _, _, _, _, _, rfl⟩ hH dX0_without_50
  · have hF := itn c_56 hF
    refine lv_aload_n hx hb dX0_without_25 rfl (lv_at hl 0 rfl) ?_
    refine lv_aload_n hx hb dX0_without_26 rfl (lv_at hl 0 rfl) ?_
    refine cg_Y_this_s hX hK hNW hH dX0_without_27 ?_
    refine cg_Y_state_town hX hK hNW hH dX0_without_30 ?_
    refine lv_aload_n hx hb dX0_without_33 rfl (lv_at hl 0 rfl) ?_
    refine cg_Y_this_s hX hK hNW hH dX0_without_34 ?_
    refine cg_Y_state_lies hX hK hNW hH dX0_without_37 ?_
    refine lv_iconst (v := (-1)) hx hb dX0_without_40 kyi_m1 ?_
    refine lv_iload_n hx hb dX0_without_41 rfl (lv_at hl 1 rfl) ?_
    obtain ⟨x_57, a_tAt_58, a_tMany_59, a_sKeys_60, a_sRow_61, a_sSlots_62, a_bKeys_63, a_bRow_64, a_bSlots_65, v_sought_66, v_tMoved_67, v_tWithout_68, v_sMany_69, v_bMany_70, he, hF⟩ := bd14e hF
    refine mxV hX hK hEv hE0 hH (met_X0_seeks hE hPO hT he) (crecv hK hH 0 0 rfl rfl) gw_StoneYear_418 hd_yX0_seeks ⟨Nat.le_of_ble_eq_true rfl, Nat.le_of_ble_eq_true rfl⟩ rfl rfl hl (Nat.le_of_ble_eq_true rfl) dX0_without_42 ⟨Nat.le_of_ble_eq_true rfl, Nat.le_of_ble_eq_true rfl⟩ (fun w2 H locs hw hH => ?_)
    obtain ⟨rt_71, g_sort_72, g_size_73, g_from_74, g_to_75, g_level_76, g_full_77, rfl⟩ := hw
    refine lv_goto (tgt := 50) hx hb dX0_without_45 rfl ?_
    obtain ⟨rfl, rfl, rfl, rfl, rfl, rfl, rfl, rfl, rfl, rfl, rfl, rfl, rfl, rfl⟩ := re14 hF
    exact hret _ _ _ _ _ ⟨_, _, _, _, _, _, _, rfl⟩ hH dX0_without_50
abbrev rm_X0_missing : Room := { frames := 264, cells := 0, slots := 0, locals := 6102 }
set_option maxHeartbeats 4000000 in
theorem met_X0_missing {l : Launch} {D : va_G} {ad : Nat → Nat} {cA : Nat → ClassId} {sA ta ba na : Nat → Nat} {gi : Nat → Option Nat} {rh : Option Nat} {rt : Option Nat} {g_sort : Int32} {g_size : Int32} {g_from : Int32} {g_to : Int32} {g_level : Int32} {g_full : Int32} {a_tape : Nat → Int32} {a_hAt : Nat → Int32} {a_hMany : Nat → Int32} {a_tAt : Nat → Int32} {a_tMany : Nat → Int32} {a_least : Nat → Int32} {a_place : Nat → Int32} {a_to : Nat → Int32} {a_order : Nat → Int32} {a_fails : Nat → Int32} {a_sKeys : Nat → Int64} {a_sRow : Nat → Int64} {a_sSlots : Nat → Int32} {a_bKeys : Nat → Int64} {a_bRow : Nat → Int64} {a_bSlots : Nat → Int32} {a_easy : Nat → Int32} {a_wants : Nat → Int32} {a_wantedBy : Nat → Int32} {a_ring : Nat → Int32} {a_carried : Nat → Int32} {a_latest : Nat → Int32} {v_taped : Int32} {v_faultKind : Int32} {v_faultPlace : Int32} {v_x : Int32} {v_ordered : Int32} {v_sought : Int32} {v_lastSought : Int32} {v_hMoved : Int32} {v_hWithout : Int32} {v_tMoved : Int32} {v_tWithout : Int32} {v_places : Int32} {v_elsewhere : Int32} {v_sMany : Int32} {v_bMany : Int32} {v_year : Int32} {y_lies : Int64} {a_rsort : Nat → Int32} {a_rmany : Nat → Int32} {a_nums : Nat → Nat → Int64} {t : Nat → Int32} {nb : Int32} {bv : Nat → Int32 → Int32 → Int32 → Int32 → Int32 → Int32 → Bool} {pl : va_W}  {p1 : Int32} {res : Int32} {ra_hAt : Nat → Int32} {ra_hMany : Nat → Int32} {ra_tAt : Nat → Int32} {ra_tMany : Nat → Int32} {ra_sKeys : Nat → Int64} {ra_sRow : Nat → Int64} {ra_sSlots : Nat → Int32} {ra_bKeys : Nat → Int64} {ra_bRow : Nat → Int64} {ra_bSlots : Nat → Int32} {rv_sought : Int32} {rv_hMoved : Int32} {rv_tMoved : Int32} {rv_tWithout : Int32} {rv_sMany : Int32} {rv_bMany : Int32} {E : EvT} (hE : EvN E) (hPO : PO cA pl ta ba t nb bv) (hF : FX0_missing a_hAt a_hMany a_tAt a_tMany a_sKeys a_sRow a_sSlots a_bKeys a_bRow a_bSlots v_sought v_hMoved v_tMoved v_tWithout v_sMany v_bMany y_lies t nb bv p1 = some (res, ra_hAt, ra_hMany, ra_tAt, ra_tMany, ra_sKeys, ra_sRow, ra_sSlots, ra_bKeys, ra_bRow, ra_bSlots, rv_sought, rv_hMoved, rv_tMoved, rv_tWithout, rv_sMany, rv_bMany)) : MX l yX0_missing (ws_ yX0_missing cX0_missing 2 (Option.some Jvm.ClassFile.FieldType.int)) rm_X0_missing D vwA (cT cA) E [.ref (ad 0), .int p1] (cW ad cA sA ta ba na gi rh rt g_sort g_size g_from g_to g_level g_full a_tape a_hAt a_hMany a_tAt a_tMany a_least a_place a_to a_order a_fails a_sKeys a_sRow a_sSlots a_bKeys a_bRow a_bSlots a_easy a_wants a_wantedBy a_ring a_carried a_latest v_taped v_faultKind v_faultPlace v_x v_ordered v_sought v_lastSought v_hMoved v_hWithout v_tMoved v_tWithout v_places v_elsewhere v_sMany v_bMany v_year y_lies a_rsort a_rmany a_nums pl) (fun z => ∃ rh' : Option Nat, ∃ rt' : Option Nat, ∃ g_sort' : Int32, ∃ g_size' : Int32, ∃ g_from' : Int32, ∃ g_to' : Int32, ∃ g_level' : Int32, ∃ g_full' : Int32, z = (cW ad cA sA ta ba na gi rh' rt' g_sort' g_size' g_from' g_to' g_level' g_full' a_tape ra_hAt ra_hMany ra_tAt ra_tMany a_least a_place a_to a_order a_fails ra_sKeys ra_sRow ra_sSlots ra_bKeys ra_bRow ra_bSlots a_easy a_wants a_wantedBy a_ring a_carried a_latest v_taped v_faultKind v_faultPlace v_x v_ordered rv_sought v_lastSought rv_hMoved v_hWithout rv_tMoved rv_tWithout v_places v_elsewhere rv_sMany rv_bMany v_year y_lies a_rsort a_rmany a_nums pl)) (some (.int res)) := by
  refine MX.ofI (by decide) (Nat.le_of_ble_eq_true rfl) ?_
  intro p e s m args below meth c Q A hX hK hE0 hname hret H locs ls hH hl
  have hX : CallFix p m c cX0_missing 2 s args lw_all RX0 := hX
  have hx := hX.1
  have hb := hX.2.1
  have hown := hX.2.2.2.1
  have hts := hX.2.2.2.2
  have hl : lv_has ls 2 [(0, .ref (ad 0)), (1, .int p1)] := hl
  have hEv := hE.1
  have hNW := hE.2.1 _ _ _ hE0
  have hT := hPO.1
  have hB := hPO.2
  delta FX0_missing at hF
  refine lv_aload_n hx hb dX0_missing_0 rfl (lv_at hl 0 rfl) ?_
  refine lv_iload_n hx hb dX0_missing_1 rfl (lv_at hl 1 rfl) ?_
  obtain ⟨b_55, he, hF⟩ := bd1e hF
  refine mxV hX hK hEv hE0 hH (met_X0_isThere hE hPO he) (crecv hK hH 0 0 rfl rfl) gw_StoneYear_184 hd_yX0_isThere ⟨Nat.le_of_ble_eq_true rfl, Nat.le_of_ble_eq_true rfl⟩ rfl rfl hl (Nat.le_of_ble_eq_true rfl) dX0_missing_2 ⟨Nat.le_of_ble_eq_true rfl, Nat.le_of_ble_eq_true rfl⟩ (fun w2 H locs hw hH => ?_)
  subst hw
  refine lv_if_ne (tgt := 11) hx hb dX0_missing_5 rfl (fun c_56 => ?_) (fun c_56 => ?_)
  · have hF := itn c_56 hF
    refine lv_aload_n hx hb dX0_missing_11 rfl (lv_at hl 0 rfl) ?_
    refine lv_iload_n hx hb dX0_missing_12 rfl (lv_at hl 1 rfl) ?_
    obtain ⟨b_57, a_hAt_58, a_hMany_59, v_hMoved_60, he, hF⟩ := bd4e hF
    refine mxV hX hK hEv hE0 hH (met_X0_isTop hE hPO he) (crecv hK hH 0 0 rfl rfl) gw_StoneYear_279 hd_yX0_isTop ⟨Nat.le_of_ble_eq_true rfl, Nat.le_of_ble_eq_true rfl⟩ rfl rfl hl (Nat.le_of_ble_eq_true rfl) dX0_missing_13 ⟨Nat.le_of_ble_eq_true rfl, Nat.le_of_ble_eq_true rfl⟩ (fun w2 H locs hw hH => ?_)
    subst hw
    refine lv_if_eq (tgt := 46) hx hb dX0_missing_16 rfl (fun c_61 => ?_) (fun c_61 => ?_)
    · have hF := itp c_61 hF
      refine lv_bipush (v := (-5)) hx hb dX0_missing_46 kyb_m5 ?_
      obtain ⟨rfl, rfl, rfl, rfl, rfl, rfl, rfl, rfl, rfl, rfl, rfl, rfl, rfl, rfl, rfl, rfl, rfl⟩ := re17 hF
      exact hret _ _ _ _ _ ⟨_, _, _, _, _, _, _, _, rfl⟩ hH dX0_missing_48
    · have hF := itn c_61 hF
      refine lv_aload_n hx hb dX0_missing_19 rfl (lv_at hl 0 rfl) ?_
      refine lv_aload_n hx hb dX0_missing_20 rfl (lv_at hl 0 rfl) ?_
      refine cg_Y_this_s hX hK hNW hH dX0_missing_21 ?_
      refine cg_Y_state_town hX hK hNW hH dX0_missing_24 ?_
      refine lv_aload_n hx hb dX0_missing_27 rfl (lv_at hl 0 rfl) ?_
      refine cg_Y_this_s hX hK hNW hH dX0_missing_28 ?_
      refine cg_Y_state_lies hX hK hNW hH dX0_missing_31 ?_
      refine lv_iload_n hx hb dX0_missing_34 rfl (lv_at hl 1 rfl) ?_
      obtain ⟨y_62, he, hF⟩ := bd1e hF
      refine mxS hX hK hEv hE0 hH (met_X0_robbed hE hPO he) gw_StoneYear_282 hd_yX0_robbed ⟨Nat.le_of_ble_eq_true rfl, Nat.le_of_ble_eq_true rfl⟩ rfl rfl hl (Nat.le_of_ble_eq_true rfl) dX0_missing_35 ⟨Nat.le_of_ble_eq_true rfl, Nat.le_of_ble_eq_true rfl⟩ (fun w2 H locs hw hH => ?_)
      subst hw
      refine lv_iconst (v := (-1)) hx hb dX0_missing_38 kyi_m1 ?_
      refine lv_iconst (v := (-1)) hx hb dX0_missing_39 kyi_m1 ?_
      obtain ⟨x_63, a_tAt_64, a_tMany_65, a_sKeys_66, a_sRow_67, a_sSlots_68, a_bKeys_69, a_bRow_70, a_bSlots_71, v_sought_72, v_tMoved_73, v_tWithout_74, v_sMany_75, v_bMany_76, he, hF⟩ := bd14e hF
      refine mxV hX hK hEv hE0 hH (met_X0_seeks hE hPO hT he) (crecv hK hH 0 0 rfl rfl) gw_StoneYear_418 hd_yX0_seeks ⟨Nat.le_of_ble_eq_true rfl, Nat.le_of_ble_eq_true rfl⟩ rfl rfl hl (Nat.le_of_ble_eq_true rfl) dX0_missing_40 ⟨Nat.le_of_ble_eq_true rfl, Nat.le_of_ble_eq_true rfl⟩ (fun w2 H locs hw hH => ?_)
      obtain ⟨rt_77, g_sort_78, g_size_79, g_from_80, g_to_81, g_level_82, g_full_83, rfl⟩ := hw
      refine lv_goto (tgt := 48) hx hb dX0_missing_43 rfl ?_
      obtain ⟨rfl, rfl, rfl, rfl, rfl, rfl, rfl, rfl, rfl, rfl, rfl, rfl, rfl, rfl, rfl, rfl, rfl⟩ := re17 hF
      exact hret _ _ _ _ _ ⟨_, _, _, _, _, _, _, _, rfl⟩ hH dX0_missing_48
  · have hF := itp c_56 hF
    refine lv_bipush (v := (-2)) hx hb dX0_missing_8 kyb_m2 ?_
    obtain ⟨rfl, rfl, rfl, rfl, rfl, rfl, rfl, rfl, rfl, rfl, rfl, rfl, rfl, rfl, rfl, rfl, rfl⟩ := re17 hF
    exact hret _ _ _ _ _ ⟨_, _, _, _, _, _, _, _, rfl⟩ hH dX0_missing_10
abbrev rm_X0_winters : Room := { frames := 263, cells := 0, slots := 0, locals := 6075 }
set_option maxHeartbeats 4000000 in
theorem met_X0_winters {l : Launch} {D : va_G} {ad : Nat → Nat} {cA : Nat → ClassId} {sA ta ba na : Nat → Nat} {gi : Nat → Option Nat} {rh : Option Nat} {rt : Option Nat} {g_sort : Int32} {g_size : Int32} {g_from : Int32} {g_to : Int32} {g_level : Int32} {g_full : Int32} {a_tape : Nat → Int32} {a_hAt : Nat → Int32} {a_hMany : Nat → Int32} {a_tAt : Nat → Int32} {a_tMany : Nat → Int32} {a_least : Nat → Int32} {a_place : Nat → Int32} {a_to : Nat → Int32} {a_order : Nat → Int32} {a_fails : Nat → Int32} {a_sKeys : Nat → Int64} {a_sRow : Nat → Int64} {a_sSlots : Nat → Int32} {a_bKeys : Nat → Int64} {a_bRow : Nat → Int64} {a_bSlots : Nat → Int32} {a_easy : Nat → Int32} {a_wants : Nat → Int32} {a_wantedBy : Nat → Int32} {a_ring : Nat → Int32} {a_carried : Nat → Int32} {a_latest : Nat → Int32} {v_taped : Int32} {v_faultKind : Int32} {v_faultPlace : Int32} {v_x : Int32} {v_ordered : Int32} {v_sought : Int32} {v_lastSought : Int32} {v_hMoved : Int32} {v_hWithout : Int32} {v_tMoved : Int32} {v_tWithout : Int32} {v_places : Int32} {v_elsewhere : Int32} {v_sMany : Int32} {v_bMany : Int32} {v_year : Int32} {y_lies : Int64} {a_rsort : Nat → Int32} {a_rmany : Nat → Int32} {a_nums : Nat → Nat → Int64} {t : Nat → Int32} {nb : Int32} {bv : Nat → Int32 → Int32 → Int32 → Int32 → Int32 → Int32 → Bool} {pl : va_W}  {p1 : Int32} {res : Int32} {ra_tAt : Nat → Int32} {ra_tMany : Nat → Int32} {ra_sKeys : Nat → Int64} {ra_sRow : Nat → Int64} {ra_sSlots : Nat → Int32} {ra_bKeys : Nat → Int64} {ra_bRow : Nat → Int64} {ra_bSlots : Nat → Int32} {rv_sought : Int32} {rv_tMoved : Int32} {rv_tWithout : Int32} {rv_sMany : Int32} {rv_bMany : Int32} {E : EvT} (hE : EvN E) (hPO : PO cA pl ta ba t nb bv) (hF : FX0_winters a_tAt a_tMany a_sKeys a_sRow a_sSlots a_bKeys a_bRow a_bSlots v_sought v_tMoved v_tWithout v_sMany v_bMany y_lies t nb bv p1 = some (res, ra_tAt, ra_tMany, ra_sKeys, ra_sRow, ra_sSlots, ra_bKeys, ra_bRow, ra_bSlots, rv_sought, rv_tMoved, rv_tWithout, rv_sMany, rv_bMany)) : MX l yX0_winters (ws_ yX0_winters cX0_winters 6 (Option.some Jvm.ClassFile.FieldType.int)) rm_X0_winters D vwA (cT cA) E [.ref (ad 0), .int p1] (cW ad cA sA ta ba na gi rh rt g_sort g_size g_from g_to g_level g_full a_tape a_hAt a_hMany a_tAt a_tMany a_least a_place a_to a_order a_fails a_sKeys a_sRow a_sSlots a_bKeys a_bRow a_bSlots a_easy a_wants a_wantedBy a_ring a_carried a_latest v_taped v_faultKind v_faultPlace v_x v_ordered v_sought v_lastSought v_hMoved v_hWithout v_tMoved v_tWithout v_places v_elsewhere v_sMany v_bMany v_year y_lies a_rsort a_rmany a_nums pl) (fun z => ∃ rt' : Option Nat, ∃ g_sort' : Int32, ∃ g_size' : Int32, ∃ g_from' : Int32, ∃ g_to' : Int32, ∃ g_level' : Int32, ∃ g_full' : Int32, z = (cW ad cA sA ta ba na gi rh rt' g_sort' g_size' g_from' g_to' g_level' g_full' a_tape a_hAt a_hMany ra_tAt ra_tMany a_least a_place a_to a_order a_fails ra_sKeys ra_sRow ra_sSlots ra_bKeys ra_bRow ra_bSlots a_easy a_wants a_wantedBy a_ring a_carried a_latest v_taped v_faultKind v_faultPlace v_x v_ordered rv_sought v_lastSought v_hMoved v_hWithout rv_tMoved rv_tWithout v_places v_elsewhere rv_sMany rv_bMany v_year y_lies a_rsort a_rmany a_nums pl)) (some (.int res)) := by
  refine MX.ofI (by decide) (Nat.le_of_ble_eq_true rfl) ?_
  intro p e s m args below meth c Q A hX hK hE0 hname hret H locs ls hH hl
  have hX : CallFix p m c cX0_winters 6 s args lw_all RX0 := hX
  have hx := hX.1
  have hb := hX.2.1
  have hown := hX.2.2.2.1
  have hts := hX.2.2.2.2
  have hl : lv_has ls 6 [(0, .ref (ad 0)), (1, .int p1)] := hl
  have hEv := hE.1
  have hNW := hE.2.1 _ _ _ hE0
  have hT := hPO.1
  have hB := hPO.2
  delta FX0_winters at hF
  refine lv_iload_n hx hb dX0_winters_0 rfl (lv_at hl 1 rfl) ?_
  refine lv_i2l (v := (Int32.toInt64 p1)) hx hb dX0_winters_1 rfl ?_
  refine lv_lconst (v := 1) hx hb dX0_winters_2 rfl ?_
  refine lv_ldc2 (v := 3) hx hb hown (hts _ q1191) dX0_winters_3 ?_
  obtain ⟨b_55, he, hF⟩ := bd1e hF
  refine mxS hX hK hEv hE0 hH (met_X0_in hE hPO he) gw_StoneYear_106 hd_yX0_in ⟨Nat.le_of_ble_eq_true rfl, Nat.le_of_ble_eq_true rfl⟩ rfl rfl hl (Nat.le_of_ble_eq_true rfl) dX0_winters_6 ⟨Nat.le_of_ble_eq_true rfl, Nat.le_of_ble_eq_true rfl⟩ (fun w2 H locs hw hH => ?_)
  subst hw
  refine lv_if_ne (tgt := 15) hx hb dX0_winters_9 rfl (fun c_56 => ?_) (fun c_56 => ?_)
  · have hF := itn c_56 hF
    refine lv_aload_n hx hb dX0_winters_15 rfl (lv_at hl 0 rfl) ?_
    refine cg_Y_this_trial hX hK hNW hH dX0_winters_16 ?_
    refine lv_iconst (v := (-1)) hx hb dX0_winters_19 kyi_m1 ?_
    refine cp_Y_stkt_without hX hK hNW hH dX0_winters_20 (fun H locs hH => ?_)
    refine lv_aload_n hx hb dX0_winters_23 rfl (lv_at hl 0 rfl) ?_
    refine lv_aload_n hx hb dX0_winters_24 rfl (lv_at hl 0 rfl) ?_
    refine cg_Y_this_s hX hK hNW hH dX0_winters_25 ?_
    refine cg_Y_state_lies hX hK hNW hH dX0_winters_28 ?_
    obtain ⟨a_sKeys_57, a_sRow_58, a_sSlots_59, a_bKeys_60, a_bRow_61, a_bSlots_62, v_sought_63, v_sMany_64, v_bMany_65, he, hF⟩ := bd9e hF
    refine mxV hX hK hEv hE0 hH (met_X0_opens hE hPO he) (crecv hK hH 0 0 rfl rfl) gw_StoneYear_403 hd_yX0_opens ⟨Nat.le_of_ble_eq_true rfl, Nat.le_of_ble_eq_true rfl⟩ rfl rfl hl (Nat.le_of_ble_eq_true rfl) dX0_winters_31 ⟨Nat.le_of_ble_eq_true rfl, Nat.le_of_ble_eq_true rfl⟩ (fun w2 H locs hw hH => ?_)
    subst hw
    refine lv_iconst (v := 0) hx hb dX0_winters_34 kyi_0 ?_
    refine lv_istore_n (lv' := [(2, .int 0), (0, .ref (ad 0)), (1, .int p1)]) hx hb dX0_winters_35 rfl hl (by decide) rfl (fun ls hl => ?_)
    refine lv_iconst (v := 1) hx hb dX0_winters_36 kyi_1 ?_
    refine lv_istore_n (lv' := [(3, .int 1), (2, .int 0), (0, .ref (ad 0)), (1, .int p1)]) hx hb dX0_winters_37 rfl hl (by decide) rfl (fun ls hl => ?_)
    refine lv_iconst (v := 1) hx hb dX0_winters_38 kyi_1 ?_
    refine lv_istore (lv' := [(4, .int 1), (3, .int 1), (2, .int 0), (0, .ref (ad 0)), (1, .int p1)]) hx hb dX0_winters_39 hl (by decide) rfl (fun ls hl => ?_)
    obtain ⟨xx41, ee41, kk41_0, kk41_1⟩ := bdS2e hF
    have k41_0 : ∀ (a_tAt_188 : Nat → Int32) (a_tMany_189 : Nat → Int32) (a_sKeys_190 : Nat → Int64) (a_sRow_191 : Nat → Int64) (a_sSlots_192 : Nat → Int32) (a_bKeys_193 : Nat → Int64) (a_bRow_194 : Nat → Int64) (a_bSlots_195 : Nat → Int32) (v_sought_196 : Int32) (v_tMoved_197 : Int32) (v_sMany_198 : Int32) (v_bMany_199 : Int32), xx41 = (.inl (a_tAt_188, a_tMany_189, a_sKeys_190, a_sRow_191, a_sSlots_192, a_bKeys_193, a_bRow_194, a_bSlots_195, v_sought_196, v_tMoved_197, v_sMany_198, v_bMany_199)) → ∀ (rt_200 : Option Nat) (g_sort_201 : Int32) (g_size_202 : Int32) (g_from_203 : Int32) (g_to_204 : Int32) (g_level_205 : Int32) (g_full_206 : Int32), ∀ (H : Heap) (locs : List Loc) (ls : Array Slot), MH D vwA A s.heap (cW ad cA sA ta ba na gi rh rt_200 g_sort_201 g_size_202 g_from_203 g_to_204 g_level_205 g_full_206 a_tape a_hAt a_hMany a_tAt_188 a_tMany_189 a_least a_place a_to a_order a_fails a_sKeys_190 a_sRow_191 a_sSlots_192 a_bKeys_193 a_bRow_194 a_bSlots_195 a_easy a_wants a_wantedBy a_ring a_carried a_latest v_taped v_faultKind v_faultPlace v_x v_ordered v_sought_196 v_lastSought v_hMoved v_hWithout v_tMoved_197 (-1) v_places v_elsewhere v_sMany_198 v_bMany_199 v_year y_lies a_rsort a_rmany a_nums pl) H locs → lv_has ls 6 [] → W p l e rm_X0_winters s m args below meth c H locs 0 0 Q (F0 m 70 ls []) := by
      intro a_tAt_188 a_tMany_189 a_sKeys_190 a_sRow_191 a_sSlots_192 a_bKeys_193 a_bRow_194 a_bSlots_195 v_sought_196 v_tMoved_197 v_sMany_198 v_bMany_199 hxx rt_200 g_sort_201 g_size_202 g_from_203 g_to_204 g_level_205 g_full_206 H locs ls hH hl
      have hF := un12e (kk41_0 (a_tAt_188, a_tMany_189, a_sKeys_190, a_sRow_191, a_sSlots_192, a_bKeys_193, a_bRow_194, a_bSlots_195, v_sought_196, v_tMoved_197, v_sMany_198, v_bMany_199) hxx)
      refine lv_bipush (v := (-4)) hx hb dX0_winters_70 kyb_m4 ?_
      obtain ⟨rfl, rfl, rfl, rfl, rfl, rfl, rfl, rfl, rfl, rfl, rfl, rfl, rfl, rfl⟩ := re14 hF
      exact hret _ _ _ _ _ ⟨_, _, _, _, _, _, _, rfl⟩ hH dX0_winters_72
    have k41_1 : ∀ (x_207 : Int32) (a_tAt_208 : Nat → Int32) (a_tMany_209 : Nat → Int32) (a_sKeys_210 : Nat → Int64) (a_sRow_211 : Nat → Int64) (a_sSlots_212 : Nat → Int32) (a_bKeys_213 : Nat → Int64) (a_bRow_214 : Nat → Int64) (a_bSlots_215 : Nat → Int32) (v_sought_216 : Int32) (v_tMoved_217 : Int32) (v_sMany_218 : Int32) (v_bMany_219 : Int32), xx41 = (.inr (x_207, a_tAt_208, a_tMany_209, a_sKeys_210, a_sRow_211, a_sSlots_212, a_bKeys_213, a_bRow_214, a_bSlots_215, v_sought_216, v_tMoved_217, v_sMany_218, v_bMany_219)) → ∀ (rt_220 : Option Nat) (g_sort_221 : Int32) (g_size_222 : Int32) (g_from_223 : Int32) (g_to_224 : Int32) (g_level_225 : Int32) (g_full_226 : Int32), ∀ (H : Heap) (locs : List Loc) (ls : Array Slot), MH D vwA A s.heap (cW ad cA sA ta ba na gi rh rt_220 g_sort_221 g_size_222 g_from_223 g_to_224 g_level_225 g_full_226 a_tape a_hAt a_hMany a_tAt_208 a_tMany_209 a_least a_place a_to a_order a_fails a_sKeys_210 a_sRow_211 a_sSlots_212 a_bKeys_213 a_bRow_214 a_bSlots_215 a_easy a_wants a_wantedBy a_ring a_carried a_latest v_taped v_faultKind v_faultPlace v_x v_ordered v_sought_216 v_lastSought v_hMoved v_hWithout v_tMoved_217 (-1) v_places v_elsewhere v_sMany_218 v_bMany_219 v_year y_lies a_rsort a_rmany a_nums pl) H locs → lv_has ls 6 [(2, .int x_207)] → W p l e rm_X0_winters s m args below meth c H locs 0 0 Q (F0 m 154 ls []) := by
      intro x_207 a_tAt_208 a_tMany_209 a_sKeys_210 a_sRow_211 a_sSlots_212 a_bKeys_213 a_bRow_214 a_bSlots_215 v_sought_216 v_tMoved_217 v_sMany_218 v_bMany_219 hxx rt_220 g_sort_221 g_size_222 g_from_223 g_to_224 g_level_225 g_full_226 H locs ls hH hl
      have hF := un13e (kk41_1 (x_207, a_tAt_208, a_tMany_209, a_sKeys_210, a_sRow_211, a_sSlots_212, a_bKeys_213, a_bRow_214, a_bSlots_215, v_sought_216, v_tMoved_217, v_sMany_218, v_bMany_219) hxx)
      refine lv_iload_n hx hb dX0_winters_154 rfl (lv_at hl 0 rfl) ?_
      obtain ⟨rfl, rfl, rfl, rfl, rfl, rfl, rfl, rfl, rfl, rfl, rfl, rfl, rfl, rfl⟩ := re14 hF
      exact hret _ _ _ _ _ ⟨_, _, _, _, _, _, _, rfl⟩ hH dX0_winters_155
    obtain ⟨nn41, en41⟩ := loopC_some ee41
    have l41 : ∀ (n : Nat) (x_116 : Int32) (x_117 : Int32) (x_118 : Int32) (a_tAt_119 : Nat → Int32) (a_tMany_120 : Nat → Int32) (a_sKeys_121 : Nat → Int64) (a_sRow_122 : Nat → Int64) (a_sSlots_123 : Nat → Int32) (a_bKeys_124 : Nat → Int64) (a_bRow_125 : Nat → Int64) (a_bSlots_126 : Nat → Int32) (v_sought_127 : Int32) (v_tMoved_128 : Int32) (v_sMany_129 : Int32) (v_bMany_130 : Int32), loopN (fun s => FX0_winters_b41 t nb bv p1 s.1 s.2.1 s.2.2.1 s.2.2.2.1 s.2.2.2.2.1 s.2.2.2.2.2.1 s.2.2.2.2.2.2.1 s.2.2.2.2.2.2.2.1 s.2.2.2.2.2.2.2.2.1 s.2.2.2.2.2.2.2.2.2.1 s.2.2.2.2.2.2.2.2.2.2.1 s.2.2.2.2.2.2.2.2.2.2.2.1 s.2.2.2.2.2.2.2.2.2.2.2.2.1 s.2.2.2.2.2.2.2.2.2.2.2.2.2.1 s.2.2.2.2.2.2.2.2.2.2.2.2.2.2) n (x_116, x_117, x_118, a_tAt_119, a_tMany_120, a_sKeys_121, a_sRow_122, a_sSlots_123, a_bKeys_124, a_bRow_125, a_bSlots_126, v_sought_127, v_tMoved_128, v_sMany_129, v_bMany_130) = some xx41 → ∀ (rt_131 : Option Nat) (g_sort_132 : Int32) (g_size_133 : Int32) (g_from_134 : Int32) (g_to_135 : Int32) (g_level_136 : Int32) (g_full_137 : Int32), ∀ (H : Heap) (locs : List Loc) (ls : Array Slot), MH D vwA A s.heap (cW ad cA sA ta ba na gi rh rt_131 g_sort_132 g_size_133 g_from_134 g_to_135 g_level_136 g_full_137 a_tape a_hAt a_hMany a_tAt_119 a_tMany_120 a_least a_place a_to a_order a_fails a_sKeys_121 a_sRow_122 a_sSlots_123 a_bKeys_124 a_bRow_125 a_bSlots_126 a_easy a_wants a_wantedBy a_ring a_carried a_latest v_taped v_faultKind v_faultPlace v_x v_ordered v_sought_127 v_lastSought v_hMoved v_hWithout v_tMoved_128 (-1) v_places v_elsewhere v_sMany_129 v_bMany_130 v_year y_lies a_rsort a_rmany a_nums pl) H locs → lv_has ls 6 [(0, .ref (ad 0)), (1, .int p1), (2, .int x_116), (3, .int x_117), (4, .int x_118)] → W p l e rm_X0_winters s m args below meth c H locs 0 0 Q (F0 m 41 ls []) := by
      intro n
      induction n with
      | zero =>
        intro x_116 x_117 x_118 a_tAt_119 a_tMany_120 a_sKeys_121 a_sRow_122 a_sSlots_123 a_bKeys_124 a_bRow_125 a_bSlots_126 v_sought_127 v_tMoved_128 v_sMany_129 v_bMany_130 hN
        exact absurd hN loopN_zero
      | succ n ih =>
        intro x_116 x_117 x_118 a_tAt_119 a_tMany_120 a_sKeys_121 a_sRow_122 a_sSlots_123 a_bKeys_124 a_bRow_125 a_bSlots_126 v_sought_127 v_tMoved_128 v_sMany_129 v_bMany_130 hN rt_131 g_sort_132 g_size_133 g_from_134 g_to_135 g_level_136 g_full_137 H locs ls hH hl
        obtain ⟨yy41, hB41, hY41⟩ := loopN_succ hN
        have hF : FX0_winters_b41 t nb bv p1 x_116 x_117 x_118 a_tAt_119 a_tMany_120 a_sKeys_121 a_sRow_122 a_sSlots_123 a_bKeys_124 a_bRow_125 a_bSlots_126 v_sought_127 v_tMoved_128 v_sMany_129 v_bMany_130 = some yy41 := hB41
        delta FX0_winters_b41 at hF
        refine lv_iload hx hb dX0_winters_41 (lv_at hl 4 rfl) ?_
        refine lv_iload_n hx hb dX0_winters_43 rfl (lv_at hl 1 rfl) ?_
        refine lv_icmp_gt (tgt := 154) hx hb dX0_winters_44 rfl (fun c_138 => ?_) (fun c_138 => ?_)
        · have hF := itp c_138 hF
          obtain rfl := Option.some.inj hF
          exact k41_1 x_116 a_tAt_119 a_tMany_120 a_sKeys_121 a_sRow_122 a_sSlots_123 a_bKeys_124 a_bRow_125 a_bSlots_126 v_sought_127 v_tMoved_128 v_sMany_129 v_bMany_130 hY41 _ _ _ _ _ _ _ _ _ _ hH (lv_sub hl [2] rfl)
        · have hF := itn c_138 hF
          refine lv_iload_n hx hb dX0_winters_47 rfl (lv_at hl 3 rfl) ?_
          refine lv_if_eq (tgt := 154) hx hb dX0_winters_48 rfl (fun c_139 => ?_) (fun c_139 => ?_)
          · have hF := itp c_139 hF
            obtain rfl := Option.some.inj hF
            exact k41_1 x_116 a_tAt_119 a_tMany_120 a_sKeys_121 a_sRow_122 a_sSlots_123 a_bKeys_124 a_bRow_125 a_bSlots_126 v_sought_127 v_tMoved_128 v_sMany_129 v_bMany_130 hY41 _ _ _ _ _ _ _ _ _ _ hH (lv_sub hl [2] rfl)
          · have hF := itn c_139 hF
            refine lv_aload_n hx hb dX0_winters_51 rfl (lv_at hl 0 rfl) ?_
            refine lv_aload_n hx hb dX0_winters_52 rfl (lv_at hl 0 rfl) ?_
            refine cg_Y_this_s hX hK hNW hH dX0_winters_53 ?_
            refine cg_Y_state_town hX hK hNW hH dX0_winters_56 ?_
            refine lv_aload_n hx hb dX0_winters_59 rfl (lv_at hl 0 rfl) ?_
            refine cg_Y_this_sought hX hK hNW hH dX0_winters_60 ?_
            refine lv_iconst (v := 0) hx hb dX0_winters_63 kyi_0 ?_
            obtain ⟨b_140, a_tAt_141, a_tMany_142, a_sKeys_143, a_sRow_144, a_sSlots_145, v_tMoved_146, v_sMany_147, he, hF⟩ := bd8e hF
            refine mxV hX hK hEv hE0 hH (met_X0_closes hE hPO hT he) (crecv hK hH 0 0 rfl rfl) gw_StoneYear_407 hd_yX0_closes ⟨Nat.le_of_ble_eq_true rfl, Nat.le_of_ble_eq_true rfl⟩ rfl rfl hl (Nat.le_of_ble_eq_true rfl) dX0_winters_64 ⟨Nat.le_of_ble_eq_true rfl, Nat.le_of_ble_eq_true rfl⟩ (fun w2 H locs hw hH => ?_)
            obtain ⟨rt_148, g_sort_149, g_size_150, g_from_151, g_to_152, g_level_153, g_full_154, rfl⟩ := hw
            refine lv_if_ne (tgt := 73) hx hb dX0_winters_67 rfl (fun c_155 => ?_) (fun c_155 => ?_)
            · have hF := itn c_155 hF
              refine lv_aload_n hx hb dX0_winters_73 rfl (lv_at hl 0 rfl) ?_
              refine lv_dup hx hb dX0_winters_74 rfl ?_
              refine cg_Y_this_sought hX hK hNW hH dX0_winters_75 ?_
              refine lv_aload_n hx hb dX0_winters_78 rfl (lv_at hl 0 rfl) ?_
              refine cg_Y_this_states hX hK hNW hH dX0_winters_79 ?_
              refine cg_Y_tabs_many hX hK hNW hH dX0_winters_82 ?_
              refine lv_iadd hx hb dX0_winters_85 ?_
              refine cp_Y_this_sought hX hK hNW hH dX0_winters_86 (fun H locs hH => ?_)
              refine lv_iconst (v := 0) hx hb dX0_winters_89 kyi_0 ?_
              refine lv_istore (lv' := [(5, .int 0), (0, .ref (ad 0)), (1, .int p1), (2, .int x_116), (3, .int x_117), (4, .int x_118)]) hx hb dX0_winters_90 hl (by decide) rfl (fun ls hl => ?_)
              obtain ⟨xx92, ee92, kk92_0⟩ := bd4L hF
              have k92_0 : ∀ (x_174 : Int32) (a_tAt_175 : Nat → Int32) (a_tMany_176 : Nat → Int32) (v_tMoved_177 : Int32), xx92 = (x_174, a_tAt_175, a_tMany_176, v_tMoved_177) → ∀ (rt_178 : Option Nat), ∀ (H : Heap) (locs : List Loc) (ls : Array Slot), MH D vwA A s.heap (cW ad cA sA ta ba na gi rh rt_178 g_sort_149 g_size_150 g_from_151 g_to_152 g_level_153 g_full_154 a_tape a_hAt a_hMany a_tAt_175 a_tMany_176 a_least a_place a_to a_order a_fails a_sKeys_143 a_sRow_144 a_sSlots_145 a_bKeys_124 a_bRow_125 a_bSlots_126 a_easy a_wants a_wantedBy a_ring a_carried a_latest v_taped v_faultKind v_faultPlace v_x v_ordered (v_sought_127 + v_sMany_147) v_lastSought v_hMoved v_hWithout v_tMoved_177 (-1) v_places v_elsewhere v_sMany_147 v_bMany_130 v_year y_lies a_rsort a_rmany a_nums pl) H locs → lv_has ls 6 [(0, .ref (ad 0)), (1, .int p1), (2, .int x_174), (4, .int x_118)] → W p l e rm_X0_winters s m args below meth c H locs 0 0 Q (F0 m 143 ls []) := by
                intro x_174 a_tAt_175 a_tMany_176 v_tMoved_177 hxx rt_178 H locs ls hH hl
                have hF := un4e (kk92_0 (x_174, a_tAt_175, a_tMany_176, v_tMoved_177) hxx)
                refine lv_aload_n hx hb dX0_winters_143 rfl (lv_at hl 0 rfl) ?_
                obtain ⟨b_179, a_sKeys_180, a_sRow_181, a_sSlots_182, a_bKeys_183, a_bRow_184, a_bSlots_185, v_sMany_186, v_bMany_187, he, hF⟩ := bd9e hF
                refine mxV hX hK hEv hE0 hH (met_X0_begins hE hPO he) (crecv hK hH 0 0 rfl rfl) gw_StoneYear_415 hd_yX0_begins ⟨Nat.le_of_ble_eq_true rfl, Nat.le_of_ble_eq_true rfl⟩ rfl rfl hl (Nat.le_of_ble_eq_true rfl) dX0_winters_144 ⟨Nat.le_of_ble_eq_true rfl, Nat.le_of_ble_eq_true rfl⟩ (fun w2 H locs hw hH => ?_)
                subst hw
                refine lv_istore_n (lv' := [(3, .int (b2i b_179)), (0, .ref (ad 0)), (1, .int p1), (2, .int x_174), (4, .int x_118)]) hx hb dX0_winters_147 rfl hl (by decide) rfl (fun ls hl => ?_)
                refine lv_iinc (v := (x_118 + 1)) (lv' := [(4, .int (x_118 + 1)), (3, .int (b2i b_179)), (0, .ref (ad 0)), (1, .int p1), (2, .int x_174)]) hx hb dX0_winters_148 hl (k := 4) rfl (syc kyi_1) (by decide) rfl (fun ls hl => ?_)
                refine lv_goto (tgt := 41) hx hb dX0_winters_151 rfl ?_
                obtain rfl := Option.some.inj hF
                exact ih x_174 (b2i b_179) (x_118 + 1) a_tAt_175 a_tMany_176 a_sKeys_180 a_sRow_181 a_sSlots_182 a_bKeys_183 a_bRow_184 a_bSlots_185 (v_sought_127 + v_sMany_147) v_tMoved_177 v_sMany_186 v_bMany_187 hY41 _ _ _ _ _ _ _ _ _ _ hH (lv_sub hl [2, 3, 4, 1, 0] rfl)
              obtain ⟨nn92, en92⟩ := loopC_some ee92
              have l92 : ∀ (n : Nat) (x_162 : Int32) (x_163 : Int32) (a_tAt_164 : Nat → Int32) (a_tMany_165 : Nat → Int32) (v_tMoved_166 : Int32), loopN (fun s => FX0_winters_b92 t a_sRow_144 v_sMany_147 s.1 s.2.1 s.2.2.1 s.2.2.2.1 s.2.2.2.2) n (x_162, x_163, a_tAt_164, a_tMany_165, v_tMoved_166) = some xx92 → ∀ (rt_167 : Option Nat), ∀ (H : Heap) (locs : List Loc) (ls : Array Slot), MH D vwA A s.heap (cW ad cA sA ta ba na gi rh rt_167 g_sort_149 g_size_150 g_from_151 g_to_152 g_level_153 g_full_154 a_tape a_hAt a_hMany a_tAt_164 a_tMany_165 a_least a_place a_to a_order a_fails a_sKeys_143 a_sRow_144 a_sSlots_145 a_bKeys_124 a_bRow_125 a_bSlots_126 a_easy a_wants a_wantedBy a_ring a_carried a_latest v_taped v_faultKind v_faultPlace v_x v_ordered (v_sought_127 + v_sMany_147) v_lastSought v_hMoved v_hWithout v_tMoved_166 (-1) v_places v_elsewhere v_sMany_147 v_bMany_130 v_year y_lies a_rsort a_rmany a_nums pl) H locs → lv_has ls 6 [(0, .ref (ad 0)), (1, .int p1), (2, .int x_162), (4, .int x_118), (5, .int x_163)] → W p l e rm_X0_winters s m args below meth c H locs 0 0 Q (F0 m 92 ls []) := by
                intro n
                induction n with
                | zero =>
                  intro x_162 x_163 a_tAt_164 a_tMany_165 v_tMoved_166 hN
                  exact absurd hN loopN_zero
                | succ n ih =>
                  intro x_162 x_163 a_tAt_164 a_tMany_165 v_tMoved_166 hN rt_167 H locs ls hH hl
                  obtain ⟨yy92, hB92, hY92⟩ := loopN_succ hN
                  have hF : FX0_winters_b92 t a_sRow_144 v_sMany_147 x_162 x_163 a_tAt_164 a_tMany_165 v_tMoved_166 = some yy92 := hB92
                  delta FX0_winters_b92 at hF
                  refine lv_iload hx hb dX0_winters_92 (lv_at hl 4 rfl) ?_
                  refine lv_aload_n hx hb dX0_winters_94 rfl (lv_at hl 0 rfl) ?_
                  refine cg_Y_this_states hX hK hNW hH dX0_winters_95 ?_
                  refine cg_Y_tabs_many hX hK hNW hH dX0_winters_98 ?_
                  refine lv_icmp_ge (tgt := 143) hx hb dX0_winters_101 rfl (fun c_168 => ?_) (fun c_168 => ?_)
                  · have hF := itp c_168 hF
                    obtain rfl := Option.some.inj hF
                    exact k92_0 x_162 a_tAt_164 a_tMany_165 v_tMoved_166 hY92 _ _ _ _ hH (lv_sub hl [0, 1, 2, 3] rfl)
                  · have hF := itn c_168 hF
                    refine lv_iload_n hx hb dX0_winters_104 rfl (lv_at hl 2 rfl) ?_
                    refine lv_aload_n hx hb dX0_winters_105 rfl (lv_at hl 0 rfl) ?_
                    refine cg_Y_this_trial hX hK hNW hH dX0_winters_106 ?_
                    refine lv_aload_n hx hb dX0_winters_109 rfl (lv_at hl 0 rfl) ?_
                    refine cg_Y_this_s hX hK hNW hH dX0_winters_110 ?_
                    refine cg_Y_state_town hX hK hNW hH dX0_winters_113 ?_
                    refine lv_aload_n hx hb dX0_winters_116 rfl (lv_at hl 0 rfl) ?_
                    refine cg_Y_this_states hX hK hNW hH dX0_winters_117 ?_
                    refine cg_Y_tabs_row hX hK hNW hH dX0_winters_120 ?_
                    refine lv_iload hx hb dX0_winters_123 (lv_at hl 4 rfl) ?_
                    obtain ⟨y_169, he, hF⟩ := bd1e hF
                    refine cl_sRow hX hK hH he dX0_winters_125 ?_
                    obtain ⟨a_tAt_170, a_tMany_171, v_tMoved_172, he, hF⟩ := bd3e hF
                    refine mxV hX hK hEv hE0 hH (met_X4_lays_t hE hPO hT he) (crecv hK hH 7 4 rfl rfl) gw_StoneYear_151 hd_yX4_lays ⟨Nat.le_of_ble_eq_true rfl, Nat.le_of_ble_eq_true rfl⟩ rfl rfl hl (Nat.le_of_ble_eq_true rfl) dX0_winters_126 ⟨Nat.le_of_ble_eq_true rfl, Nat.le_of_ble_eq_true rfl⟩ (fun w2 H locs hw hH => ?_)
                    subst hw
                    refine lv_iconst (v := (-1)) hx hb dX0_winters_129 kyi_m1 ?_
                    obtain ⟨x_173, he, hF⟩ := bd1e hF
                    refine mxV hX hK hEv hE0 hH (met_X4_right_t hE hPO hT he) (crecv hK hH 7 4 rfl rfl) gw_StoneYear_292 hd_yX4_right ⟨Nat.le_of_ble_eq_true rfl, Nat.le_of_ble_eq_true rfl⟩ rfl rfl hl (Nat.le_of_ble_eq_true rfl) dX0_winters_130 ⟨Nat.le_of_ble_eq_true rfl, Nat.le_of_ble_eq_true rfl⟩ (fun w2 H locs hw hH => ?_)
                    subst hw
                    refine cm_max hX hl (hts _ q1367) dX0_winters_133 (Nat.le_of_ble_eq_true rfl) (Nat.le_of_ble_eq_true rfl) (Nat.le_of_ble_eq_true rfl) (Nat.le_of_ble_eq_true rfl) ?_
                    refine lv_istore_n (lv' := [(2, .int (mxI x_162 x_173)), (0, .ref (ad 0)), (1, .int p1), (4, .int x_118), (5, .int x_163)]) hx hb dX0_winters_136 rfl hl (by decide) rfl (fun ls hl => ?_)
                    refine lv_iinc (v := (x_163 + 1)) (lv' := [(5, .int (x_163 + 1)), (2, .int (mxI x_162 x_173)), (0, .ref (ad 0)), (1, .int p1), (4, .int x_118)]) hx hb dX0_winters_137 hl (k := 4) rfl (syc kyi_1) (by decide) rfl (fun ls hl => ?_)
                    refine lv_goto (tgt := 92) hx hb dX0_winters_140 rfl ?_
                    obtain rfl := Option.some.inj hF
                    exact ih (mxI x_162 x_173) (x_163 + 1) a_tAt_170 a_tMany_171 v_tMoved_172 hY92 _ _ _ _ hH (lv_sub hl [2, 3, 1, 4, 0] rfl)
              exact l92 nn92 x_116 0 a_tAt_141 a_tMany_142 v_tMoved_146 en92 _ _ _ _ hH (lv_sub hl [1, 2, 3, 5, 0] rfl)
            · have hF := itp c_155 hF
              obtain rfl := Option.some.inj hF
              exact k41_0 a_tAt_141 a_tMany_142 a_sKeys_143 a_sRow_144 a_sSlots_145 a_bKeys_124 a_bRow_125 a_bSlots_126 v_sought_127 v_tMoved_146 v_sMany_147 v_bMany_130 hY41 _ _ _ _ _ _ _ _ _ _ hH (lv_sub hl [] rfl)
    exact l41 nn41 0 1 1 a_tAt a_tMany a_sKeys_57 a_sRow_58 a_sSlots_59 a_bKeys_60 a_bRow_61 a_bSlots_62 v_sought_63 v_tMoved v_sMany_64 v_bMany_65 en41 _ _ _ _ _ _ _ _ _ _ hH (lv_sub hl [3, 4, 2, 1, 0] rfl)
  · have hF := itp c_56 hF
    refine lv_bipush (v := (-3)) hx hb dX0_winters_12 kyb_m3 ?_
    obtain ⟨rfl, rfl, rfl, rfl, rfl, rfl, rfl, rfl, rfl, rfl, rfl, rfl, rfl, rfl⟩ := re14 hF
    exact hret _ _ _ _ _ ⟨_, _, _, _, _, _, _, rfl⟩ hH dX0_winters_14
abbrev rm_X0_canBe : Room := { frames := 263, cells := 0, slots := 0, locals := 6075 }
set_option maxHeartbeats 4000000 in
theorem met_X0_canBe {l : Launch} {D : va_G} {ad : Nat → Nat} {cA : Nat → ClassId} {sA ta ba na : Nat → Nat} {gi : Nat → Option Nat} {rh : Option Nat} {rt : Option Nat} {g_sort : Int32} {g_size : Int32} {g_from : Int32} {g_to : Int32} {g_level : Int32} {g_full : Int32} {a_tape : Nat → Int32} {a_hAt : Nat → Int32} {a_hMany : Nat → Int32} {a_tAt : Nat → Int32} {a_tMany : Nat → Int32} {a_least : Nat → Int32} {a_place : Nat → Int32} {a_to : Nat → Int32} {a_order : Nat → Int32} {a_fails : Nat → Int32} {a_sKeys : Nat → Int64} {a_sRow : Nat → Int64} {a_sSlots : Nat → Int32} {a_bKeys : Nat → Int64} {a_bRow : Nat → Int64} {a_bSlots : Nat → Int32} {a_easy : Nat → Int32} {a_wants : Nat → Int32} {a_wantedBy : Nat → Int32} {a_ring : Nat → Int32} {a_carried : Nat → Int32} {a_latest : Nat → Int32} {v_taped : Int32} {v_faultKind : Int32} {v_faultPlace : Int32} {v_x : Int32} {v_ordered : Int32} {v_sought : Int32} {v_lastSought : Int32} {v_hMoved : Int32} {v_hWithout : Int32} {v_tMoved : Int32} {v_tWithout : Int32} {v_places : Int32} {v_elsewhere : Int32} {v_sMany : Int32} {v_bMany : Int32} {v_year : Int32} {y_lies : Int64} {a_rsort : Nat → Int32} {a_rmany : Nat → Int32} {a_nums : Nat → Nat → Int64} {t : Nat → Int32} {nb : Int32} {bv : Nat → Int32 → Int32 → Int32 → Int32 → Int32 → Int32 → Bool} {pl : va_W}  {p1 : Int32} {res : Int32} {ra_tAt : Nat → Int32} {ra_tMany : Nat → Int32} {ra_sKeys : Nat → Int64} {ra_sRow : Nat → Int64} {ra_sSlots : Nat → Int32} {ra_bKeys : Nat → Int64} {ra_bRow : Nat → Int64} {ra_bSlots : Nat → Int32} {rv_sought : Int32} {rv_tMoved : Int32} {rv_tWithout : Int32} {rv_sMany : Int32} {rv_bMany : Int32} {E : EvT} (hE : EvN E) (hPO : PO cA pl ta ba t nb bv) (hF : FX0_canBe a_tAt a_tMany a_sKeys a_sRow a_sSlots a_bKeys a_bRow a_bSlots v_tMoved v_sMany v_bMany y_lies t nb bv p1 = some (res, ra_tAt, ra_tMany, ra_sKeys, ra_sRow, ra_sSlots, ra_bKeys, ra_bRow, ra_bSlots, rv_sought, rv_tMoved, rv_tWithout, rv_sMany, rv_bMany)) : MX l yX0_canBe (ws_ yX0_canBe cX0_canBe 2 (Option.some Jvm.ClassFile.FieldType.int)) rm_X0_canBe D vwA (cT cA) E [.ref (ad 0), .int p1] (cW ad cA sA ta ba na gi rh rt g_sort g_size g_from g_to g_level g_full a_tape a_hAt a_hMany a_tAt a_tMany a_least a_place a_to a_order a_fails a_sKeys a_sRow a_sSlots a_bKeys a_bRow a_bSlots a_easy a_wants a_wantedBy a_ring a_carried a_latest v_taped v_faultKind v_faultPlace v_x v_ordered v_sought v_lastSought v_hMoved v_hWithout v_tMoved v_tWithout v_places v_elsewhere v_sMany v_bMany v_year y_lies a_rsort a_rmany a_nums pl) (fun z => ∃ rt' : Option Nat, ∃ g_sort' : Int32, ∃ g_size' : Int32, ∃ g_from' : Int32, ∃ g_to' : Int32, ∃ g_level' : Int32, ∃ g_full' : Int32, z = (cW ad cA sA ta ba na gi rh rt' g_sort' g_size' g_from' g_to' g_level' g_full' a_tape a_hAt a_hMany ra_tAt ra_tMany a_least a_place a_to a_order a_fails ra_sKeys ra_sRow ra_sSlots ra_bKeys ra_bRow ra_bSlots a_easy a_wants a_wantedBy a_ring a_carried a_latest v_taped v_faultKind v_faultPlace v_x v_ordered rv_sought v_lastSought v_hMoved v_hWithout rv_tMoved rv_tWithout v_places v_elsewhere rv_sMany rv_bMany v_year y_lies a_rsort a_rmany a_nums pl)) (some (.int res)) := by
  refine MX.ofI (by decide) (Nat.le_of_ble_eq_true rfl) ?_
  intro p e s m args below meth c Q A hX hK hE0 hname hret H locs ls hH hl
  have hX : CallFix p m c cX0_canBe 2 s args lw_all RX0 := hX
  have hx := hX.1
  have hb := hX.2.1
  have hown := hX.2.2.2.1
  have hts := hX.2.2.2.2
  have hl : lv_has ls 2 [(0, .ref (ad 0)), (1, .int p1)] := hl
  have hEv := hE.1
  have hNW := hE.2.1 _ _ _ hE0
  have hT := hPO.1
  have hB := hPO.2
  delta FX0_canBe at hF
  refine lv_aload_n hx hb dX0_canBe_0 rfl (lv_at hl 0 rfl) ?_
  refine cg_Y_this_trial hX hK hNW hH dX0_canBe_1 ?_
  refine lv_iconst (v := (-1)) hx hb dX0_canBe_4 kyi_m1 ?_
  refine cp_Y_stkt_without hX hK hNW hH dX0_canBe_5 (fun H locs hH => ?_)
  refine lv_aload_n hx hb dX0_canBe_8 rfl (lv_at hl 0 rfl) ?_
  refine lv_aload_n hx hb dX0_canBe_9 rfl (lv_at hl 0 rfl) ?_
  refine cg_Y_this_s hX hK hNW hH dX0_canBe_10 ?_
  refine cg_Y_state_lies hX hK hNW hH dX0_canBe_13 ?_
  obtain ⟨y_55, he, hF⟩ := bd1e hF
  refine mxS hX hK hEv hE0 hH (met_X0_resting hE hPO he) gw_StoneYear_255 hd_yX0_resting ⟨Nat.le_of_ble_eq_true rfl, Nat.le_of_ble_eq_true rfl⟩ rfl rfl hl (Nat.le_of_ble_eq_true rfl) dX0_canBe_16 ⟨Nat.le_of_ble_eq_true rfl, Nat.le_of_ble_eq_true rfl⟩ (fun w2 H locs hw hH => ?_)
  subst hw
  obtain ⟨a_sKeys_56, a_sRow_57, a_sSlots_58, a_bKeys_59, a_bRow_60, a_bSlots_61, v_sought_62, v_sMany_63, v_bMany_64, he, hF⟩ := bd9e hF
  refine mxV hX hK hEv hE0 hH (met_X0_opens hE hPO he) (crecv hK hH 0 0 rfl rfl) gw_StoneYear_403 hd_yX0_opens ⟨Nat.le_of_ble_eq_true rfl, Nat.le_of_ble_eq_true rfl⟩ rfl rfl hl (Nat.le_of_ble_eq_true rfl) dX0_canBe_19 ⟨Nat.le_of_ble_eq_true rfl, Nat.le_of_ble_eq_true rfl⟩ (fun w2 H locs hw hH => ?_)
  subst hw
  refine lv_aload_n hx hb dX0_canBe_22 rfl (lv_at hl 0 rfl) ?_
  refine lv_aload_n hx hb dX0_canBe_23 rfl (lv_at hl 0 rfl) ?_
  refine cg_Y_this_s hX hK hNW hH dX0_canBe_24 ?_
  refine cg_Y_state_town hX hK hNW hH dX0_canBe_27 ?_
  refine lv_iconst (v := 0) hx hb dX0_canBe_30 kyi_0 ?_
  refine lv_iconst (v := 1) hx hb dX0_canBe_31 kyi_1 ?_
  obtain ⟨b_65, a_tAt_66, a_tMany_67, a_sKeys_68, a_sRow_69, a_sSlots_70, v_tMoved_71, v_sMany_72, he, hF⟩ := bd8e hF
  refine mxV hX hK hEv hE0 hH (met_X0_closes hE hPO hT he) (crecv hK hH 0 0 rfl rfl) gw_StoneYear_407 hd_yX0_closes ⟨Nat.le_of_ble_eq_true rfl, Nat.le_of_ble_eq_true rfl⟩ rfl rfl hl (Nat.le_of_ble_eq_true rfl) dX0_canBe_32 ⟨Nat.le_of_ble_eq_true rfl, Nat.le_of_ble_eq_true rfl⟩ (fun w2 H locs hw hH => ?_)
  obtain ⟨rt_73, g_sort_74, g_size_75, g_from_76, g_to_77, g_level_78, g_full_79, rfl⟩ := hw
  refine lv_if_ne (tgt := 41) hx hb dX0_canBe_35 rfl (fun c_80 => ?_) (fun c_80 => ?_)
  · have hF := itn c_80 hF
    refine lv_aload_n hx hb dX0_canBe_41 rfl (lv_at hl 0 rfl) ?_
    refine lv_aload_n hx hb dX0_canBe_42 rfl (lv_at hl 0 rfl) ?_
    refine cg_Y_this_s hX hK hNW hH dX0_canBe_43 ?_
    refine cg_Y_state_town hX hK hNW hH dX0_canBe_46 ?_
    refine lv_iload_n hx hb dX0_canBe_49 rfl (lv_at hl 1 rfl) ?_
    obtain ⟨b_81, a_tAt_82, a_tMany_83, v_tMoved_84, he, hF⟩ := bd4e hF
    refine mxV hX hK hEv hE0 hH (met_X0_isAnyDone hE hPO hT he) (crecv hK hH 0 0 rfl rfl) gw_StoneYear_411 hd_yX0_isAnyDone ⟨Nat.le_of_ble_eq_true rfl, Nat.le_of_ble_eq_true rfl⟩ rfl rfl hl (Nat.le_of_ble_eq_true rfl) dX0_canBe_50 ⟨Nat.le_of_ble_eq_true rfl, Nat.le_of_ble_eq_true rfl⟩ (fun w2 H locs hw hH => ?_)
    obtain ⟨rt_85, rfl⟩ := hw
    refine lv_if_eq (tgt := 60) hx hb dX0_canBe_53 rfl (fun c_86 => ?_) (fun c_86 => ?_)
    · have hF := itp c_86 hF
      refine lv_iconst (v := 0) hx hb dX0_canBe_60 kyi_0 ?_
      obtain ⟨rfl, rfl, rfl, rfl, rfl, rfl, rfl, rfl, rfl, rfl, rfl, rfl, rfl, rfl⟩ := re14 hF
      exact hret _ _ _ _ _ ⟨_, _, _, _, _, _, _, rfl⟩ hH dX0_canBe_61
    · have hF := itn c_86 hF
      refine lv_iconst (v := 1) hx hb dX0_canBe_56 kyi_1 ?_
      refine lv_goto (tgt := 61) hx hb dX0_canBe_57 rfl ?_
      obtain ⟨rfl, rfl, rfl, rfl, rfl, rfl, rfl, rfl, rfl, rfl, rfl, rfl, rfl, rfl⟩ := re14 hF
      exact hret _ _ _ _ _ ⟨_, _, _, _, _, _, _, rfl⟩ hH dX0_canBe_61
  · have hF := itp c_80 hF
    refine lv_bipush (v := (-4)) hx hb dX0_canBe_38 kyb_m4 ?_
    obtain ⟨rfl, rfl, rfl, rfl, rfl, rfl, rfl, rfl, rfl, rfl, rfl, rfl, rfl, rfl⟩ := re14 hF
    exact hret _ _ _ _ _ ⟨_, _, _, _, _, _, _, rfl⟩ hH dX0_canBe_40
abbrev rm_X0_can : Room := { frames := 264, cells := 0, slots := 0, locals := 6096 }
set_option maxHeartbeats 4000000 in
theorem met_X0_can {l : Launch} {D : va_G} {ad : Nat → Nat} {cA : Nat → ClassId} {sA ta ba na : Nat → Nat} {gi : Nat → Option Nat} {rh : Option Nat} {rt : Option Nat} {g_sort : Int32} {g_size : Int32} {g_from : Int32} {g_to : Int32} {g_level : Int32} {g_full : Int32} {a_tape : Nat → Int32} {a_hAt : Nat → Int32} {a_hMany : Nat → Int32} {a_tAt : Nat → Int32} {a_tMany : Nat → Int32} {a_least : Nat → Int32} {a_place : Nat → Int32} {a_to : Nat → Int32} {a_order : Nat → Int32} {a_fails : Nat → Int32} {a_sKeys : Nat → Int64} {a_sRow : Nat → Int64} {a_sSlots : Nat → Int32} {a_bKeys : Nat → Int64} {a_bRow : Nat → Int64} {a_bSlots : Nat → Int32} {a_easy : Nat → Int32} {a_wants : Nat → Int32} {a_wantedBy : Nat → Int32} {a_ring : Nat → Int32} {a_carried : Nat → Int32} {a_latest : Nat → Int32} {v_taped : Int32} {v_faultKind : Int32} {v_faultPlace : Int32} {v_x : Int32} {v_ordered : Int32} {v_sought : Int32} {v_lastSought : Int32} {v_hMoved : Int32} {v_hWithout : Int32} {v_tMoved : Int32} {v_tWithout : Int32} {v_places : Int32} {v_elsewhere : Int32} {v_sMany : Int32} {v_bMany : Int32} {v_year : Int32} {y_lies : Int64} {a_rsort : Nat → Int32} {a_rmany : Nat → Int32} {a_nums : Nat → Nat → Int64} {t : Nat → Int32} {nb : Int32} {bv : Nat → Int32 → Int32 → Int32 → Int32 → Int32 → Int32 → Bool} {pl : va_W}  {p1 : Int32} {res : Int32} {ra_tAt : Nat → Int32} {ra_tMany : Nat → Int32} {ra_sKeys : Nat → Int64} {ra_sRow : Nat → Int64} {ra_sSlots : Nat → Int32} {ra_bKeys : Nat → Int64} {ra_bRow : Nat → Int64} {ra_bSlots : Nat → Int32} {rv_sought : Int32} {rv_tMoved : Int32} {rv_tWithout : Int32} {rv_sMany : Int32} {rv_bMany : Int32} {E : EvT} (hE : EvN E) (hPO : PO cA pl ta ba t nb bv) (hF : FX0_can a_tAt a_tMany a_sKeys a_sRow a_sSlots a_bKeys a_bRow a_bSlots v_sought v_tMoved v_tWithout v_sMany v_bMany y_lies t nb bv p1 = some (res, ra_tAt, ra_tMany, ra_sKeys, ra_sRow, ra_sSlots, ra_bKeys, ra_bRow, ra_bSlots, rv_sought, rv_tMoved, rv_tWithout, rv_sMany, rv_bMany)) : MX l yX0_can (ws_ yX0_can cX0_can 2 (Option.some Jvm.ClassFile.FieldType.int)) rm_X0_can D vwA (cT cA) E [.ref (ad 0), .int p1] (cW ad cA sA ta ba na gi rh rt g_sort g_size g_from g_to g_level g_full a_tape a_hAt a_hMany a_tAt a_tMany a_least a_place a_to a_order a_fails a_sKeys a_sRow a_sSlots a_bKeys a_bRow a_bSlots a_easy a_wants a_wantedBy a_ring a_carried a_latest v_taped v_faultKind v_faultPlace v_x v_ordered v_sought v_lastSought v_hMoved v_hWithout v_tMoved v_tWithout v_places v_elsewhere v_sMany v_bMany v_year y_lies a_rsort a_rmany a_nums pl) (fun z => ∃ rt' : Option Nat, ∃ g_sort' : Int32, ∃ g_size' : Int32, ∃ g_from' : Int32, ∃ g_to' : Int32, ∃ g_level' : Int32, ∃ g_full' : Int32, z = (cW ad cA sA ta ba na gi rh rt' g_sort' g_size' g_from' g_to' g_level' g_full' a_tape a_hAt a_hMany ra_tAt ra_tMany a_least a_place a_to a_order a_fails ra_sKeys ra_sRow ra_sSlots ra_bKeys ra_bRow ra_bSlots a_easy a_wants a_wantedBy a_ring a_carried a_latest v_taped v_faultKind v_faultPlace v_x v_ordered rv_sought v_lastSought v_hMoved v_hWithout rv_tMoved rv_tWithout v_places v_elsewhere rv_sMany rv_bMany v_year y_lies a_rsort a_rmany a_nums pl)) (some (.int res)) := by
  refine MX.ofI (by decide) (Nat.le_of_ble_eq_true rfl) ?_
  intro p e s m args below meth c Q A hX hK hE0 hname hret H locs ls hH hl
  have hX : CallFix p m c cX0_can 2 s args lw_all RX0 := hX
  have hx := hX.1
  have hb := hX.2.1
  have hown := hX.2.2.2.1
  have hts := hX.2.2.2.2
  have hl : lv_has ls 2 [(0, .ref (ad 0)), (1, .int p1)] := hl
  have hEv := hE.1
  have hNW := hE.2.1 _ _ _ hE0
  have hT := hPO.1
  have hB := hPO.2
  delta FX0_can at hF
  refine lv_iload_n hx hb dX0_can_0 rfl (lv_at hl 1 rfl) ?_
  obtain ⟨b_55, he, hF⟩ := bd1e hF
  refine mxS hX hK hEv hE0 hH (met_X0_isWho hE hPO he) gw_StoneYear_286 hd_yX0_isWho ⟨Nat.le_of_ble_eq_true rfl, Nat.le_of_ble_eq_true rfl⟩ rfl rfl hl (Nat.le_of_ble_eq_true rfl) dX0_can_1 ⟨Nat.le_of_ble_eq_true rfl, Nat.le_of_ble_eq_true rfl⟩ (fun w2 H locs hw hH => ?_)
  subst hw
  refine lv_if_eq (tgt := 15) hx hb dX0_can_4 rfl (fun c_56 => ?_) (fun c_56 => ?_)
  · have hF := itp c_56 hF
    refine lv_bipush (v := (-2)) hx hb dX0_can_15 kyb_m2 ?_
    obtain ⟨rfl, rfl, rfl, rfl, rfl, rfl, rfl, rfl, rfl, rfl, rfl, rfl, rfl, rfl⟩ := re14 hF
    exact hret _ _ _ _ _ ⟨_, _, _, _, _, _, _, rfl⟩ hH dX0_can_17
  · have hF := itn c_56 hF
    refine lv_aload_n hx hb dX0_can_7 rfl (lv_at hl 0 rfl) ?_
    refine lv_iload_n hx hb dX0_can_8 rfl (lv_at hl 1 rfl) ?_
    obtain ⟨x_57, a_tAt_58, a_tMany_59, a_sKeys_60, a_sRow_61, a_sSlots_62, a_bKeys_63, a_bRow_64, a_bSlots_65, v_sought_66, v_tMoved_67, v_tWithout_68, v_sMany_69, v_bMany_70, he, hF⟩ := bd14e hF
    refine mxV hX hK hEv hE0 hH (met_X0_canBe hE hPO he) (crecv hK hH 0 0 rfl rfl) gw_StoneYear_433 hd_yX0_canBe ⟨Nat.le_of_ble_eq_true rfl, Nat.le_of_ble_eq_true rfl⟩ rfl rfl hl (Nat.le_of_ble_eq_true rfl) dX0_can_9 ⟨Nat.le_of_ble_eq_true rfl, Nat.le_of_ble_eq_true rfl⟩ (fun w2 H locs hw hH => ?_)
    obtain ⟨rt_71, g_sort_72, g_size_73, g_from_74, g_to_75, g_level_76, g_full_77, rfl⟩ := hw
    refine lv_goto (tgt := 17) hx hb dX0_can_12 rfl ?_
    obtain ⟨rfl, rfl, rfl, rfl, rfl, rfl, rfl, rfl, rfl, rfl, rfl, rfl, rfl, rfl⟩ := re14 hF
    exact hret _ _ _ _ _ ⟨_, _, _, _, _, _, _, rfl⟩ hH dX0_can_17
abbrev rm_X0_isAgainst : Room := { frames := 4, cells := 0, slots := 0, locals := 141 }
set_option maxHeartbeats 4000000 in
theorem met_X0_isAgainst {l : Launch} {D : va_G} {ad : Nat → Nat} {cA : Nat → ClassId} {sA ta ba na : Nat → Nat} {gi : Nat → Option Nat} {rh : Option Nat} {rt : Option Nat} {g_sort : Int32} {g_size : Int32} {g_from : Int32} {g_to : Int32} {g_level : Int32} {g_full : Int32} {a_tape : Nat → Int32} {a_hAt : Nat → Int32} {a_hMany : Nat → Int32} {a_tAt : Nat → Int32} {a_tMany : Nat → Int32} {a_least : Nat → Int32} {a_place : Nat → Int32} {a_to : Nat → Int32} {a_order : Nat → Int32} {a_fails : Nat → Int32} {a_sKeys : Nat → Int64} {a_sRow : Nat → Int64} {a_sSlots : Nat → Int32} {a_bKeys : Nat → Int64} {a_bRow : Nat → Int64} {a_bSlots : Nat → Int32} {a_easy : Nat → Int32} {a_wants : Nat → Int32} {a_wantedBy : Nat → Int32} {a_ring : Nat → Int32} {a_carried : Nat → Int32} {a_latest : Nat → Int32} {v_taped : Int32} {v_faultKind : Int32} {v_faultPlace : Int32} {v_x : Int32} {v_ordered : Int32} {v_sought : Int32} {v_lastSought : Int32} {v_hMoved : Int32} {v_hWithout : Int32} {v_tMoved : Int32} {v_tWithout : Int32} {v_places : Int32} {v_elsewhere : Int32} {v_sMany : Int32} {v_bMany : Int32} {v_year : Int32} {y_lies : Int64} {a_rsort : Nat → Int32} {a_rmany : Nat → Int32} {a_nums : Nat → Nat → Int64} {t : Nat → Int32} {nb : Int32} {bv : Nat → Int32 → Int32 → Int32 → Int32 → Int32 → Int32 → Bool} {pl : va_W}  {p1 : Int32} {res : Bool} {E : EvT} (hE : EvN E) (hPO : PO cA pl ta ba t nb bv) (hF : FX0_isAgainst t p1 = some res) : MX l yX0_isAgainst (ws_ yX0_isAgainst cX0_isAgainst 5 (Option.some Jvm.ClassFile.FieldType.boolean)) rm_X0_isAgainst D vwA (cT cA) E [.ref (ad 0), .int p1] (cW ad cA sA ta ba na gi rh rt g_sort g_size g_from g_to g_level g_full a_tape a_hAt a_hMany a_tAt a_tMany a_least a_place a_to a_order a_fails a_sKeys a_sRow a_sSlots a_bKeys a_bRow a_bSlots a_easy a_wants a_wantedBy a_ring a_carried a_latest v_taped v_faultKind v_faultPlace v_x v_ordered v_sought v_lastSought v_hMoved v_hWithout v_tMoved v_tWithout v_places v_elsewhere v_sMany v_bMany v_year y_lies a_rsort a_rmany a_nums pl) (fun z => z = (cW ad cA sA ta ba na gi rh rt g_sort g_size g_from g_to g_level g_full a_tape a_hAt a_hMany a_tAt a_tMany a_least a_place a_to a_order a_fails a_sKeys a_sRow a_sSlots a_bKeys a_bRow a_bSlots a_easy a_wants a_wantedBy a_ring a_carried a_latest v_taped v_faultKind v_faultPlace v_x v_ordered v_sought v_lastSought v_hMoved v_hWithout v_tMoved v_tWithout v_places v_elsewhere v_sMany v_bMany v_year y_lies a_rsort a_rmany a_nums pl)) (some (.int (b2i res))) := by
  refine MX.ofZ (by decide) (Nat.le_of_ble_eq_true rfl) ?_
  intro p e s m args below meth c Q A hX hK hE0 hname hret H locs ls hH hl
  have hX : CallFix p m c cX0_isAgainst 5 s args lw_all RX0 := hX
  have hx := hX.1
  have hb := hX.2.1
  have hown := hX.2.2.2.1
  have hts := hX.2.2.2.2
  have hl : lv_has ls 5 [(0, .ref (ad 0)), (1, .int p1)] := hl
  have hEv := hE.1
  have hNW := hE.2.1 _ _ _ hE0
  have hT := hPO.1
  have hB := hPO.2
  delta FX0_isAgainst at hF
  refine lv_iconst (v := 0) hx hb dX0_isAgainst_0 kyi_0 ?_
  refine lv_istore_n (lv' := [(2, .int 0), (0, .ref (ad 0)), (1, .int p1)]) hx hb dX0_isAgainst_1 rfl hl (by decide) rfl (fun ls hl => ?_)
  obtain ⟨xx2, ee2, kk2_0, kk2_1⟩ := bdS2e hF
  have k2_0 : xx2 = (.inl ()) → ∀ (H : Heap) (locs : List Loc) (ls : Array Slot), MH D vwA A s.heap (cW ad cA sA ta ba na gi rh rt g_sort g_size g_from g_to g_level g_full a_tape a_hAt a_hMany a_tAt a_tMany a_least a_place a_to a_order a_fails a_sKeys a_sRow a_sSlots a_bKeys a_bRow a_bSlots a_easy a_wants a_wantedBy a_ring a_carried a_latest v_taped v_faultKind v_faultPlace v_x v_ordered v_sought v_lastSought v_hMoved v_hWithout v_tMoved v_tWithout v_places v_elsewhere v_sMany v_bMany v_year y_lies a_rsort a_rmany a_nums pl) H locs → lv_has ls 5 [] → W p l e rm_X0_isAgainst s m args below meth c H locs 0 0 Q (F0 m 80 ls []) := by
    intro hxx H locs ls hH hl
    have hF := un0e (kk2_0 () hxx)
    refine lv_iconst (v := 1) hx hb dX0_isAgainst_80 kyi_1 ?_
    obtain rfl := Option.some.inj hF
    exact hret _ _ _ _ _ rfl hH dX0_isAgainst_81
  have k2_1 : xx2 = (.inr ()) → ∀ (H : Heap) (locs : List Loc) (ls : Array Slot), MH D vwA A s.heap (cW ad cA sA ta ba na gi rh rt g_sort g_size g_from g_to g_level g_full a_tape a_hAt a_hMany a_tAt a_tMany a_least a_place a_to a_order a_fails a_sKeys a_sRow a_sSlots a_bKeys a_bRow a_bSlots a_easy a_wants a_wantedBy a_ring a_carried a_latest v_taped v_faultKind v_faultPlace v_x v_ordered v_sought v_lastSought v_hMoved v_hWithout v_tMoved v_tWithout v_places v_elsewhere v_sMany v_bMany v_year y_lies a_rsort a_rmany a_nums pl) H locs → lv_has ls 5 [] → W p l e rm_X0_isAgainst s m args below meth c H locs 0 0 Q (F0 m 88 ls []) := by
    intro hxx H locs ls hH hl
    have hF := un0e (kk2_1 () hxx)
    refine lv_iconst (v := 0) hx hb dX0_isAgainst_88 kyi_0 ?_
    obtain rfl := Option.some.inj hF
    exact hret _ _ _ _ _ rfl hH dX0_isAgainst_89
  obtain ⟨nn2, en2⟩ := loopC_some ee2
  have l2 : ∀ (n : Nat) (x_61 : Int32), loopN (fun s => FX0_isAgainst_b2 t p1 s) n x_61 = some xx2 → ∀ (H : Heap) (locs : List Loc) (ls : Array Slot), MH D vwA A s.heap (cW ad cA sA ta ba na gi rh rt g_sort g_size g_from g_to g_level g_full a_tape a_hAt a_hMany a_tAt a_tMany a_least a_place a_to a_order a_fails a_sKeys a_sRow a_sSlots a_bKeys a_bRow a_bSlots a_easy a_wants a_wantedBy a_ring a_carried a_latest v_taped v_faultKind v_faultPlace v_x v_ordered v_sought v_lastSought v_hMoved v_hWithout v_tMoved v_tWithout v_places v_elsewhere v_sMany v_bMany v_year y_lies a_rsort a_rmany a_nums pl) H locs → lv_has ls 5 [(0, .ref (ad 0)), (1, .int p1), (2, .int x_61)] → W p l e rm_X0_isAgainst s m args below meth c H locs 0 0 Q (F0 m 2 ls []) := by
    intro n
    induction n with
    | zero =>
      intro x_61 hN
      exact absurd hN loopN_zero
    | succ n ih =>
      intro x_61 hN H locs ls hH hl
      obtain ⟨yy2, hB2, hY2⟩ := loopN_succ hN
      have hF : FX0_isAgainst_b2 t p1 x_61 = some yy2 := hB2
      delta FX0_isAgainst_b2 at hF
      refine lv_iload_n hx hb dX0_isAgainst_2 rfl (lv_at hl 2 rfl) ?_
      refine lv_aload_n hx hb dX0_isAgainst_3 rfl (lv_at hl 0 rfl) ?_
      refine cg_Y_this_s hX hK hNW hH dX0_isAgainst_4 ?_
      refine cg_Y_state_town hX hK hNW hH dX0_isAgainst_7 ?_
      refine cg_Y_town_musts hT (fun _ h => cW_pl h) hX hK hNW hH dX0_isAgainst_10 ?_
      refine mxV hX hK hEv hE0 hH (met_J2_size hE.1 hT.musts (fun _ h => cW_pl h)) (precv (fun _ h => cW_pl h) hK hH 17 rfl hT.musts.obj) gw_StoneYear_133 hd_yJ2_size ⟨Nat.le_of_ble_eq_true rfl, Nat.le_of_ble_eq_true rfl⟩ rfl rfl hl (Nat.le_of_ble_eq_true rfl) dX0_isAgainst_13 ⟨Nat.le_of_ble_eq_true rfl, Nat.le_of_ble_eq_true rfl⟩ (fun w2 H locs hw hH => ?_)
      subst hw
      refine lv_icmp_ge (tgt := 88) hx hb dX0_isAgainst_16 rfl (fun c_62 => ?_) (fun c_62 => ?_)
      · have hF := itp c_62 hF
        obtain rfl := Option.some.inj hF
        exact k2_1 hY2 _ _ _ hH (lv_sub hl [] rfl)
      · have hF := itn c_62 hF
        refine lv_aload_n hx hb dX0_isAgainst_19 rfl (lv_at hl 0 rfl) ?_
        refine cg_Y_this_s hX hK hNW hH dX0_isAgainst_20 ?_
        refine cg_Y_state_town hX hK hNW hH dX0_isAgainst_23 ?_
        refine cg_Y_town_musts hT (fun _ h => cW_pl h) hX hK hNW hH dX0_isAgainst_26 ?_
        refine lv_iload_n hx hb dX0_isAgainst_29 rfl (lv_at hl 2 rfl) ?_
        obtain ⟨hg_63, hF⟩ := bd0e hF
        refine mxV hX hK hEv hE0 hH (met_J2_get hE.1 rfl hT.musts hg_63 (fun _ h => cW_pl h)) (precv (fun _ h => cW_pl h) hK hH 17 rfl hT.musts.obj) gw_StoneYear_170 hd_yJ2_get ⟨Nat.le_of_ble_eq_true rfl, Nat.le_of_ble_eq_true rfl⟩ rfl rfl hl (Nat.le_of_ble_eq_true rfl) dX0_isAgainst_30 ⟨Nat.le_of_ble_eq_true rfl, Nat.le_of_ble_eq_true rfl⟩ (fun w2 H locs hw hH => ?_)
        subst hw
        refine cc_must hT (alg_lt hg_63) (fun _ h => cW_pl h) hX hK hNW hH (hts _ q1389) dX0_isAgainst_33 ?_
        refine lv_astore_n (lv' := [(3, .ref (ta (40 + x_61.toNatClampNeg))), (0, .ref (ad 0)), (1, .int p1), (2, .int x_61)]) hx hb dX0_isAgainst_36 rfl hl (by decide) rfl (fun ls hl => ?_)
        refine lv_aload_n hx hb dX0_isAgainst_37 rfl (lv_at hl 1 rfl) ?_
        refine cg_Y_this_s hX hK hNW hH dX0_isAgainst_38 ?_
        refine cg_Y_state_town hX hK hNW hH dX0_isAgainst_41 ?_
        refine cg_Y_town_rows hT (fun _ h => cW_pl h) hX hK hNW hH dX0_isAgainst_44 ?_
        refine lv_aload_n hx hb dX0_isAgainst_47 rfl (lv_at hl 0 rfl) ?_
        refine cg_must_row hT (alg_lt hg_63) (fun _ h => cW_pl h) hX hK hH (hts _ q850) dX0_isAgainst_48 ?_
        obtain ⟨hg_64, hF⟩ := bd0e hF
        refine mxV hX hK hEv hE0 hH (met_J2_get hE.1 rfl hT.rows hg_64 (fun _ h => cW_pl h)) (precv (fun _ h => cW_pl h) hK hH 17 rfl hT.rows.obj) gw_StoneYear_170 hd_yJ2_get ⟨Nat.le_of_ble_eq_true rfl, Nat.le_of_ble_eq_true rfl⟩ rfl rfl hl (Nat.le_of_ble_eq_true rfl) dX0_isAgainst_51 ⟨Nat.le_of_ble_eq_true rfl, Nat.le_of_ble_eq_true rfl⟩ (fun w2 H locs hw hH => ?_)
        subst hw
        refine va_castE hx hb hown (hts _ q997) (precv (fun _ h => cW_pl h) hK hH 10 rfl ⟨_, hT.row (alg_lt hg_64)⟩) dX0_isAgainst_54 ?_
        refine lv_astore (lv' := [(4, .ref (ta (10 + (t (63 + x_61.toNatClampNeg)).toNatClampNeg))), (3, .ref (ta (40 + x_61.toNatClampNeg))), (0, .ref (ad 0)), (1, .int p1), (2, .int x_61)]) hx hb dX0_isAgainst_57 hl (by decide) rfl (fun ls hl => ?_)
        refine lv_aload hx hb dX0_isAgainst_59 (lv_at hl 0 rfl) ?_
        refine lv_iload_n hx hb dX0_isAgainst_61 rfl (lv_at hl 3 rfl) ?_
        obtain ⟨b_65, he, hF⟩ := bd1e hF
        refine mxV hX hK hEv hE0 hH (met_X10_isAsked hE hPO hT hg_64 he) (precv (fun _ h => cW_pl h) hK hH 10 rfl ⟨_, hT.row (alg_lt hg_64)⟩) gw_StoneYear_442 hd_yX10_isAsked ⟨Nat.le_of_ble_eq_true rfl, Nat.le_of_ble_eq_true rfl⟩ rfl rfl hl (Nat.le_of_ble_eq_true rfl) dX0_isAgainst_62 ⟨Nat.le_of_ble_eq_true rfl, Nat.le_of_ble_eq_true rfl⟩ (fun w2 H locs hw hH => ?_)
        subst hw
        have j82 : FX0_isAgainst_j82 x_61 = some yy2 → ∀ (H : Heap) (locs : List Loc) (ls : Array Slot), MH D vwA A s.heap (cW ad cA sA ta ba na gi rh rt g_sort g_size g_from g_to g_level g_full a_tape a_hAt a_hMany a_tAt a_tMany a_least a_place a_to a_order a_fails a_sKeys a_sRow a_sSlots a_bKeys a_bRow a_bSlots a_easy a_wants a_wantedBy a_ring a_carried a_latest v_taped v_faultKind v_faultPlace v_x v_ordered v_sought v_lastSought v_hMoved v_hWithout v_tMoved v_tWithout v_places v_elsewhere v_sMany v_bMany v_year y_lies a_rsort a_rmany a_nums pl) H locs → lv_has ls 5 [(0, .ref (ad 0)), (1, .int p1), (2, .int x_61)] → W p l e rm_X0_isAgainst s m args below meth c H locs 0 0 Q (F0 m 82 ls []) := by
          intro hF H locs ls hH hl
          delta FX0_isAgainst_j82 at hF
          refine lv_iinc (v := (x_61 + 1)) (lv' := [(2, .int (x_61 + 1)), (0, .ref (ad 0)), (1, .int p1)]) hx hb dX0_isAgainst_82 hl (k := 2) rfl (syc kyi_1) (by decide) rfl (fun ls hl => ?_)
          refine lv_goto (tgt := 2) hx hb dX0_isAgainst_85 rfl ?_
          obtain rfl := Option.some.inj hF
          exact ih (x_61 + 1) hY2 _ _ _ hH (lv_sub hl [1, 2, 0] rfl)
        refine lv_if_eq (tgt := 82) hx hb dX0_isAgainst_65 rfl (fun c_66 => ?_) (fun c_66 => ?_)
        · have hF := itp c_66 hF
          exact j82 hF _ _ _ hH (lv_sub hl [2, 3, 4] rfl)
        · have hF := itn c_66 hF
          refine lv_aload_n hx hb dX0_isAgainst_68 rfl (lv_at hl 1 rfl) ?_
          refine lv_aload hx hb dX0_isAgainst_69 (lv_at hl 0 rfl) ?_
          refine cg_Y_row_wished hT (alg_lt hg_64) (fun _ h => cW_pl h) hX hK hNW hH dX0_isAgainst_71 ?_
          refine ck_kept hPO hT (alg_lt hg_63) hX hK hE hE0 hNW hH q1391 hl ⟨Nat.le_of_ble_eq_true rfl, Nat.le_of_ble_eq_true rfl⟩ ⟨Nat.le_of_ble_eq_true rfl, Nat.le_of_ble_eq_true rfl⟩ (Nat.le_of_ble_eq_true rfl) dX0_isAgainst_74 (fun H locs hH => ?_)
          refine lv_if_ne (tgt := 82) hx hb dX0_isAgainst_77 rfl (fun c_67 => ?_) (fun c_67 => ?_)
          · have hF := itn c_67 hF
            exact j82 hF _ _ _ hH (lv_sub hl [2, 3, 4] rfl)
          · have hF := itp c_67 hF
            obtain rfl := Option.some.inj hF
            exact k2_0 hY2 _ _ _ hH (lv_sub hl [] rfl)
  exact l2 nn2 0 en2 _ _ _ hH (lv_sub hl [1, 2, 0] rfl)
abbrev rm_X0_isLacking : Room := { frames := 5, cells := 0, slots := 0, locals := 164 }
set_option maxHeartbeats 4000000 in
theorem met_X0_isLacking {l : Launch} {D : va_G} {ad : Nat → Nat} {cA : Nat → ClassId} {sA ta ba na : Nat → Nat} {gi : Nat → Option Nat} {rh : Option Nat} {rt : Option Nat} {g_sort : Int32} {g_size : Int32} {g_from : Int32} {g_to : Int32} {g_level : Int32} {g_full : Int32} {a_tape : Nat → Int32} {a_hAt : Nat → Int32} {a_hMany : Nat → Int32} {a_tAt : Nat → Int32} {a_tMany : Nat → Int32} {a_least : Nat → Int32} {a_place : Nat → Int32} {a_to : Nat → Int32} {a_order : Nat → Int32} {a_fails : Nat → Int32} {a_sKeys : Nat → Int64} {a_sRow : Nat → Int64} {a_sSlots : Nat → Int32} {a_bKeys : Nat → Int64} {a_bRow : Nat → Int64} {a_bSlots : Nat → Int32} {a_easy : Nat → Int32} {a_wants : Nat → Int32} {a_wantedBy : Nat → Int32} {a_ring : Nat → Int32} {a_carried : Nat → Int32} {a_latest : Nat → Int32} {v_taped : Int32} {v_faultKind : Int32} {v_faultPlace : Int32} {v_x : Int32} {v_ordered : Int32} {v_sought : Int32} {v_lastSought : Int32} {v_hMoved : Int32} {v_hWithout : Int32} {v_tMoved : Int32} {v_tWithout : Int32} {v_places : Int32} {v_elsewhere : Int32} {v_sMany : Int32} {v_bMany : Int32} {v_year : Int32} {y_lies : Int64} {a_rsort : Nat → Int32} {a_rmany : Nat → Int32} {a_nums : Nat → Nat → Int64} {t : Nat → Int32} {nb : Int32} {bv : Nat → Int32 → Int32 → Int32 → Int32 → Int32 → Int32 → Bool} {pl : va_W}  {p1 : Int32} {res : Bool} {E : EvT} (hE : EvN E) (hPO : PO cA pl ta ba t nb bv) (hF : FX0_isLacking y_lies t p1 = some res) : MX l yX0_isLacking (ws_ yX0_isLacking cX0_isLacking 5 (Option.some Jvm.ClassFile.FieldType.boolean)) rm_X0_isLacking D vwA (cT cA) E [.ref (ad 0), .int p1] (cW ad cA sA ta ba na gi rh rt g_sort g_size g_from g_to g_level g_full a_tape a_hAt a_hMany a_tAt a_tMany a_least a_place a_to a_order a_fails a_sKeys a_sRow a_sSlots a_bKeys a_bRow a_bSlots a_easy a_wants a_wantedBy a_ring a_carried a_latest v_taped v_faultKind v_faultPlace v_x v_ordered v_sought v_lastSought v_hMoved v_hWithout v_tMoved v_tWithout v_places v_elsewhere v_sMany v_bMany v_year y_lies a_rsort a_rmany a_nums pl) (fun z => z = (cW ad cA sA ta ba na gi rh rt g_sort g_size g_from g_to g_level g_full a_tape a_hAt a_hMany a_tAt a_tMany a_least a_place a_to a_order a_fails a_sKeys a_sRow a_sSlots a_bKeys a_bRow a_bSlots a_easy a_wants a_wantedBy a_ring a_carried a_latest v_taped v_faultKind v_faultPlace v_x v_ordered v_sought v_lastSought v_hMoved v_hWithout v_tMoved v_tWithout v_places v_elsewhere v_sMany v_bMany v_year y_lies a_rsort a_rmany a_nums pl)) (some (.int (b2i res))) := by
  refine MX.ofZ (by decide) (Nat.le_of_ble_eq_true rfl) ?_
  intro p e s m args below meth c Q A hX hK hE0 hname hret H locs ls hH hl
  have hX : CallFix p m c cX0_isLacking 5 s args lw_all RX0 := hX
  have hx := hX.1
  have hb := hX.2.1
  have hown := hX.2.2.2.1
  have hts := hX.2.2.2.2
  have hl : lv_has ls 5 [(0, .ref (ad 0)), (1, .int p1)] := hl
  have hEv := hE.1
  have hNW := hE.2.1 _ _ _ hE0
  have hT := hPO.1
  have hB := hPO.2
  delta FX0_isLacking at hF
  refine lv_iconst (v := 0) hx hb dX0_isLacking_0 kyi_0 ?_
  refine lv_istore_n (lv' := [(2, .int 0), (0, .ref (ad 0)), (1, .int p1)]) hx hb dX0_isLacking_1 rfl hl (by decide) rfl (fun ls hl => ?_)
  obtain ⟨xx2, ee2, kk2_0, kk2_1⟩ := bdS2e hF
  have k2_0 : xx2 = (.inl ()) → ∀ (H : Heap) (locs : List Loc) (ls : Array Slot), MH D vwA A s.heap (cW ad cA sA ta ba na gi rh rt g_sort g_size g_from g_to g_level g_full a_tape a_hAt a_hMany a_tAt a_tMany a_least a_place a_to a_order a_fails a_sKeys a_sRow a_sSlots a_bKeys a_bRow a_bSlots a_easy a_wants a_wantedBy a_ring a_carried a_latest v_taped v_faultKind v_faultPlace v_x v_ordered v_sought v_lastSought v_hMoved v_hWithout v_tMoved v_tWithout v_places v_elsewhere v_sMany v_bMany v_year y_lies a_rsort a_rmany a_nums pl) H locs → lv_has ls 5 [] → W p l e rm_X0_isLacking s m args below meth c H locs 0 0 Q (F0 m 124 ls []) := by
    intro hxx H locs ls hH hl
    have hF := un0e (kk2_0 () hxx)
    refine lv_iconst (v := 1) hx hb dX0_isLacking_124 kyi_1 ?_
    obtain rfl := Option.some.inj hF
    exact hret _ _ _ _ _ rfl hH dX0_isLacking_125
  have k2_1 : xx2 = (.inr ()) → ∀ (H : Heap) (locs : List Loc) (ls : Array Slot), MH D vwA A s.heap (cW ad cA sA ta ba na gi rh rt g_sort g_size g_from g_to g_level g_full a_tape a_hAt a_hMany a_tAt a_tMany a_least a_place a_to a_order a_fails a_sKeys a_sRow a_sSlots a_bKeys a_bRow a_bSlots a_easy a_wants a_wantedBy a_ring a_carried a_latest v_taped v_faultKind v_faultPlace v_x v_ordered v_sought v_lastSought v_hMoved v_hWithout v_tMoved v_tWithout v_places v_elsewhere v_sMany v_bMany v_year y_lies a_rsort a_rmany a_nums pl) H locs → lv_has ls 5 [] → W p l e rm_X0_isLacking s m args below meth c H locs 0 0 Q (F0 m 132 ls []) := by
    intro hxx H locs ls hH hl
    have hF := un0e (kk2_1 () hxx)
    refine lv_iconst (v := 0) hx hb dX0_isLacking_132 kyi_0 ?_
    obtain rfl := Option.some.inj hF
    exact hret _ _ _ _ _ rfl hH dX0_isLacking_133
  obtain ⟨nn2, en2⟩ := loopC_some ee2
  have l2 : ∀ (n : Nat) (x_83 : Int32), loopN (fun s => FX0_isLacking_b2 y_lies t p1 s) n x_83 = some xx2 → ∀ (H : Heap) (locs : List Loc) (ls : Array Slot), MH D vwA A s.heap (cW ad cA sA ta ba na gi rh rt g_sort g_size g_from g_to g_level g_full a_tape a_hAt a_hMany a_tAt a_tMany a_least a_place a_to a_order a_fails a_sKeys a_sRow a_sSlots a_bKeys a_bRow a_bSlots a_easy a_wants a_wantedBy a_ring a_carried a_latest v_taped v_faultKind v_faultPlace v_x v_ordered v_sought v_lastSought v_hMoved v_hWithout v_tMoved v_tWithout v_places v_elsewhere v_sMany v_bMany v_year y_lies a_rsort a_rmany a_nums pl) H locs → lv_has ls 5 [(0, .ref (ad 0)), (1, .int p1), (2, .int x_83)] → W p l e rm_X0_isLacking s m args below meth c H locs 0 0 Q (F0 m 2 ls []) := by
    intro n
    induction n with
    | zero =>
      intro x_83 hN
      exact absurd hN loopN_zero
    | succ n ih =>
      intro x_83 hN H locs ls hH hl
      obtain ⟨yy2, hB2, hY2⟩ := loopN_succ hN
      have hF : FX0_isLacking_b2 y_lies t p1 x_83 = some yy2 := hB2
      delta FX0_isLacking_b2 at hF
      refine lv_iload_n hx hb dX0_isLacking_2 rfl (lv_at hl 2 rfl) ?_
      refine lv_bipush (v := 8) hx hb dX0_isLacking_3 kyb_8 ?_
      refine lv_icmp_ge (tgt := 132) hx hb dX0_isLacking_5 rfl (fun c_84 => ?_) (fun c_84 => ?_)
      · have hF := itp c_84 hF
        obtain rfl := Option.some.inj hF
        exact k2_1 hY2 _ _ _ hH (lv_sub hl [] rfl)
      · have hF := itn c_84 hF
        refine lv_iconst (v := 0) hx hb dX0_isLacking_8 kyi_0 ?_
        refine lv_istore_n (lv' := [(3, .int 0), (0, .ref (ad 0)), (1, .int p1), (2, .int x_83)]) hx hb dX0_isLacking_9 rfl hl (by decide) rfl (fun ls hl => ?_)
        refine lv_iconst (v := 0) hx hb dX0_isLacking_10 kyi_0 ?_
        refine lv_istore (lv' := [(4, .int 0), (3, .int 0), (0, .ref (ad 0)), (1, .int p1), (2, .int x_83)]) hx hb dX0_isLacking_11 hl (by decide) rfl (fun ls hl => ?_)
        obtain ⟨xx13, ee13, kk13_0⟩ := bd1L hF
        have k13_0 : ∀ (x_99 : Int32), xx13 = x_99 → ∀ (H : Heap) (locs : List Loc) (ls : Array Slot), MH D vwA A s.heap (cW ad cA sA ta ba na gi rh rt g_sort g_size g_from g_to g_level g_full a_tape a_hAt a_hMany a_tAt a_tMany a_least a_place a_to a_order a_fails a_sKeys a_sRow a_sSlots a_bKeys a_bRow a_bSlots a_easy a_wants a_wantedBy a_ring a_carried a_latest v_taped v_faultKind v_faultPlace v_x v_ordered v_sought v_lastSought v_hMoved v_hWithout v_tMoved v_tWithout v_places v_elsewhere v_sMany v_bMany v_year y_lies a_rsort a_rmany a_nums pl) H locs → lv_has ls 5 [(0, .ref (ad 0)), (1, .int p1), (2, .int x_83), (3, .int x_99)] → W p l e rm_X0_isLacking s m args below meth c H locs 0 0 Q (F0 m 79 ls []) := by
          intro x_99 hxx H locs ls hH hl
          have hF := un1e (kk13_0 x_99 hxx)
          refine lv_iconst (v := 0) hx hb dX0_isLacking_79 kyi_0 ?_
          refine lv_istore (lv' := [(4, .int 0), (0, .ref (ad 0)), (1, .int p1), (2, .int x_83), (3, .int x_99)]) hx hb dX0_isLacking_80 hl (by decide) rfl (fun ls hl => ?_)
          obtain ⟨xx82, ee82, kk82_0⟩ := bd1L hF
          have k82_0 : ∀ (x_110 : Int32), xx82 = x_110 → ∀ (H : Heap) (locs : List Loc) (ls : Array Slot), MH D vwA A s.heap (cW ad cA sA ta ba na gi rh rt g_sort g_size g_from g_to g_level g_full a_tape a_hAt a_hMany a_tAt a_tMany a_least a_place a_to a_order a_fails a_sKeys a_sRow a_sSlots a_bKeys a_bRow a_bSlots a_easy a_wants a_wantedBy a_ring a_carried a_latest v_taped v_faultKind v_faultPlace v_x v_ordered v_sought v_lastSought v_hMoved v_hWithout v_tMoved v_tWithout v_places v_elsewhere v_sMany v_bMany v_year y_lies a_rsort a_rmany a_nums pl) H locs → lv_has ls 5 [(0, .ref (ad 0)), (1, .int p1), (2, .int x_83), (3, .int x_110)] → W p l e rm_X0_isLacking s m args below meth c H locs 0 0 Q (F0 m 120 ls []) := by
            intro x_110 hxx H locs ls hH hl
            have hF := un1e (kk82_0 x_110 hxx)
            refine lv_iload_n hx hb dX0_isLacking_120 rfl (lv_at hl 3 rfl) ?_
            refine lv_if_ge (tgt := 126) hx hb dX0_isLacking_121 rfl (fun c_111 => ?_) (fun c_111 => ?_)
            · have hF := itp c_111 hF
              refine lv_iinc (v := (x_83 + 1)) (lv' := [(2, .int (x_83 + 1)), (0, .ref (ad 0)), (1, .int p1), (3, .int x_110)]) hx hb dX0_isLacking_126 hl (k := 2) rfl (syc kyi_1) (by decide) rfl (fun ls hl => ?_)
              refine lv_goto (tgt := 2) hx hb dX0_isLacking_129 rfl ?_
              obtain rfl := Option.some.inj hF
              exact ih (x_83 + 1) hY2 _ _ _ hH (lv_sub hl [1, 2, 0] rfl)
            · have hF := itn c_111 hF
              obtain rfl := Option.some.inj hF
              exact k2_0 hY2 _ _ _ hH (lv_sub hl [] rfl)
          obtain ⟨nn82, en82⟩ := loopC_some ee82
          have l82 : ∀ (n : Nat) (x_104 : Int32) (x_105 : Int32), loopN (fun s => FX0_isLacking_b82 t p1 x_83 s.1 s.2) n (x_104, x_105) = some xx82 → ∀ (H : Heap) (locs : List Loc) (ls : Array Slot), MH D vwA A s.heap (cW ad cA sA ta ba na gi rh rt g_sort g_size g_from g_to g_level g_full a_tape a_hAt a_hMany a_tAt a_tMany a_least a_place a_to a_order a_fails a_sKeys a_sRow a_sSlots a_bKeys a_bRow a_bSlots a_easy a_wants a_wantedBy a_ring a_carried a_latest v_taped v_faultKind v_faultPlace v_x v_ordered v_sought v_lastSought v_hMoved v_hWithout v_tMoved v_tWithout v_places v_elsewhere v_sMany v_bMany v_year y_lies a_rsort a_rmany a_nums pl) H locs → lv_has ls 5 [(0, .ref (ad 0)), (1, .int p1), (2, .int x_83), (3, .int x_104), (4, .int x_105)] → W p l e rm_X0_isLacking s m args below meth c H locs 0 0 Q (F0 m 82 ls []) := by
            intro n
            induction n with
            | zero =>
              intro x_104 x_105 hN
              exact absurd hN loopN_zero
            | succ n ih =>
              intro x_104 x_105 hN H locs ls hH hl
              obtain ⟨yy82, hB82, hY82⟩ := loopN_succ hN
              have hF : FX0_isLacking_b82 t p1 x_83 x_104 x_105 = some yy82 := hB82
              delta FX0_isLacking_b82 at hF
              refine lv_iload hx hb dX0_isLacking_82 (lv_at hl 4 rfl) ?_
              refine lv_bipush (v := 15) hx hb dX0_isLacking_84 kyb_15 ?_
              refine lv_icmp_ge (tgt := 120) hx hb dX0_isLacking_86 rfl (fun c_106 => ?_) (fun c_106 => ?_)
              · have hF := itp c_106 hF
                obtain rfl := Option.some.inj hF
                exact k82_0 x_104 hY82 _ _ _ hH (lv_sub hl [0, 1, 2, 3] rfl)
              · have hF := itn c_106 hF
                refine lv_iload_n hx hb dX0_isLacking_89 rfl (lv_at hl 3 rfl) ?_
                refine lv_aload_n hx hb dX0_isLacking_90 rfl (lv_at hl 0 rfl) ?_
                refine cg_Y_this_s hX hK hNW hH dX0_isLacking_91 ?_
                refine cg_Y_state_town hX hK hNW hH dX0_isLacking_94 ?_
                refine lv_iload hx hb dX0_isLacking_97 (lv_at hl 4 rfl) ?_
                refine lv_iload_n hx hb dX0_isLacking_99 rfl (lv_at hl 1 rfl) ?_
                obtain ⟨x_107, he, hF⟩ := bd1e hF
                refine mxV hX hK hEv hE0 hH (met_X2_wished hE hPO hT he) (precv (fun _ h => cW_pl h) hK hH 2 rfl ⟨_, hT.obj⟩) gw_StoneYear_436 hd_yX2_wished ⟨Nat.le_of_ble_eq_true rfl, Nat.le_of_ble_eq_true rfl⟩ rfl rfl hl (Nat.le_of_ble_eq_true rfl) dX0_isLacking_100 ⟨Nat.le_of_ble_eq_true rfl, Nat.le_of_ble_eq_true rfl⟩ (fun w2 H locs hw hH => ?_)
                subst hw
                refine lv_iload_n hx hb dX0_isLacking_103 rfl (lv_at hl 2 rfl) ?_
                have j112 : ∀ (x_109 : Int32), FX0_isLacking_j112 x_104 x_105 x_109 = some yy82 → ∀ (H : Heap) (locs : List Loc) (ls : Array Slot), MH D vwA A s.heap (cW ad cA sA ta ba na gi rh rt g_sort g_size g_from g_to g_level g_full a_tape a_hAt a_hMany a_tAt a_tMany a_least a_place a_to a_order a_fails a_sKeys a_sRow a_sSlots a_bKeys a_bRow a_bSlots a_easy a_wants a_wantedBy a_ring a_carried a_latest v_taped v_faultKind v_faultPlace v_x v_ordered v_sought v_lastSought v_hMoved v_hWithout v_tMoved v_tWithout v_places v_elsewhere v_sMany v_bMany v_year y_lies a_rsort a_rmany a_nums pl) H locs → lv_has ls 5 [(0, .ref (ad 0)), (1, .int p1), (2, .int x_83), (4, .int x_105)] → W p l e rm_X0_isLacking s m args below meth c H locs 0 0 Q (F0 m 112 ls [.int x_109, .int x_104]) := by
                  intro x_109 hF H locs ls hH hl
                  delta FX0_isLacking_j112 at hF
                  refine lv_isub hx hb dX0_isLacking_112 ?_
                  refine lv_istore_n (lv' := [(3, .int (x_104 - x_109)), (0, .ref (ad 0)), (1, .int p1), (2, .int x_83), (4, .int x_105)]) hx hb dX0_isLacking_113 rfl hl (by decide) rfl (fun ls hl => ?_)
                  refine lv_iinc (v := (x_105 + 1)) (lv' := [(4, .int (x_105 + 1)), (3, .int (x_104 - x_109)), (0, .ref (ad 0)), (1, .int p1), (2, .int x_83)]) hx hb dX0_isLacking_114 hl (k := 4) rfl (syc kyi_1) (by decide) rfl (fun ls hl => ?_)
                  refine lv_goto (tgt := 82) hx hb dX0_isLacking_117 rfl ?_
                  obtain rfl := Option.some.inj hF
                  exact ih (x_104 - x_109) (x_105 + 1) hY82 _ _ _ hH (lv_sub hl [2, 3, 4, 1, 0] rfl)
                refine lv_icmp_ne (tgt := 111) hx hb dX0_isLacking_104 rfl (fun c_108 => ?_) (fun c_108 => ?_)
                · have hF := itn c_108 hF
                  refine lv_iconst (v := 0) hx hb dX0_isLacking_111 kyi_0 ?_
                  exact j112 0 hF _ _ _ hH (lv_sub hl [0, 1, 2, 4] rfl)
                · have hF := itp c_108 hF
                  refine lv_iconst (v := 1) hx hb dX0_isLacking_107 kyi_1 ?_
                  refine lv_goto (tgt := 112) hx hb dX0_isLacking_108 rfl ?_
                  exact j112 1 hF _ _ _ hH (lv_sub hl [0, 1, 2, 4] rfl)
          exact l82 nn82 x_99 0 en82 _ _ _ hH (lv_sub hl [1, 2, 3, 4, 0] rfl)
        obtain ⟨nn13, en13⟩ := loopC_some ee13
        have l13 : ∀ (n : Nat) (x_91 : Int32) (x_92 : Int32), loopN (fun s => FX0_isLacking_b13 y_lies t x_83 s.1 s.2) n (x_91, x_92) = some xx13 → ∀ (H : Heap) (locs : List Loc) (ls : Array Slot), MH D vwA A s.heap (cW ad cA sA ta ba na gi rh rt g_sort g_size g_from g_to g_level g_full a_tape a_hAt a_hMany a_tAt a_tMany a_least a_place a_to a_order a_fails a_sKeys a_sRow a_sSlots a_bKeys a_bRow a_bSlots a_easy a_wants a_wantedBy a_ring a_carried a_latest v_taped v_faultKind v_faultPlace v_x v_ordered v_sought v_lastSought v_hMoved v_hWithout v_tMoved v_tWithout v_places v_elsewhere v_sMany v_bMany v_year y_lies a_rsort a_rmany a_nums pl) H locs → lv_has ls 5 [(0, .ref (ad 0)), (1, .int p1), (2, .int x_83), (3, .int x_91), (4, .int x_92)] → W p l e rm_X0_isLacking s m args below meth c H locs 0 0 Q (F0 m 13 ls []) := by
          intro n
          induction n with
          | zero =>
            intro x_91 x_92 hN
            exact absurd hN loopN_zero
          | succ n ih =>
            intro x_91 x_92 hN H locs ls hH hl
            obtain ⟨yy13, hB13, hY13⟩ := loopN_succ hN
            have hF : FX0_isLacking_b13 y_lies t x_83 x_91 x_92 = some yy13 := hB13
            delta FX0_isLacking_b13 at hF
            refine lv_iload hx hb dX0_isLacking_13 (lv_at hl 4 rfl) ?_
            refine lv_aload_n hx hb dX0_isLacking_15 rfl (lv_at hl 0 rfl) ?_
            refine cg_Y_this_s hX hK hNW hH dX0_isLacking_16 ?_
            refine cg_Y_state_town hX hK hNW hH dX0_isLacking_19 ?_
            refine cg_Y_town_stones hT (fun _ h => cW_pl h) hX hK hNW hH dX0_isLacking_22 ?_
            refine mxV hX hK hEv hE0 hH (met_J2_size hE.1 hT.stones (fun _ h => cW_pl h)) (precv (fun _ h => cW_pl h) hK hH 17 rfl hT.stones.obj) gw_StoneYear_133 hd_yJ2_size ⟨Nat.le_of_ble_eq_true rfl, Nat.le_of_ble_eq_true rfl⟩ rfl rfl hl (Nat.le_of_ble_eq_true rfl) dX0_isLacking_25 ⟨Nat.le_of_ble_eq_true rfl, Nat.le_of_ble_eq_true rfl⟩ (fun w2 H locs hw hH => ?_)
            subst hw
            refine lv_icmp_ge (tgt := 79) hx hb dX0_isLacking_28 rfl (fun c_93 => ?_) (fun c_93 => ?_)
            · have hF := itp c_93 hF
              obtain rfl := Option.some.inj hF
              exact k13_0 x_91 hY13 _ _ _ hH (lv_sub hl [0, 1, 2, 3] rfl)
            · have hF := itn c_93 hF
              refine lv_iload_n hx hb dX0_isLacking_31 rfl (lv_at hl 3 rfl) ?_
              refine lv_aload_n hx hb dX0_isLacking_32 rfl (lv_at hl 0 rfl) ?_
              refine lv_iload hx hb dX0_isLacking_33 (lv_at hl 4 rfl) ?_
              obtain ⟨b_94, he, hF⟩ := bd1e hF
              refine mxV hX hK hEv hE0 hH (met_X0_isThere hE hPO he) (crecv hK hH 0 0 rfl rfl) gw_StoneYear_184 hd_yX0_isThere ⟨Nat.le_of_ble_eq_true rfl, Nat.le_of_ble_eq_true rfl⟩ rfl rfl hl (Nat.le_of_ble_eq_true rfl) dX0_isLacking_35 ⟨Nat.le_of_ble_eq_true rfl, Nat.le_of_ble_eq_true rfl⟩ (fun w2 H locs hw hH => ?_)
              subst hw
              have j71 : ∀ (x_98 : Int32), FX0_isLacking_j71 x_91 x_92 x_98 = some yy13 → ∀ (H : Heap) (locs : List Loc) (ls : Array Slot), MH D vwA A s.heap (cW ad cA sA ta ba na gi rh rt g_sort g_size g_from g_to g_level g_full a_tape a_hAt a_hMany a_tAt a_tMany a_least a_place a_to a_order a_fails a_sKeys a_sRow a_sSlots a_bKeys a_bRow a_bSlots a_easy a_wants a_wantedBy a_ring a_carried a_latest v_taped v_faultKind v_faultPlace v_x v_ordered v_sought v_lastSought v_hMoved v_hWithout v_tMoved v_tWithout v_places v_elsewhere v_sMany v_bMany v_year y_lies a_rsort a_rmany a_nums pl) H locs → lv_has ls 5 [(0, .ref (ad 0)), (1, .int p1), (2, .int x_83), (4, .int x_92)] → W p l e rm_X0_isLacking s m args below meth c H locs 0 0 Q (F0 m 71 ls [.int x_98, .int x_91]) := by
                intro x_98 hF H locs ls hH hl
                delta FX0_isLacking_j71 at hF
                refine lv_iadd hx hb dX0_isLacking_71 ?_
                refine lv_istore_n (lv' := [(3, .int (x_91 + x_98)), (0, .ref (ad 0)), (1, .int p1), (2, .int x_83), (4, .int x_92)]) hx hb dX0_isLacking_72 rfl hl (by decide) rfl (fun ls hl => ?_)
                refine lv_iinc (v := (x_92 + 1)) (lv' := [(4, .int (x_92 + 1)), (3, .int (x_91 + x_98)), (0, .ref (ad 0)), (1, .int p1), (2, .int x_83)]) hx hb dX0_isLacking_73 hl (k := 4) rfl (syc kyi_1) (by decide) rfl (fun ls hl => ?_)
                refine lv_goto (tgt := 13) hx hb dX0_isLacking_76 rfl ?_
                obtain rfl := Option.some.inj hF
                exact ih (x_91 + x_98) (x_92 + 1) hY13 _ _ _ hH (lv_sub hl [2, 3, 4, 1, 0] rfl)
              have j70 : FX0_isLacking_j70 x_91 x_92 = some yy13 → ∀ (H : Heap) (locs : List Loc) (ls : Array Slot), MH D vwA A s.heap (cW ad cA sA ta ba na gi rh rt g_sort g_size g_from g_to g_level g_full a_tape a_hAt a_hMany a_tAt a_tMany a_least a_place a_to a_order a_fails a_sKeys a_sRow a_sSlots a_bKeys a_bRow a_bSlots a_easy a_wants a_wantedBy a_ring a_carried a_latest v_taped v_faultKind v_faultPlace v_x v_ordered v_sought v_lastSought v_hMoved v_hWithout v_tMoved v_tWithout v_places v_elsewhere v_sMany v_bMany v_year y_lies a_rsort a_rmany a_nums pl) H locs → lv_has ls 5 [(0, .ref (ad 0)), (1, .int p1), (2, .int x_83), (4, .int x_92)] → W p l e rm_X0_isLacking s m args below meth c H locs 0 0 Q (F0 m 70 ls [.int x_91]) := by
                intro hF H locs ls hH hl
                delta FX0_isLacking_j70 at hF
                refine lv_iconst (v := 0) hx hb dX0_isLacking_70 kyi_0 ?_
                exact j71 0 hF _ _ _ hH (lv_sub hl [0, 1, 2, 3] rfl)
              refine lv_if_eq (tgt := 70) hx hb dX0_isLacking_38 rfl (fun c_95 => ?_) (fun c_95 => ?_)
              · have hF := itp c_95 hF
                exact j70 hF _ _ _ hH (lv_sub hl [0, 1, 2, 4] rfl)
              · have hF := itn c_95 hF
                refine lv_aload_n hx hb dX0_isLacking_41 rfl (lv_at hl 0 rfl) ?_
                refine cg_Y_this_s hX hK hNW hH dX0_isLacking_42 ?_
                refine cg_Y_state_town hX hK hNW hH dX0_isLacking_45 ?_
                refine cg_Y_town_stones hT (fun _ h => cW_pl h) hX hK hNW hH dX0_isLacking_48 ?_
                refine lv_iload hx hb dX0_isLacking_51 (lv_at hl 4 rfl) ?_
                obtain ⟨hg_96, hF⟩ := bd0e hF
                refine mxV hX hK hEv hE0 hH (met_J2_get hE.1 rfl hT.stones hg_96 (fun _ h => cW_pl h)) (precv (fun _ h => cW_pl h) hK hH 17 rfl hT.stones.obj) gw_StoneYear_170 hd_yJ2_get ⟨Nat.le_of_ble_eq_true rfl, Nat.le_of_ble_eq_true rfl⟩ rfl rfl hl (Nat.le_of_ble_eq_true rfl) dX0_isLacking_53 ⟨Nat.le_of_ble_eq_true rfl, Nat.le_of_ble_eq_true rfl⟩ (fun w2 H locs hw hH => ?_)
                subst hw
                refine va_castE hx hb hown (hts _ q969) (precv (fun _ h => cW_pl h) hK hH 11 rfl ⟨_, hT.stone (alg_lt hg_96)⟩) dX0_isLacking_56 ?_
                refine cg_Y_stone_sort hT (alg_lt hg_96) (fun _ h => cW_pl h) hX hK hNW hH dX0_isLacking_59 ?_
                refine lv_iload_n hx hb dX0_isLacking_62 rfl (lv_at hl 2 rfl) ?_
                refine lv_icmp_ne (tgt := 70) hx hb dX0_isLacking_63 rfl (fun c_97 => ?_) (fun c_97 => ?_)
                · have hF := itn c_97 hF
                  exact j70 hF _ _ _ hH (lv_sub hl [0, 1, 2, 4] rfl)
                · have hF := itp c_97 hF
                  refine lv_iconst (v := 1) hx hb dX0_isLacking_66 kyi_1 ?_
                  refine lv_goto (tgt := 71) hx hb dX0_isLacking_67 rfl ?_
                  exact j71 1 hF _ _ _ hH (lv_sub hl [0, 1, 2, 4] rfl)
        exact l13 nn13 0 0 en13 _ _ _ hH (lv_sub hl [2, 3, 4, 1, 0] rfl)
  exact l2 nn2 0 en2 _ _ _ hH (lv_sub hl [1, 2, 0] rfl)
abbrev rm_X0_why : Room := { frames := 264, cells := 0, slots := 0, locals := 6096 }
set_option maxHeartbeats 4000000 in
theorem met_X0_why {l : Launch} {D : va_G} {ad : Nat → Nat} {cA : Nat → ClassId} {sA ta ba na : Nat → Nat} {gi : Nat → Option Nat} {rh : Option Nat} {rt : Option Nat} {g_sort : Int32} {g_size : Int32} {g_from : Int32} {g_to : Int32} {g_level : Int32} {g_full : Int32} {a_tape : Nat → Int32} {a_hAt : Nat → Int32} {a_hMany : Nat → Int32} {a_tAt : Nat → Int32} {a_tMany : Nat → Int32} {a_least : Nat → Int32} {a_place : Nat → Int32} {a_to : Nat → Int32} {a_order : Nat → Int32} {a_fails : Nat → Int32} {a_sKeys : Nat → Int64} {a_sRow : Nat → Int64} {a_sSlots : Nat → Int32} {a_bKeys : Nat → Int64} {a_bRow : Nat → Int64} {a_bSlots : Nat → Int32} {a_easy : Nat → Int32} {a_wants : Nat → Int32} {a_wantedBy : Nat → Int32} {a_ring : Nat → Int32} {a_carried : Nat → Int32} {a_latest : Nat → Int32} {v_taped : Int32} {v_faultKind : Int32} {v_faultPlace : Int32} {v_x : Int32} {v_ordered : Int32} {v_sought : Int32} {v_lastSought : Int32} {v_hMoved : Int32} {v_hWithout : Int32} {v_tMoved : Int32} {v_tWithout : Int32} {v_places : Int32} {v_elsewhere : Int32} {v_sMany : Int32} {v_bMany : Int32} {v_year : Int32} {y_lies : Int64} {a_rsort : Nat → Int32} {a_rmany : Nat → Int32} {a_nums : Nat → Nat → Int64} {t : Nat → Int32} {nb : Int32} {bv : Nat → Int32 → Int32 → Int32 → Int32 → Int32 → Int32 → Bool} {pl : va_W}  {p1 : Int32} {res : Int32} {ra_tAt : Nat → Int32} {ra_tMany : Nat → Int32} {ra_sKeys : Nat → Int64} {ra_sRow : Nat → Int64} {ra_sSlots : Nat → Int32} {ra_bKeys : Nat → Int64} {ra_bRow : Nat → Int64} {ra_bSlots : Nat → Int32} {rv_sought : Int32} {rv_tMoved : Int32} {rv_tWithout : Int32} {rv_sMany : Int32} {rv_bMany : Int32} {E : EvT} (hE : EvN E) (hPO : PO cA pl ta ba t nb bv) (hF : FX0_why a_tAt a_tMany a_sKeys a_sRow a_sSlots a_bKeys a_bRow a_bSlots v_sought v_tMoved v_tWithout v_sMany v_bMany y_lies t nb bv p1 = some (res, ra_tAt, ra_tMany, ra_sKeys, ra_sRow, ra_sSlots, ra_bKeys, ra_bRow, ra_bSlots, rv_sought, rv_tMoved, rv_tWithout, rv_sMany, rv_bMany)) : MX l yX0_why (ws_ yX0_why cX0_why 3 (Option.some Jvm.ClassFile.FieldType.int)) rm_X0_why D vwA (cT cA) E [.ref (ad 0), .int p1] (cW ad cA sA ta ba na gi rh rt g_sort g_size g_from g_to g_level g_full a_tape a_hAt a_hMany a_tAt a_tMany a_least a_place a_to a_order a_fails a_sKeys a_sRow a_sSlots a_bKeys a_bRow a_bSlots a_easy a_wants a_wantedBy a_ring a_carried a_latest v_taped v_faultKind v_faultPlace v_x v_ordered v_sought v_lastSought v_hMoved v_hWithout v_tMoved v_tWithout v_places v_elsewhere v_sMany v_bMany v_year y_lies a_rsort a_rmany a_nums pl) (fun z => ∃ rt' : Option Nat, ∃ g_sort' : Int32, ∃ g_size' : Int32, ∃ g_from' : Int32, ∃ g_to' : Int32, ∃ g_level' : Int32, ∃ g_full' : Int32, z = (cW ad cA sA ta ba na gi rh rt' g_sort' g_size' g_from' g_to' g_level' g_full' a_tape a_hAt a_hMany ra_tAt ra_tMany a_least a_place a_to a_order a_fails ra_sKeys ra_sRow ra_sSlots ra_bKeys ra_bRow ra_bSlots a_easy a_wants a_wantedBy a_ring a_carried a_latest v_taped v_faultKind v_faultPlace v_x v_ordered rv_sought v_lastSought v_hMoved v_hWithout rv_tMoved rv_tWithout v_places v_elsewhere rv_sMany rv_bMany v_year y_lies a_rsort a_rmany a_nums pl)) (some (.int res)) := by
  refine MX.ofI (by decide) (Nat.le_of_ble_eq_true rfl) ?_
  intro p e s m args below meth c Q A hX hK hE0 hname hret H locs ls hH hl
  have hX : CallFix p m c cX0_why 3 s args lw_all RX0 := hX
  have hx := hX.1
  have hb := hX.2.1
  have hown := hX.2.2.2.1
  have hts := hX.2.2.2.2
  have hl : lv_has ls 3 [(0, .ref (ad 0)), (1, .int p1)] := hl
  have hEv := hE.1
  have hNW := hE.2.1 _ _ _ hE0
  have hT := hPO.1
  have hB := hPO.2
  delta FX0_why at hF
  refine lv_iload_n hx hb dX0_why_0 rfl (lv_at hl 1 rfl) ?_
  obtain ⟨b_55, he, hF⟩ := bd1e hF
  refine mxS hX hK hEv hE0 hH (met_X0_isWho hE hPO he) gw_StoneYear_286 hd_yX0_isWho ⟨Nat.le_of_ble_eq_true rfl, Nat.le_of_ble_eq_true rfl⟩ rfl rfl hl (Nat.le_of_ble_eq_true rfl) dX0_why_1 ⟨Nat.le_of_ble_eq_true rfl, Nat.le_of_ble_eq_true rfl⟩ (fun w2 H locs hw hH => ?_)
  subst hw
  refine lv_if_ne (tgt := 10) hx hb dX0_why_4 rfl (fun c_56 => ?_) (fun c_56 => ?_)
  · have hF := itn c_56 hF
    refine lv_aload_n hx hb dX0_why_10 rfl (lv_at hl 0 rfl) ?_
    refine lv_iload_n hx hb dX0_why_11 rfl (lv_at hl 1 rfl) ?_
    obtain ⟨x_57, a_tAt_58, a_tMany_59, a_sKeys_60, a_sRow_61, a_sSlots_62, a_bKeys_63, a_bRow_64, a_bSlots_65, v_sought_66, v_tMoved_67, v_tWithout_68, v_sMany_69, v_bMany_70, he, hF⟩ := bd14e hF
    refine mxV hX hK hEv hE0 hH (met_X0_canBe hE hPO he) (crecv hK hH 0 0 rfl rfl) gw_StoneYear_433 hd_yX0_canBe ⟨Nat.le_of_ble_eq_true rfl, Nat.le_of_ble_eq_true rfl⟩ rfl rfl hl (Nat.le_of_ble_eq_true rfl) dX0_why_12 ⟨Nat.le_of_ble_eq_true rfl, Nat.le_of_ble_eq_true rfl⟩ (fun w2 H locs hw hH => ?_)
    obtain ⟨rt_71, g_sort_72, g_size_73, g_from_74, g_to_75, g_level_76, g_full_77, rfl⟩ := hw
    refine lv_istore_n (lv' := [(2, .int x_57), (0, .ref (ad 0)), (1, .int p1)]) hx hb dX0_why_15 rfl hl (by decide) rfl (fun ls hl => ?_)
    refine lv_iload_n hx hb dX0_why_16 rfl (lv_at hl 0 rfl) ?_
    refine lv_iconst (v := 1) hx hb dX0_why_17 kyi_1 ?_
    refine lv_icmp_ne (tgt := 23) hx hb dX0_why_18 rfl (fun c_78 => ?_) (fun c_78 => ?_)
    · have hF := itn c_78 hF
      refine lv_aload_n hx hb dX0_why_23 rfl (lv_at hl 1 rfl) ?_
      refine lv_iload_n hx hb dX0_why_24 rfl (lv_at hl 2 rfl) ?_
      obtain ⟨b_79, he, hF⟩ := bd1e hF
      refine mxV hX hK hEv hE0 hH (met_X0_isLacking hE hPO he) (crecv hK hH 0 0 rfl rfl) gw_StoneYear_448 hd_yX0_isLacking ⟨Nat.le_of_ble_eq_true rfl, Nat.le_of_ble_eq_true rfl⟩ rfl rfl hl (Nat.le_of_ble_eq_true rfl) dX0_why_25 ⟨Nat.le_of_ble_eq_true rfl, Nat.le_of_ble_eq_true rfl⟩ (fun w2 H locs hw hH => ?_)
      subst hw
      refine lv_if_eq (tgt := 33) hx hb dX0_why_28 rfl (fun c_80 => ?_) (fun c_80 => ?_)
      · have hF := itp c_80 hF
        refine lv_aload_n hx hb dX0_why_33 rfl (lv_at hl 1 rfl) ?_
        refine lv_iload_n hx hb dX0_why_34 rfl (lv_at hl 2 rfl) ?_
        obtain ⟨b_81, he, hF⟩ := bd1e hF
        refine mxV hX hK hEv hE0 hH (met_X0_isAgainst hE hPO he) (crecv hK hH 0 0 rfl rfl) gw_StoneYear_451 hd_yX0_isAgainst ⟨Nat.le_of_ble_eq_true rfl, Nat.le_of_ble_eq_true rfl⟩ rfl rfl hl (Nat.le_of_ble_eq_true rfl) dX0_why_35 ⟨Nat.le_of_ble_eq_true rfl, Nat.le_of_ble_eq_true rfl⟩ (fun w2 H locs hw hH => ?_)
        subst hw
        refine lv_if_eq (tgt := 45) hx hb dX0_why_38 rfl (fun c_82 => ?_) (fun c_82 => ?_)
        · have hF := itp c_82 hF
          refine lv_iload_n hx hb dX0_why_45 rfl (lv_at hl 0 rfl) ?_
          refine lv_if_ne (tgt := 53) hx hb dX0_why_46 rfl (fun c_83 => ?_) (fun c_83 => ?_)
          · have hF := itn c_83 hF
            refine lv_bipush (v := (-4)) hx hb dX0_why_53 kyb_m4 ?_
            obtain ⟨rfl, rfl, rfl, rfl, rfl, rfl, rfl, rfl, rfl, rfl, rfl, rfl, rfl, rfl⟩ := re14 hF
            exact hret _ _ _ _ _ ⟨_, _, _, _, _, _, _, rfl⟩ hH dX0_why_55
          · have hF := itp c_83 hF
            refine lv_iconst (v := 3) hx hb dX0_why_49 kyi_3 ?_
            refine lv_goto (tgt := 55) hx hb dX0_why_50 rfl ?_
            obtain ⟨rfl, rfl, rfl, rfl, rfl, rfl, rfl, rfl, rfl, rfl, rfl, rfl, rfl, rfl⟩ := re14 hF
            exact hret _ _ _ _ _ ⟨_, _, _, _, _, _, _, rfl⟩ hH dX0_why_55
        · have hF := itn c_82 hF
          refine lv_iconst (v := 2) hx hb dX0_why_41 kyi_2 ?_
          refine lv_goto (tgt := 55) hx hb dX0_why_42 rfl ?_
          obtain ⟨rfl, rfl, rfl, rfl, rfl, rfl, rfl, rfl, rfl, rfl, rfl, rfl, rfl, rfl⟩ := re14 hF
          exact hret _ _ _ _ _ ⟨_, _, _, _, _, _, _, rfl⟩ hH dX0_why_55
      · have hF := itn c_80 hF
        refine lv_iconst (v := 1) hx hb dX0_why_31 kyi_1 ?_
        obtain ⟨rfl, rfl, rfl, rfl, rfl, rfl, rfl, rfl, rfl, rfl, rfl, rfl, rfl, rfl⟩ := re14 hF
        exact hret _ _ _ _ _ ⟨_, _, _, _, _, _, _, rfl⟩ hH dX0_why_32
    · have hF := itp c_78 hF
      refine lv_iconst (v := 0) hx hb dX0_why_21 kyi_0 ?_
      obtain ⟨rfl, rfl, rfl, rfl, rfl, rfl, rfl, rfl, rfl, rfl, rfl, rfl, rfl, rfl⟩ := re14 hF
      exact hret _ _ _ _ _ ⟨_, _, _, _, _, _, _, rfl⟩ hH dX0_why_22
  · have hF := itp c_56 hF
    refine lv_bipush (v := (-2)) hx hb dX0_why_7 kyb_m2 ?_
    obtain ⟨rfl, rfl, rfl, rfl, rfl, rfl, rfl, rfl, rfl, rfl, rfl, rfl, rfl, rfl⟩ := re14 hF
    exact hret _ _ _ _ _ ⟨_, _, _, _, _, _, _, rfl⟩ hH dX0_why_9
abbrev rm_X0_isExchange : Room := { frames := 5, cells := 0, slots := 0, locals := 164 }
set_option maxHeartbeats 4000000 in
theorem met_X0_isExchange {l : Launch} {D : va_G} {ad : Nat → Nat} {cA : Nat → ClassId} {sA ta ba na : Nat → Nat} {gi : Nat → Option Nat} {rh : Option Nat} {rt : Option Nat} {g_sort : Int32} {g_size : Int32} {g_from : Int32} {g_to : Int32} {g_level : Int32} {g_full : Int32} {a_tape : Nat → Int32} {a_hAt : Nat → Int32} {a_hMany : Nat → Int32} {a_tAt : Nat → Int32} {a_tMany : Nat → Int32} {a_least : Nat → Int32} {a_place : Nat → Int32} {a_to : Nat → Int32} {a_order : Nat → Int32} {a_fails : Nat → Int32} {a_sKeys : Nat → Int64} {a_sRow : Nat → Int64} {a_sSlots : Nat → Int32} {a_bKeys : Nat → Int64} {a_bRow : Nat → Int64} {a_bSlots : Nat → Int32} {a_easy : Nat → Int32} {a_wants : Nat → Int32} {a_wantedBy : Nat → Int32} {a_ring : Nat → Int32} {a_carried : Nat → Int32} {a_latest : Nat → Int32} {v_taped : Int32} {v_faultKind : Int32} {v_faultPlace : Int32} {v_x : Int32} {v_ordered : Int32} {v_sought : Int32} {v_lastSought : Int32} {v_hMoved : Int32} {v_hWithout : Int32} {v_tMoved : Int32} {v_tWithout : Int32} {v_places : Int32} {v_elsewhere : Int32} {v_sMany : Int32} {v_bMany : Int32} {v_year : Int32} {y_lies : Int64} {a_rsort : Nat → Int32} {a_rmany : Nat → Int32} {a_nums : Nat → Nat → Int64} {t : Nat → Int32} {nb : Int32} {bv : Nat → Int32 → Int32 → Int32 → Int32 → Int32 → Int32 → Bool} {pl : va_W}  {p1 : Int32} {p2 : Int32} {res : Bool} {E : EvT} (hE : EvN E) (hPO : PO cA pl ta ba t nb bv) (hF : FX0_isExchange t p1 p2 = some res) : MX l yX0_isExchange (ws_ yX0_isExchange cX0_isExchange 5 (Option.some Jvm.ClassFile.FieldType.boolean)) rm_X0_isExchange D vwA (cT cA) E [.ref (ad 0), .int p1, .int p2] (cW ad cA sA ta ba na gi rh rt g_sort g_size g_from g_to g_level g_full a_tape a_hAt a_hMany a_tAt a_tMany a_least a_place a_to a_order a_fails a_sKeys a_sRow a_sSlots a_bKeys a_bRow a_bSlots a_easy a_wants a_wantedBy a_ring a_carried a_latest v_taped v_faultKind v_faultPlace v_x v_ordered v_sought v_lastSought v_hMoved v_hWithout v_tMoved v_tWithout v_places v_elsewhere v_sMany v_bMany v_year y_lies a_rsort a_rmany a_nums pl) (fun z => z = (cW ad cA sA ta ba na gi rh rt g_sort g_size g_from g_to g_level g_full a_tape a_hAt a_hMany a_tAt a_tMany a_least a_place a_to a_order a_fails a_sKeys a_sRow a_sSlots a_bKeys a_bRow a_bSlots a_easy a_wants a_wantedBy a_ring a_carried a_latest v_taped v_faultKind v_faultPlace v_x v_ordered v_sought v_lastSought v_hMoved v_hWithout v_tMoved v_tWithout v_places v_elsewhere v_sMany v_bMany v_year y_lies a_rsort a_rmany a_nums pl)) (some (.int (b2i res))) := by
  refine MX.ofZ (by decide) (Nat.le_of_ble_eq_true rfl) ?_
  intro p e s m args below meth c Q A hX hK hE0 hname hret H locs ls hH hl
  have hX : CallFix p m c cX0_isExchange 5 s args lw_all RX0 := hX
  have hx := hX.1
  have hb := hX.2.1
  have hown := hX.2.2.2.1
  have hts := hX.2.2.2.2
  have hl : lv_has ls 5 [(0, .ref (ad 0)), (1, .int p1), (2, .int p2)] := hl
  have hEv := hE.1
  have hNW := hE.2.1 _ _ _ hE0
  have hT := hPO.1
  have hB := hPO.2
  delta FX0_isExchange at hF
  refine lv_aload_n hx hb dX0_isExchange_0 rfl (lv_at hl 0 rfl) ?_
  refine cg_Y_this_s hX hK hNW hH dX0_isExchange_1 ?_
  refine cg_Y_state_town hX hK hNW hH dX0_isExchange_4 ?_
  refine lv_iload_n hx hb dX0_isExchange_7 rfl (lv_at hl 1 rfl) ?_
  refine lv_iconst (v := (-1)) hx hb dX0_isExchange_8 kyi_m1 ?_
  obtain ⟨x_56, he, hF⟩ := bd1e hF
  refine mxV hX hK hEv hE0 hH (met_X2_wished hE hPO hT he) (precv (fun _ h => cW_pl h) hK hH 2 rfl ⟨_, hT.obj⟩) gw_StoneYear_436 hd_yX2_wished ⟨Nat.le_of_ble_eq_true rfl, Nat.le_of_ble_eq_true rfl⟩ rfl rfl hl (Nat.le_of_ble_eq_true rfl) dX0_isExchange_9 ⟨Nat.le_of_ble_eq_true rfl, Nat.le_of_ble_eq_true rfl⟩ (fun w2 H locs hw hH => ?_)
  subst hw
  refine lv_istore_n (lv' := [(3, .int x_56), (0, .ref (ad 0)), (1, .int p1), (2, .int p2)]) hx hb dX0_isExchange_12 rfl hl (by decide) rfl (fun ls hl => ?_)
  refine lv_aload_n hx hb dX0_isExchange_13 rfl (lv_at hl 1 rfl) ?_
  refine cg_Y_this_s hX hK hNW hH dX0_isExchange_14 ?_
  refine cg_Y_state_town hX hK hNW hH dX0_isExchange_17 ?_
  refine lv_iload_n hx hb dX0_isExchange_20 rfl (lv_at hl 3 rfl) ?_
  refine lv_iconst (v := (-1)) hx hb dX0_isExchange_21 kyi_m1 ?_
  obtain ⟨x_57, he, hF⟩ := bd1e hF
  refine mxV hX hK hEv hE0 hH (met_X2_wished hE hPO hT he) (precv (fun _ h => cW_pl h) hK hH 2 rfl ⟨_, hT.obj⟩) gw_StoneYear_436 hd_yX2_wished ⟨Nat.le_of_ble_eq_true rfl, Nat.le_of_ble_eq_true rfl⟩ rfl rfl hl (Nat.le_of_ble_eq_true rfl) dX0_isExchange_22 ⟨Nat.le_of_ble_eq_true rfl, Nat.le_of_ble_eq_true rfl⟩ (fun w2 H locs hw hH => ?_)
  subst hw
  refine lv_istore (lv' := [(4, .int x_57), (3, .int x_56), (0, .ref (ad 0)), (1, .int p1), (2, .int p2)]) hx hb dX0_isExchange_25 hl (by decide) rfl (fun ls hl => ?_)
  refine lv_iload_n hx hb dX0_isExchange_27 rfl (lv_at hl 1 rfl) ?_
  refine lv_iconst (v := (-1)) hx hb dX0_isExchange_28 kyi_m1 ?_
  refine lv_icmp_eq (tgt := 48) hx hb dX0_isExchange_29 rfl (fun c_58 => ?_) (fun c_58 => ?_)
  · have hF := itp c_58 hF
    refine lv_iconst (v := 0) hx hb dX0_isExchange_48 kyi_0 ?_
    obtain rfl := Option.some.inj hF
    exact hret _ _ _ _ _ rfl hH dX0_isExchange_49
  · have hF := itn c_58 hF
    refine lv_iload hx hb dX0_isExchange_32 (lv_at hl 0 rfl) ?_
    refine lv_iconst (v := (-1)) hx hb dX0_isExchange_34 kyi_m1 ?_
    refine lv_icmp_eq (tgt := 48) hx hb dX0_isExchange_35 rfl (fun c_59 => ?_) (fun c_59 => ?_)
    · have hF := itp c_59 hF
      refine lv_iconst (v := 0) hx hb dX0_isExchange_48 kyi_0 ?_
      obtain rfl := Option.some.inj hF
      exact hret _ _ _ _ _ rfl hH dX0_isExchange_49
    · have hF := itn c_59 hF
      refine lv_iload_n hx hb dX0_isExchange_38 rfl (lv_at hl 1 rfl) ?_
      refine lv_iload hx hb dX0_isExchange_39 (lv_at hl 0 rfl) ?_
      refine lv_icmp_eq (tgt := 48) hx hb dX0_isExchange_41 rfl (fun c_60 => ?_) (fun c_60 => ?_)
      · have hF := itp c_60 hF
        refine lv_iconst (v := 0) hx hb dX0_isExchange_48 kyi_0 ?_
        obtain rfl := Option.some.inj hF
        exact hret _ _ _ _ _ rfl hH dX0_isExchange_49
      · have hF := itn c_60 hF
        refine lv_iconst (v := 1) hx hb dX0_isExchange_44 kyi_1 ?_
        refine lv_goto (tgt := 49) hx hb dX0_isExchange_45 rfl ?_
        obtain rfl := Option.some.inj hF
        exact hret _ _ _ _ _ rfl hH dX0_isExchange_49
abbrev rm_X0_wallFault : Room := { frames := 3, cells := 0, slots := 0, locals := 100 }
set_option maxHeartbeats 4000000 in
theorem met_X0_wallFault {l : Launch} {D : va_G} {ad : Nat → Nat} {cA : Nat → ClassId} {sA ta ba na : Nat → Nat} {gi : Nat → Option Nat} {rh : Option Nat} {rt : Option Nat} {g_sort : Int32} {g_size : Int32} {g_from : Int32} {g_to : Int32} {g_level : Int32} {g_full : Int32} {a_tape : Nat → Int32} {a_hAt : Nat → Int32} {a_hMany : Nat → Int32} {a_tAt : Nat → Int32} {a_tMany : Nat → Int32} {a_least : Nat → Int32} {a_place : Nat → Int32} {a_to : Nat → Int32} {a_order : Nat → Int32} {a_fails : Nat → Int32} {a_sKeys : Nat → Int64} {a_sRow : Nat → Int64} {a_sSlots : Nat → Int32} {a_bKeys : Nat → Int64} {a_bRow : Nat → Int64} {a_bSlots : Nat → Int32} {a_easy : Nat → Int32} {a_wants : Nat → Int32} {a_wantedBy : Nat → Int32} {a_ring : Nat → Int32} {a_carried : Nat → Int32} {a_latest : Nat → Int32} {v_taped : Int32} {v_faultKind : Int32} {v_faultPlace : Int32} {v_x : Int32} {v_ordered : Int32} {v_sought : Int32} {v_lastSought : Int32} {v_hMoved : Int32} {v_hWithout : Int32} {v_tMoved : Int32} {v_tWithout : Int32} {v_places : Int32} {v_elsewhere : Int32} {v_sMany : Int32} {v_bMany : Int32} {v_year : Int32} {y_lies : Int64} {a_rsort : Nat → Int32} {a_rmany : Nat → Int32} {a_nums : Nat → Nat → Int64} {t : Nat → Int32} {nb : Int32} {bv : Nat → Int32 → Int32 → Int32 → Int32 → Int32 → Int32 → Bool} {pl : va_W}  {p1 : Int32} {p2 : Int32} {res : Int32} {ra_wants : Nat → Int32} {ra_wantedBy : Nat → Int32} {E : EvT} (hE : EvN E) (hPO : PO cA pl ta ba t nb bv) (hF : FX0_wallFault a_wants a_wantedBy a_rsort a_rmany a_nums p1 p2 = some (res, ra_wants, ra_wantedBy)) : MX l yX0_wallFault (ws_ yX0_wallFault cX0_wallFault 6 (Option.some Jvm.ClassFile.FieldType.int)) rm_X0_wallFault D vwA (cT cA) E [.ref (ad 0), .int p1, .int p2] (cW ad cA sA ta ba na gi rh rt g_sort g_size g_from g_to g_level g_full a_tape a_hAt a_hMany a_tAt a_tMany a_least a_place a_to a_order a_fails a_sKeys a_sRow a_sSlots a_bKeys a_bRow a_bSlots a_easy a_wants a_wantedBy a_ring a_carried a_latest v_taped v_faultKind v_faultPlace v_x v_ordered v_sought v_lastSought v_hMoved v_hWithout v_tMoved v_tWithout v_places v_elsewhere v_sMany v_bMany v_year y_lies a_rsort a_rmany a_nums pl) (fun z => z = (cW ad cA sA ta ba na gi rh rt g_sort g_size g_from g_to g_level g_full a_tape a_hAt a_hMany a_tAt a_tMany a_least a_place a_to a_order a_fails a_sKeys a_sRow a_sSlots a_bKeys a_bRow a_bSlots a_easy ra_wants ra_wantedBy a_ring a_carried a_latest v_taped v_faultKind v_faultPlace v_x v_ordered v_sought v_lastSought v_hMoved v_hWithout v_tMoved v_tWithout v_places v_elsewhere v_sMany v_bMany v_year y_lies a_rsort a_rmany a_nums pl)) (some (.int res)) := by
  refine MX.ofI (by decide) (Nat.le_of_ble_eq_true rfl) ?_
  intro p e s m args below meth c Q A hX hK hE0 hname hret H locs ls hH hl
  have hX : CallFix p m c cX0_wallFault 6 s args lw_all RX0 := hX
  have hx := hX.1
  have hb := hX.2.1
  have hown := hX.2.2.2.1
  have hts := hX.2.2.2.2
  have hl : lv_has ls 6 [(0, .ref (ad 0)), (1, .int p1), (2, .int p2)] := hl
  have hEv := hE.1
  have hNW := hE.2.1 _ _ _ hE0
  have hT := hPO.1
  have hB := hPO.2
  delta FX0_wallFault at hF
  refine lv_iload_n hx hb dX0_wallFault_0 rfl (lv_at hl 1 rfl) ?_
  obtain ⟨b_56, he, hF⟩ := bd1e hF
  refine mxS hX hK hEv hE0 hH (met_X0_isNumbers hE hPO he) gw_StoneYear_305 hd_yX0_isNumbers ⟨Nat.le_of_ble_eq_true rfl, Nat.le_of_ble_eq_true rfl⟩ rfl rfl hl (Nat.le_of_ble_eq_true rfl) dX0_wallFault_1 ⟨Nat.le_of_ble_eq_true rfl, Nat.le_of_ble_eq_true rfl⟩ (fun w2 H locs hw hH => ?_)
  subst hw
  refine lv_if_ne (tgt := 10) hx hb dX0_wallFault_4 rfl (fun c_57 => ?_) (fun c_57 => ?_)
  · have hF := itn c_57 hF
    refine lv_iload_n hx hb dX0_wallFault_10 rfl (lv_at hl 2 rfl) ?_
    refine lv_i2l (v := (Int32.toInt64 p2)) hx hb dX0_wallFault_11 rfl ?_
    refine lv_lconst (v := 1) hx hb dX0_wallFault_12 rfl ?_
    refine lv_ldc2 (v := 40) hx hb hown (hts _ q1426) dX0_wallFault_13 ?_
    obtain ⟨b_58, he, hF⟩ := bd1e hF
    refine mxS hX hK hEv hE0 hH (met_X0_in hE hPO he) gw_StoneYear_106 hd_yX0_in ⟨Nat.le_of_ble_eq_true rfl, Nat.le_of_ble_eq_true rfl⟩ rfl rfl hl (Nat.le_of_ble_eq_true rfl) dX0_wallFault_16 ⟨Nat.le_of_ble_eq_true rfl, Nat.le_of_ble_eq_true rfl⟩ (fun w2 H locs hw hH => ?_)
    subst hw
    refine lv_if_ne (tgt := 25) hx hb dX0_wallFault_19 rfl (fun c_59 => ?_) (fun c_59 => ?_)
    · have hF := itn c_59 hF
      refine lv_aload_n hx hb dX0_wallFault_25 rfl (lv_at hl 0 rfl) ?_
      refine cg_Y_this_rows hX hK hNW hH dX0_wallFault_26 ?_
      refine lv_iload_n hx hb dX0_wallFault_29 rfl (lv_at hl 1 rfl) ?_
      obtain ⟨hg_60, hF⟩ := bd0e hF
      refine cl_rows hX hK hH hg_60 dX0_wallFault_30 ?_
      refine cg_num_held hX hK hNW hH (alg_lt hg_60) dX0_wallFault_31 ?_
      refine cn_ifnonnull (tgt := 40) hx hb dX0_wallFault_34 rfl (fun c_61 => ?_) (fun c_61 => ?_)
      · have hF := itn c_61 hF
        refine lv_aload_n hx hb dX0_wallFault_40 rfl (lv_at hl 0 rfl) ?_
        refine cg_Y_this_rows hX hK hNW hH dX0_wallFault_41 ?_
        refine lv_iload_n hx hb dX0_wallFault_44 rfl (lv_at hl 1 rfl) ?_
        obtain ⟨hg_62, hF⟩ := bd0e hF
        refine cl_rows hX hK hH hg_62 dX0_wallFault_45 ?_
        obtain ⟨x_63, he, hF⟩ := bd1e hF
        refine ck_many hPO hX hK hE hE0 hNW hH (alg_lt hg_62) he q1192 hl ⟨Nat.le_of_ble_eq_true rfl, Nat.le_of_ble_eq_true rfl⟩ ⟨Nat.le_of_ble_eq_true rfl, Nat.le_of_ble_eq_true rfl⟩ (Nat.le_of_ble_eq_true rfl) dX0_wallFault_46 (fun H locs hH => ?_)
        refine lv_iload_n hx hb dX0_wallFault_49 rfl (lv_at hl 2 rfl) ?_
        refine lv_icmp_ge (tgt := 56) hx hb dX0_wallFault_50 rfl (fun c_64 => ?_) (fun c_64 => ?_)
        · have hF := itp c_64 hF
          refine lv_iconst (v := 0) hx hb dX0_wallFault_56 kyi_0 ?_
          refine lv_istore_n (lv' := [(3, .int 0), (0, .ref (ad 0)), (1, .int p1), (2, .int p2)]) hx hb dX0_wallFault_57 rfl hl (by decide) rfl (fun ls hl => ?_)
          obtain ⟨xx58, ee58, kk58_0⟩ := bd1L hF
          have k58_0 : ∀ (a_wantedBy_71 : Nat → Int32), xx58 = a_wantedBy_71 → ∀ (H : Heap) (locs : List Loc) (ls : Array Slot), MH D vwA A s.heap (cW ad cA sA ta ba na gi rh rt g_sort g_size g_from g_to g_level g_full a_tape a_hAt a_hMany a_tAt a_tMany a_least a_place a_to a_order a_fails a_sKeys a_sRow a_sSlots a_bKeys a_bRow a_bSlots a_easy a_wants a_wantedBy_71 a_ring a_carried a_latest v_taped v_faultKind v_faultPlace v_x v_ordered v_sought v_lastSought v_hMoved v_hWithout v_tMoved v_tWithout v_places v_elsewhere v_sMany v_bMany v_year y_lies a_rsort a_rmany a_nums pl) H locs → lv_has ls 6 [(0, .ref (ad 0)), (1, .int p1), (2, .int p2)] → W p l e rm_X0_wallFault s m args below meth c H locs 0 0 Q (F0 m 76 ls []) := by
            intro a_wantedBy_71 hxx H locs ls hH hl
            have hF := un1e (kk58_0 a_wantedBy_71 hxx)
            refine lv_iconst (v := 0) hx hb dX0_wallFault_76 kyi_0 ?_
            refine lv_istore_n (lv' := [(3, .int 0), (0, .ref (ad 0)), (1, .int p1), (2, .int p2)]) hx hb dX0_wallFault_77 rfl hl (by decide) rfl (fun ls hl => ?_)
            obtain ⟨xx78, ee78, kk78_0, kk78_1⟩ := bdS2e hF
            have k78_0 : ∀ (a_wants_93 : Nat → Int32) (a_wantedBy_94 : Nat → Int32), xx78 = (.inl (a_wants_93, a_wantedBy_94)) → ∀ (H : Heap) (locs : List Loc) (ls : Array Slot), MH D vwA A s.heap (cW ad cA sA ta ba na gi rh rt g_sort g_size g_from g_to g_level g_full a_tape a_hAt a_hMany a_tAt a_tMany a_least a_place a_to a_order a_fails a_sKeys a_sRow a_sSlots a_bKeys a_bRow a_bSlots a_easy a_wants_93 a_wantedBy_94 a_ring a_carried a_latest v_taped v_faultKind v_faultPlace v_x v_ordered v_sought v_lastSought v_hMoved v_hWithout v_tMoved v_tWithout v_places v_elsewhere v_sMany v_bMany v_year y_lies a_rsort a_rmany a_nums pl) H locs → lv_has ls 6 [] → W p l e rm_X0_wallFault s m args below meth c H locs 0 0 Q (F0 m 120 ls []) := by
              intro a_wants_93 a_wantedBy_94 hxx H locs ls hH hl
              have hF := un2e (kk78_0 (a_wants_93, a_wantedBy_94) hxx)
              refine lv_bipush (v := (-3)) hx hb dX0_wallFault_120 kyb_m3 ?_
              obtain ⟨rfl, rfl, rfl⟩ := re3 hF
              exact hret _ _ _ _ _ rfl hH dX0_wallFault_122
            have k78_1 : ∀ (a_wants_95 : Nat → Int32) (a_wantedBy_96 : Nat → Int32), xx78 = (.inr (a_wants_95, a_wantedBy_96)) → ∀ (H : Heap) (locs : List Loc) (ls : Array Slot), MH D vwA A s.heap (cW ad cA sA ta ba na gi rh rt g_sort g_size g_from g_to g_level g_full a_tape a_hAt a_hMany a_tAt a_tMany a_least a_place a_to a_order a_fails a_sKeys a_sRow a_sSlots a_bKeys a_bRow a_bSlots a_easy a_wants_95 a_wantedBy_96 a_ring a_carried a_latest v_taped v_faultKind v_faultPlace v_x v_ordered v_sought v_lastSought v_hMoved v_hWithout v_tMoved v_tWithout v_places v_elsewhere v_sMany v_bMany v_year y_lies a_rsort a_rmany a_nums pl) H locs → lv_has ls 6 [] → W p l e rm_X0_wallFault s m args below meth c H locs 0 0 Q (F0 m 147 ls []) := by
              intro a_wants_95 a_wantedBy_96 hxx H locs ls hH hl
              have hF := un2e (kk78_1 (a_wants_95, a_wantedBy_96) hxx)
              refine lv_iconst (v := 0) hx hb dX0_wallFault_147 kyi_0 ?_
              obtain ⟨rfl, rfl, rfl⟩ := re3 hF
              exact hret _ _ _ _ _ rfl hH dX0_wallFault_148
            obtain ⟨nn78, en78⟩ := loopC_some ee78
            have l78 : ∀ (n : Nat) (x_81 : Int32) (a_wants_82 : Nat → Int32) (a_wantedBy_83 : Nat → Int32), loopN (fun s => FX0_wallFault_b78 a_rsort a_rmany a_nums p1 p2 s.1 s.2.1 s.2.2) n (x_81, a_wants_82, a_wantedBy_83) = some xx78 → ∀ (H : Heap) (locs : List Loc) (ls : Array Slot), MH D vwA A s.heap (cW ad cA sA ta ba na gi rh rt g_sort g_size g_from g_to g_level g_full a_tape a_hAt a_hMany a_tAt a_tMany a_least a_place a_to a_order a_fails a_sKeys a_sRow a_sSlots a_bKeys a_bRow a_bSlots a_easy a_wants_82 a_wantedBy_83 a_ring a_carried a_latest v_taped v_faultKind v_faultPlace v_x v_ordered v_sought v_lastSought v_hMoved v_hWithout v_tMoved v_tWithout v_places v_elsewhere v_sMany v_bMany v_year y_lies a_rsort a_rmany a_nums pl) H locs → lv_has ls 6 [(0, .ref (ad 0)), (1, .int p1), (2, .int p2), (3, .int x_81)] → W p l e rm_X0_wallFault s m args below meth c H locs 0 0 Q (F0 m 78 ls []) := by
              intro n
              induction n with
              | zero =>
                intro x_81 a_wants_82 a_wantedBy_83 hN
                exact absurd hN loopN_zero
              | succ n ih =>
                intro x_81 a_wants_82 a_wantedBy_83 hN H locs ls hH hl
                obtain ⟨yy78, hB78, hY78⟩ := loopN_succ hN
                have hF : FX0_wallFault_b78 a_rsort a_rmany a_nums p1 p2 x_81 a_wants_82 a_wantedBy_83 = some yy78 := hB78
                delta FX0_wallFault_b78 at hF
                refine lv_iload_n hx hb dX0_wallFault_78 rfl (lv_at hl 3 rfl) ?_
                refine lv_iload_n hx hb dX0_wallFault_79 rfl (lv_at hl 2 rfl) ?_
                refine lv_icmp_ge (tgt := 147) hx hb dX0_wallFault_80 rfl (fun c_84 => ?_) (fun c_84 => ?_)
                · have hF := itp c_84 hF
                  obtain rfl := Option.some.inj hF
                  exact k78_1 a_wants_82 a_wantedBy_83 hY78 _ _ _ hH (lv_sub hl [] rfl)
                · have hF := itn c_84 hF
                  refine lv_aload_n hx hb dX0_wallFault_83 rfl (lv_at hl 0 rfl) ?_
                  refine cg_Y_this_rows hX hK hNW hH dX0_wallFault_84 ?_
                  refine lv_iload_n hx hb dX0_wallFault_87 rfl (lv_at hl 1 rfl) ?_
                  obtain ⟨hg_85, hF⟩ := bd0e hF
                  refine cl_rows hX hK hH hg_85 dX0_wallFault_88 ?_
                  refine lv_iload_n hx hb dX0_wallFault_89 rfl (lv_at hl 3 rfl) ?_
                  obtain ⟨y_86, he, hF⟩ := bd1e hF
                  refine ck_number hPO hX hK hE hE0 hNW hH (alg_lt hg_85) he q1200 hl ⟨Nat.le_of_ble_eq_true rfl, Nat.le_of_ble_eq_true rfl⟩ ⟨Nat.le_of_ble_eq_true rfl, Nat.le_of_ble_eq_true rfl⟩ (Nat.le_of_ble_eq_true rfl) dX0_wallFault_90 (fun H locs hH => ?_)
                  refine lv_lstore (lv' := [(4, .long y_86), (0, .ref (ad 0)), (1, .int p1), (2, .int p2), (3, .int x_81)]) hx hb dX0_wallFault_93 hl (by decide) rfl (fun ls hl => ?_)
                  refine lv_lload hx hb dX0_wallFault_95 (lv_at hl 0 rfl) ?_
                  refine lv_lconst (v := 0) hx hb dX0_wallFault_97 rfl ?_
                  refine lv_iload_n hx hb dX0_wallFault_98 rfl (lv_at hl 3 rfl) ?_
                  refine lv_iconst (v := 1) hx hb dX0_wallFault_99 kyi_1 ?_
                  refine lv_isub hx hb dX0_wallFault_100 ?_
                  refine lv_i2l (v := (Int32.toInt64 (p2 - 1))) hx hb dX0_wallFault_101 rfl ?_
                  obtain ⟨b_87, he, hF⟩ := bd1e hF
                  refine mxS hX hK hEv hE0 hH (met_X0_in hE hPO he) gw_StoneYear_106 hd_yX0_in ⟨Nat.le_of_ble_eq_true rfl, Nat.le_of_ble_eq_true rfl⟩ rfl rfl hl (Nat.le_of_ble_eq_true rfl) dX0_wallFault_102 ⟨Nat.le_of_ble_eq_true rfl, Nat.le_of_ble_eq_true rfl⟩ (fun w2 H locs hw hH => ?_)
                  subst hw
                  refine lv_if_eq (tgt := 120) hx hb dX0_wallFault_105 rfl (fun c_88 => ?_) (fun c_88 => ?_)
                  · have hF := itp c_88 hF
                    obtain rfl := Option.some.inj hF
                    exact k78_0 a_wants_82 a_wantedBy_83 hY78 _ _ _ hH (lv_sub hl [] rfl)
                  · have hF := itn c_88 hF
                    refine lv_aload_n hx hb dX0_wallFault_108 rfl (lv_at hl 1 rfl) ?_
                    refine cg_Y_this_wantedBy hX hK hNW hH dX0_wallFault_109 ?_
                    refine lv_lload hx hb dX0_wallFault_112 (lv_at hl 0 rfl) ?_
                    refine lv_l2i (v := (Int64.toInt32 y_86)) hx hb dX0_wallFault_114 rfl ?_
                    obtain ⟨x_89, he, hF⟩ := bd1e hF
                    refine cl_wantedBy hX hK hH he dX0_wallFault_115 ?_
                    refine lv_iconst (v := (-1)) hx hb dX0_wallFault_116 kyi_m1 ?_
                    refine lv_icmp_eq (tgt := 123) hx hb dX0_wallFault_117 rfl (fun c_90 => ?_) (fun c_90 => ?_)
                    · have hF := itp c_90 hF
                      refine lv_aload_n hx hb dX0_wallFault_123 rfl (lv_at hl 1 rfl) ?_
                      refine cg_Y_this_wants hX hK hNW hH dX0_wallFault_124 ?_
                      refine lv_iload_n hx hb dX0_wallFault_127 rfl (lv_at hl 4 rfl) ?_
                      refine lv_lload hx hb dX0_wallFault_128 (lv_at hl 0 rfl) ?_
                      refine lv_l2i (v := (Int64.toInt32 y_86)) hx hb dX0_wallFault_130 rfl ?_
                      obtain ⟨a_wants_91, he, hF⟩ := bd1e hF
                      refine cs_wants hX hK hH he dX0_wallFault_131 (fun H locs hH => ?_)
                      refine lv_aload_n hx hb dX0_wallFault_132 rfl (lv_at hl 1 rfl) ?_
                      refine cg_Y_this_wantedBy hX hK hNW hH dX0_wallFault_133 ?_
                      refine lv_lload hx hb dX0_wallFault_136 (lv_at hl 0 rfl) ?_
                      refine lv_l2i (v := (Int64.toInt32 y_86)) hx hb dX0_wallFault_138 rfl ?_
                      refine lv_iload_n hx hb dX0_wallFault_139 rfl (lv_at hl 4 rfl) ?_
                      obtain ⟨a_wantedBy_92, he, hF⟩ := bd1e hF
                      refine cs_wantedBy hX hK hH he dX0_wallFault_140 (fun H locs hH => ?_)
                      refine lv_iinc (v := (x_81 + 1)) (lv' := [(3, .int (x_81 + 1)), (4, .long y_86), (0, .ref (ad 0)), (1, .int p1), (2, .int p2)]) hx hb dX0_wallFault_141 hl (k := 4) rfl (syc kyi_1) (by decide) rfl (fun ls hl => ?_)
                      refine lv_goto (tgt := 78) hx hb dX0_wallFault_144 rfl ?_
                      obtain rfl := Option.some.inj hF
                      exact ih (x_81 + 1) a_wants_91 a_wantedBy_92 hY78 _ _ _ hH (lv_sub hl [2, 3, 4, 0] rfl)
                    · have hF := itn c_90 hF
                      obtain rfl := Option.some.inj hF
                      exact k78_0 a_wants_82 a_wantedBy_83 hY78 _ _ _ hH (lv_sub hl [] rfl)
            exact l78 nn78 0 a_wants a_wantedBy_71 en78 _ _ _ hH (lv_sub hl [1, 2, 3, 0] rfl)
          obtain ⟨nn58, en58⟩ := loopC_some ee58
          have l58 : ∀ (n : Nat) (x_67 : Int32) (a_wantedBy_68 : Nat → Int32), loopN (fun s => FX0_wallFault_b58 p2 s.1 s.2) n (x_67, a_wantedBy_68) = some xx58 → ∀ (H : Heap) (locs : List Loc) (ls : Array Slot), MH D vwA A s.heap (cW ad cA sA ta ba na gi rh rt g_sort g_size g_from g_to g_level g_full a_tape a_hAt a_hMany a_tAt a_tMany a_least a_place a_to a_order a_fails a_sKeys a_sRow a_sSlots a_bKeys a_bRow a_bSlots a_easy a_wants a_wantedBy_68 a_ring a_carried a_latest v_taped v_faultKind v_faultPlace v_x v_ordered v_sought v_lastSought v_hMoved v_hWithout v_tMoved v_tWithout v_places v_elsewhere v_sMany v_bMany v_year y_lies a_rsort a_rmany a_nums pl) H locs → lv_has ls 6 [(0, .ref (ad 0)), (1, .int p1), (2, .int p2), (3, .int x_67)] → W p l e rm_X0_wallFault s m args below meth c H locs 0 0 Q (F0 m 58 ls []) := by
            intro n
            induction n with
            | zero =>
              intro x_67 a_wantedBy_68 hN
              exact absurd hN loopN_zero
            | succ n ih =>
              intro x_67 a_wantedBy_68 hN H locs ls hH hl
              obtain ⟨yy58, hB58, hY58⟩ := loopN_succ hN
              have hF : FX0_wallFault_b58 p2 x_67 a_wantedBy_68 = some yy58 := hB58
              delta FX0_wallFault_b58 at hF
              refine lv_iload_n hx hb dX0_wallFault_58 rfl (lv_at hl 3 rfl) ?_
              refine lv_iload_n hx hb dX0_wallFault_59 rfl (lv_at hl 2 rfl) ?_
              refine lv_icmp_ge (tgt := 76) hx hb dX0_wallFault_60 rfl (fun c_69 => ?_) (fun c_69 => ?_)
              · have hF := itp c_69 hF
                obtain rfl := Option.some.inj hF
                exact k58_0 a_wantedBy_68 hY58 _ _ _ hH (lv_sub hl [0, 1, 2] rfl)
              · have hF := itn c_69 hF
                refine lv_aload_n hx hb dX0_wallFault_63 rfl (lv_at hl 0 rfl) ?_
                refine cg_Y_this_wantedBy hX hK hNW hH dX0_wallFault_64 ?_
                refine lv_iload_n hx hb dX0_wallFault_67 rfl (lv_at hl 3 rfl) ?_
                refine lv_iconst (v := (-1)) hx hb dX0_wallFault_68 kyi_m1 ?_
                obtain ⟨a_wantedBy_70, he, hF⟩ := bd1e hF
                refine cs_wantedBy hX hK hH he dX0_wallFault_69 (fun H locs hH => ?_)
                refine lv_iinc (v := (x_67 + 1)) (lv' := [(3, .int (x_67 + 1)), (0, .ref (ad 0)), (1, .int p1), (2, .int p2)]) hx hb dX0_wallFault_70 hl (k := 3) rfl (syc kyi_1) (by decide) rfl (fun ls hl => ?_)
                refine lv_goto (tgt := 58) hx hb dX0_wallFault_73 rfl ?_
                obtain rfl := Option.some.inj hF
                exact ih (x_67 + 1) a_wantedBy_70 hY58 _ _ _ hH (lv_sub hl [1, 2, 3, 0] rfl)
          exact l58 nn58 0 a_wantedBy en58 _ _ _ hH (lv_sub hl [1, 2, 3, 0] rfl)
        · have hF := itn c_64 hF
          refine lv_bipush (v := (-7)) hx hb dX0_wallFault_53 kyb_m7 ?_
          obtain ⟨rfl, rfl, rfl⟩ := re3 hF
          exact hret _ _ _ _ _ rfl hH dX0_wallFault_55
      · have hF := itp c_61 hF
        refine lv_bipush (v := (-6)) hx hb dX0_wallFault_37 kyb_m6 ?_
        obtain ⟨rfl, rfl, rfl⟩ := re3 hF
        exact hret _ _ _ _ _ rfl hH dX0_wallFault_39
    · have hF := itp c_59 hF
      refine lv_bipush (v := (-3)) hx hb dX0_wallFault_22 kyb_m3 ?_
      obtain ⟨rfl, rfl, rfl⟩ := re3 hF
      exact hret _ _ _ _ _ rfl hH dX0_wallFault_24
  · have hF := itp c_57 hF
    refine lv_bipush (v := (-2)) hx hb dX0_wallFault_7 kyb_m2 ?_
    obtain ⟨rfl, rfl, rfl⟩ := re3 hF
    exact hret _ _ _ _ _ rfl hH dX0_wallFault_9
abbrev rm_X0_wallYears : Room := { frames := 1, cells := 0, slots := 0, locals := 70 }
set_option maxHeartbeats 4000000 in
theorem met_X0_wallYears {l : Launch} {D : va_G} {ad : Nat → Nat} {cA : Nat → ClassId} {sA ta ba na : Nat → Nat} {gi : Nat → Option Nat} {rh : Option Nat} {rt : Option Nat} {g_sort : Int32} {g_size : Int32} {g_from : Int32} {g_to : Int32} {g_level : Int32} {g_full : Int32} {a_tape : Nat → Int32} {a_hAt : Nat → Int32} {a_hMany : Nat → Int32} {a_tAt : Nat → Int32} {a_tMany : Nat → Int32} {a_least : Nat → Int32} {a_place : Nat → Int32} {a_to : Nat → Int32} {a_order : Nat → Int32} {a_fails : Nat → Int32} {a_sKeys : Nat → Int64} {a_sRow : Nat → Int64} {a_sSlots : Nat → Int32} {a_bKeys : Nat → Int64} {a_bRow : Nat → Int64} {a_bSlots : Nat → Int32} {a_easy : Nat → Int32} {a_wants : Nat → Int32} {a_wantedBy : Nat → Int32} {a_ring : Nat → Int32} {a_carried : Nat → Int32} {a_latest : Nat → Int32} {v_taped : Int32} {v_faultKind : Int32} {v_faultPlace : Int32} {v_x : Int32} {v_ordered : Int32} {v_sought : Int32} {v_lastSought : Int32} {v_hMoved : Int32} {v_hWithout : Int32} {v_tMoved : Int32} {v_tWithout : Int32} {v_places : Int32} {v_elsewhere : Int32} {v_sMany : Int32} {v_bMany : Int32} {v_year : Int32} {y_lies : Int64} {a_rsort : Nat → Int32} {a_rmany : Nat → Int32} {a_nums : Nat → Nat → Int64} {t : Nat → Int32} {nb : Int32} {bv : Nat → Int32 → Int32 → Int32 → Int32 → Int32 → Int32 → Bool} {pl : va_W}  {p1 : Int32} {res : Int32} {E : EvT} (hE : EvN E) (hPO : PO cA pl ta ba t nb bv) (hF : FX0_wallYears a_wants p1 = some res) : MX l yX0_wallYears (ws_ yX0_wallYears cX0_wallYears 4 (Option.some Jvm.ClassFile.FieldType.int)) rm_X0_wallYears D vwA (cT cA) E [.ref (ad 0), .int p1] (cW ad cA sA ta ba na gi rh rt g_sort g_size g_from g_to g_level g_full a_tape a_hAt a_hMany a_tAt a_tMany a_least a_place a_to a_order a_fails a_sKeys a_sRow a_sSlots a_bKeys a_bRow a_bSlots a_easy a_wants a_wantedBy a_ring a_carried a_latest v_taped v_faultKind v_faultPlace v_x v_ordered v_sought v_lastSought v_hMoved v_hWithout v_tMoved v_tWithout v_places v_elsewhere v_sMany v_bMany v_year y_lies a_rsort a_rmany a_nums pl) (fun z => z = (cW ad cA sA ta ba na gi rh rt g_sort g_size g_from g_to g_level g_full a_tape a_hAt a_hMany a_tAt a_tMany a_least a_place a_to a_order a_fails a_sKeys a_sRow a_sSlots a_bKeys a_bRow a_bSlots a_easy a_wants a_wantedBy a_ring a_carried a_latest v_taped v_faultKind v_faultPlace v_x v_ordered v_sought v_lastSought v_hMoved v_hWithout v_tMoved v_tWithout v_places v_elsewhere v_sMany v_bMany v_year y_lies a_rsort a_rmany a_nums pl)) (some (.int res)) := by
  refine MX.ofI (by decide) (Nat.le_of_ble_eq_true rfl) ?_
  intro p e s m args below meth c Q A hX hK hE0 hname hret H locs ls hH hl
  have hX : CallFix p m c cX0_wallYears 4 s args lw_all RX0 := hX
  have hx := hX.1
  have hb := hX.2.1
  have hown := hX.2.2.2.1
  have hts := hX.2.2.2.2
  have hl : lv_has ls 4 [(0, .ref (ad 0)), (1, .int p1)] := hl
  have hEv := hE.1
  have hNW := hE.2.1 _ _ _ hE0
  have hT := hPO.1
  have hB := hPO.2
  delta FX0_wallYears at hF
  refine lv_iconst (v := 0) hx hb dX0_wallYears_0 kyi_0 ?_
  refine lv_istore_n (lv' := [(2, .int 0), (0, .ref (ad 0)), (1, .int p1)]) hx hb dX0_wallYears_1 rfl hl (by decide) rfl (fun ls hl => ?_)
  refine lv_iconst (v := 0) hx hb dX0_wallYears_2 kyi_0 ?_
  refine lv_istore_n (lv' := [(3, .int 0), (2, .int 0), (0, .ref (ad 0)), (1, .int p1)]) hx hb dX0_wallYears_3 rfl hl (by decide) rfl (fun ls hl => ?_)
  obtain ⟨xx4, ee4, kk4_0⟩ := bd1L hF
  have k4_0 : ∀ (x_73 : Int32), xx4 = x_73 → ∀ (H : Heap) (locs : List Loc) (ls : Array Slot), MH D vwA A s.heap (cW ad cA sA ta ba na gi rh rt g_sort g_size g_from g_to g_level g_full a_tape a_hAt a_hMany a_tAt a_tMany a_least a_place a_to a_order a_fails a_sKeys a_sRow a_sSlots a_bKeys a_bRow a_bSlots a_easy a_wants a_wantedBy a_ring a_carried a_latest v_taped v_faultKind v_faultPlace v_x v_ordered v_sought v_lastSought v_hMoved v_hWithout v_tMoved v_tWithout v_places v_elsewhere v_sMany v_bMany v_year y_lies a_rsort a_rmany a_nums pl) H locs → lv_has ls 4 [(2, .int x_73)] → W p l e rm_X0_wallYears s m args below meth c H locs 0 0 Q (F0 m 50 ls []) := by
    intro x_73 hxx H locs ls hH hl
    have hF := un1e (kk4_0 x_73 hxx)
    refine lv_iload_n hx hb dX0_wallYears_50 rfl (lv_at hl 0 rfl) ?_
    obtain rfl := Option.some.inj hF
    exact hret _ _ _ _ _ rfl hH dX0_wallYears_51
  obtain ⟨nn4, en4⟩ := loopC_some ee4
  have l4 : ∀ (n : Nat) (x_63 : Int32) (x_64 : Int32), loopN (fun s => FX0_wallYears_b4 a_wants p1 s.1 s.2) n (x_63, x_64) = some xx4 → ∀ (H : Heap) (locs : List Loc) (ls : Array Slot), MH D vwA A s.heap (cW ad cA sA ta ba na gi rh rt g_sort g_size g_from g_to g_level g_full a_tape a_hAt a_hMany a_tAt a_tMany a_least a_place a_to a_order a_fails a_sKeys a_sRow a_sSlots a_bKeys a_bRow a_bSlots a_easy a_wants a_wantedBy a_ring a_carried a_latest v_taped v_faultKind v_faultPlace v_x v_ordered v_sought v_lastSought v_hMoved v_hWithout v_tMoved v_tWithout v_places v_elsewhere v_sMany v_bMany v_year y_lies a_rsort a_rmany a_nums pl) H locs → lv_has ls 4 [(0, .ref (ad 0)), (1, .int p1), (2, .int x_63), (3, .int x_64)] → W p l e rm_X0_wallYears s m args below meth c H locs 0 0 Q (F0 m 4 ls []) := by
    intro n
    induction n with
    | zero =>
      intro x_63 x_64 hN
      exact absurd hN loopN_zero
    | succ n ih =>
      intro x_63 x_64 hN H locs ls hH hl
      obtain ⟨yy4, hB4, hY4⟩ := loopN_succ hN
      have hF : FX0_wallYears_b4 a_wants p1 x_63 x_64 = some yy4 := hB4
      delta FX0_wallYears_b4 at hF
      refine lv_iload_n hx hb dX0_wallYears_4 rfl (lv_at hl 3 rfl) ?_
      refine lv_iload_n hx hb dX0_wallYears_5 rfl (lv_at hl 1 rfl) ?_
      refine lv_icmp_ge (tgt := 50) hx hb dX0_wallYears_6 rfl (fun c_65 => ?_) (fun c_65 => ?_)
      · have hF := itp c_65 hF
        obtain rfl := Option.some.inj hF
        exact k4_0 x_63 hY4 _ _ _ hH (lv_sub hl [2] rfl)
      · have hF := itn c_65 hF
        refine lv_aload_n hx hb dX0_wallYears_9 rfl (lv_at hl 0 rfl) ?_
        refine cg_Y_this_wants hX hK hNW hH dX0_wallYears_10 ?_
        refine lv_iload_n hx hb dX0_wallYears_13 rfl (lv_at hl 3 rfl) ?_
        obtain ⟨x_66, he, hF⟩ := bd1e hF
        refine cl_wants hX hK hH he dX0_wallYears_14 ?_
        refine lv_iload_n hx hb dX0_wallYears_15 rfl (lv_at hl 3 rfl) ?_
        have j44 : ∀ (x_72 : Int32), FX0_wallYears_j44 x_64 x_72 = some yy4 → ∀ (H : Heap) (locs : List Loc) (ls : Array Slot), MH D vwA A s.heap (cW ad cA sA ta ba na gi rh rt g_sort g_size g_from g_to g_level g_full a_tape a_hAt a_hMany a_tAt a_tMany a_least a_place a_to a_order a_fails a_sKeys a_sRow a_sSlots a_bKeys a_bRow a_bSlots a_easy a_wants a_wantedBy a_ring a_carried a_latest v_taped v_faultKind v_faultPlace v_x v_ordered v_sought v_lastSought v_hMoved v_hWithout v_tMoved v_tWithout v_places v_elsewhere v_sMany v_bMany v_year y_lies a_rsort a_rmany a_nums pl) H locs → lv_has ls 4 [(0, .ref (ad 0)), (1, .int p1), (2, .int x_72), (3, .int x_64)] → W p l e rm_X0_wallYears s m args below meth c H locs 0 0 Q (F0 m 44 ls []) := by
          intro x_72 hF H locs ls hH hl
          delta FX0_wallYears_j44 at hF
          refine lv_iinc (v := (x_64 + 1)) (lv' := [(3, .int (x_64 + 1)), (0, .ref (ad 0)), (1, .int p1), (2, .int x_72)]) hx hb dX0_wallYears_44 hl (k := 3) rfl (syc kyi_1) (by decide) rfl (fun ls hl => ?_)
          refine lv_goto (tgt := 4) hx hb dX0_wallYears_47 rfl ?_
          obtain rfl := Option.some.inj hF
          exact ih x_72 (x_64 + 1) hY4 _ _ _ hH (lv_sub hl [1, 2, 3, 0] rfl)
        refine lv_icmp_eq (tgt := 44) hx hb dX0_wallYears_16 rfl (fun c_67 => ?_) (fun c_67 => ?_)
        · have hF := itp c_67 hF
          exact j44 x_63 hF _ _ _ hH (lv_sub hl [0, 1, 2, 3] rfl)
        · have hF := itn c_67 hF
          refine lv_iload_n hx hb dX0_wallYears_19 rfl (lv_at hl 2 rfl) ?_
          refine lv_aload_n hx hb dX0_wallYears_20 rfl (lv_at hl 0 rfl) ?_
          refine cg_Y_this_wants hX hK hNW hH dX0_wallYears_21 ?_
          refine lv_aload_n hx hb dX0_wallYears_24 rfl (lv_at hl 0 rfl) ?_
          refine cg_Y_this_wants hX hK hNW hH dX0_wallYears_25 ?_
          refine lv_iload_n hx hb dX0_wallYears_28 rfl (lv_at hl 3 rfl) ?_
          obtain ⟨x_68, he, hF⟩ := bd1e hF
          refine cl_wants hX hK hH he dX0_wallYears_29 ?_
          obtain ⟨x_69, he, hF⟩ := bd1e hF
          refine cl_wants hX hK hH he dX0_wallYears_30 ?_
          refine lv_iload_n hx hb dX0_wallYears_31 rfl (lv_at hl 3 rfl) ?_
          have j40 : ∀ (x_71 : Int32), FX0_wallYears_j40 x_63 x_64 x_71 = some yy4 → ∀ (H : Heap) (locs : List Loc) (ls : Array Slot), MH D vwA A s.heap (cW ad cA sA ta ba na gi rh rt g_sort g_size g_from g_to g_level g_full a_tape a_hAt a_hMany a_tAt a_tMany a_least a_place a_to a_order a_fails a_sKeys a_sRow a_sSlots a_bKeys a_bRow a_bSlots a_easy a_wants a_wantedBy a_ring a_carried a_latest v_taped v_faultKind v_faultPlace v_x v_ordered v_sought v_lastSought v_hMoved v_hWithout v_tMoved v_tWithout v_places v_elsewhere v_sMany v_bMany v_year y_lies a_rsort a_rmany a_nums pl) H locs → lv_has ls 4 [(0, .ref (ad 0)), (1, .int p1), (3, .int x_64)] → W p l e rm_X0_wallYears s m args below meth c H locs 0 0 Q (F0 m 40 ls [.int x_71, .int x_63]) := by
            intro x_71 hF H locs ls hH hl
            delta FX0_wallYears_j40 at hF
            refine cm_max hX hl (hts _ q1367) dX0_wallYears_40 (Nat.le_of_ble_eq_true rfl) (Nat.le_of_ble_eq_true rfl) (Nat.le_of_ble_eq_true rfl) (Nat.le_of_ble_eq_true rfl) ?_
            refine lv_istore_n (lv' := [(2, .int (mxI x_63 x_71)), (0, .ref (ad 0)), (1, .int p1), (3, .int x_64)]) hx hb dX0_wallYears_43 rfl hl (by decide) rfl (fun ls hl => ?_)
            exact j44 (mxI x_63 x_71) hF _ _ _ hH (lv_sub hl [1, 2, 0, 3] rfl)
          refine lv_icmp_ne (tgt := 39) hx hb dX0_wallYears_32 rfl (fun c_70 => ?_) (fun c_70 => ?_)
          · have hF := itn c_70 hF
            refine lv_iconst (v := 2) hx hb dX0_wallYears_39 kyi_2 ?_
            exact j40 2 hF _ _ _ hH (lv_sub hl [0, 1, 3] rfl)
          · have hF := itp c_70 hF
            refine lv_iconst (v := 1) hx hb dX0_wallYears_35 kyi_1 ?_
            refine lv_goto (tgt := 40) hx hb dX0_wallYears_36 rfl ?_
            exact j40 1 hF _ _ _ hH (lv_sub hl [0, 1, 3] rfl)
  exact l4 nn4 0 0 en4 _ _ _ hH (lv_sub hl [2, 3, 1, 0] rfl)
abbrev rm_X0_wall : Room := { frames := 4, cells := 0, slots := 0, locals := 125 }
set_option maxHeartbeats 4000000 in
theorem met_X0_wall {l : Launch} {D : va_G} {ad : Nat → Nat} {cA : Nat → ClassId} {sA ta ba na : Nat → Nat} {gi : Nat → Option Nat} {rh : Option Nat} {rt : Option Nat} {g_sort : Int32} {g_size : Int32} {g_from : Int32} {g_to : Int32} {g_level : Int32} {g_full : Int32} {a_tape : Nat → Int32} {a_hAt : Nat → Int32} {a_hMany : Nat → Int32} {a_tAt : Nat → Int32} {a_tMany : Nat → Int32} {a_least : Nat → Int32} {a_place : Nat → Int32} {a_to : Nat → Int32} {a_order : Nat → Int32} {a_fails : Nat → Int32} {a_sKeys : Nat → Int64} {a_sRow : Nat → Int64} {a_sSlots : Nat → Int32} {a_bKeys : Nat → Int64} {a_bRow : Nat → Int64} {a_bSlots : Nat → Int32} {a_easy : Nat → Int32} {a_wants : Nat → Int32} {a_wantedBy : Nat → Int32} {a_ring : Nat → Int32} {a_carried : Nat → Int32} {a_latest : Nat → Int32} {v_taped : Int32} {v_faultKind : Int32} {v_faultPlace : Int32} {v_x : Int32} {v_ordered : Int32} {v_sought : Int32} {v_lastSought : Int32} {v_hMoved : Int32} {v_hWithout : Int32} {v_tMoved : Int32} {v_tWithout : Int32} {v_places : Int32} {v_elsewhere : Int32} {v_sMany : Int32} {v_bMany : Int32} {v_year : Int32} {y_lies : Int64} {a_rsort : Nat → Int32} {a_rmany : Nat → Int32} {a_nums : Nat → Nat → Int64} {t : Nat → Int32} {nb : Int32} {bv : Nat → Int32 → Int32 → Int32 → Int32 → Int32 → Int32 → Bool} {pl : va_W}  {p1 : Int32} {p2 : Int32} {res : Int32} {ra_wants : Nat → Int32} {ra_wantedBy : Nat → Int32} {E : EvT} (hE : EvN E) (hPO : PO cA pl ta ba t nb bv) (hF : FX0_wall a_wants a_wantedBy a_rsort a_rmany a_nums p1 p2 = some (res, ra_wants, ra_wantedBy)) : MX l yX0_wall (ws_ yX0_wall cX0_wall 4 (Option.some Jvm.ClassFile.FieldType.int)) rm_X0_wall D vwA (cT cA) E [.ref (ad 0), .int p1, .int p2] (cW ad cA sA ta ba na gi rh rt g_sort g_size g_from g_to g_level g_full a_tape a_hAt a_hMany a_tAt a_tMany a_least a_place a_to a_order a_fails a_sKeys a_sRow a_sSlots a_bKeys a_bRow a_bSlots a_easy a_wants a_wantedBy a_ring a_carried a_latest v_taped v_faultKind v_faultPlace v_x v_ordered v_sought v_lastSought v_hMoved v_hWithout v_tMoved v_tWithout v_places v_elsewhere v_sMany v_bMany v_year y_lies a_rsort a_rmany a_nums pl) (fun z => z = (cW ad cA sA ta ba na gi rh rt g_sort g_size g_from g_to g_level g_full a_tape a_hAt a_hMany a_tAt a_tMany a_least a_place a_to a_order a_fails a_sKeys a_sRow a_sSlots a_bKeys a_bRow a_bSlots a_easy ra_wants ra_wantedBy a_ring a_carried a_latest v_taped v_faultKind v_faultPlace v_x v_ordered v_sought v_lastSought v_hMoved v_hWithout v_tMoved v_tWithout v_places v_elsewhere v_sMany v_bMany v_year y_lies a_rsort a_rmany a_nums pl)) (some (.int res)) := by
  refine MX.ofI (by decide) (Nat.le_of_ble_eq_true rfl) ?_
  intro p e s m args below meth c Q A hX hK hE0 hname hret H locs ls hH hl
  have hX : CallFix p m c cX0_wall 4 s args lw_all RX0 := hX
  have hx := hX.1
  have hb := hX.2.1
  have hown := hX.2.2.2.1
  have hts := hX.2.2.2.2
  have hl : lv_has ls 4 [(0, .ref (ad 0)), (1, .int p1), (2, .int p2)] := hl
  have hEv := hE.1
  have hNW := hE.2.1 _ _ _ hE0
  have hT := hPO.1
  have hB := hPO.2
  delta FX0_wall at hF
  refine lv_aload_n hx hb dX0_wall_0 rfl (lv_at hl 0 rfl) ?_
  refine lv_iload_n hx hb dX0_wall_1 rfl (lv_at hl 1 rfl) ?_
  refine lv_iload_n hx hb dX0_wall_2 rfl (lv_at hl 2 rfl) ?_
  obtain ⟨x_56, a_wants_57, a_wantedBy_58, he, hF⟩ := bd3e hF
  refine mxV hX hK hEv hE0 hH (met_X0_wallFault hE hPO he) (crecv hK hH 0 0 rfl rfl) gw_StoneYear_487 hd_yX0_wallFault ⟨Nat.le_of_ble_eq_true rfl, Nat.le_of_ble_eq_true rfl⟩ rfl rfl hl (Nat.le_of_ble_eq_true rfl) dX0_wall_3 ⟨Nat.le_of_ble_eq_true rfl, Nat.le_of_ble_eq_true rfl⟩ (fun w2 H locs hw hH => ?_)
  subst hw
  refine lv_istore_n (lv' := [(3, .int x_56), (0, .ref (ad 0)), (1, .int p1), (2, .int p2)]) hx hb dX0_wall_6 rfl hl (by decide) rfl (fun ls hl => ?_)
  refine lv_iload_n hx hb dX0_wall_7 rfl (lv_at hl 0 rfl) ?_
  refine lv_if_eq (tgt := 15) hx hb dX0_wall_8 rfl (fun c_59 => ?_) (fun c_59 => ?_)
  · have hF := itp c_59 hF
    refine lv_aload_n hx hb dX0_wall_15 rfl (lv_at hl 1 rfl) ?_
    refine lv_iload_n hx hb dX0_wall_16 rfl (lv_at hl 3 rfl) ?_
    obtain ⟨x_60, he, hF⟩ := bd1e hF
    refine mxV hX hK hEv hE0 hH (met_X0_wallYears hE hPO he) (crecv hK hH 0 0 rfl rfl) gw_StoneYear_490 hd_yX0_wallYears ⟨Nat.le_of_ble_eq_true rfl, Nat.le_of_ble_eq_true rfl⟩ rfl rfl hl (Nat.le_of_ble_eq_true rfl) dX0_wall_17 ⟨Nat.le_of_ble_eq_true rfl, Nat.le_of_ble_eq_true rfl⟩ (fun w2 H locs hw hH => ?_)
    subst hw
    obtain ⟨rfl, rfl, rfl⟩ := re3 hF
    exact hret _ _ _ _ _ rfl hH dX0_wall_20
  · have hF := itn c_59 hF
    refine lv_iload_n hx hb dX0_wall_11 rfl (lv_at hl 0 rfl) ?_
    refine lv_goto (tgt := 20) hx hb dX0_wall_12 rfl ?_
    obtain ⟨rfl, rfl, rfl⟩ := re3 hF
    exact hret _ _ _ _ _ rfl hH dX0_wall_20
abbrev rm_X0_inRing : Room := { frames := 1, cells := 0, slots := 0, locals := 70 }
set_option maxHeartbeats 4000000 in
theorem met_X0_inRing {l : Launch} {D : va_G} {ad : Nat → Nat} {cA : Nat → ClassId} {sA ta ba na : Nat → Nat} {gi : Nat → Option Nat} {rh : Option Nat} {rt : Option Nat} {g_sort : Int32} {g_size : Int32} {g_from : Int32} {g_to : Int32} {g_level : Int32} {g_full : Int32} {a_tape : Nat → Int32} {a_hAt : Nat → Int32} {a_hMany : Nat → Int32} {a_tAt : Nat → Int32} {a_tMany : Nat → Int32} {a_least : Nat → Int32} {a_place : Nat → Int32} {a_to : Nat → Int32} {a_order : Nat → Int32} {a_fails : Nat → Int32} {a_sKeys : Nat → Int64} {a_sRow : Nat → Int64} {a_sSlots : Nat → Int32} {a_bKeys : Nat → Int64} {a_bRow : Nat → Int64} {a_bSlots : Nat → Int32} {a_easy : Nat → Int32} {a_wants : Nat → Int32} {a_wantedBy : Nat → Int32} {a_ring : Nat → Int32} {a_carried : Nat → Int32} {a_latest : Nat → Int32} {v_taped : Int32} {v_faultKind : Int32} {v_faultPlace : Int32} {v_x : Int32} {v_ordered : Int32} {v_sought : Int32} {v_lastSought : Int32} {v_hMoved : Int32} {v_hWithout : Int32} {v_tMoved : Int32} {v_tWithout : Int32} {v_places : Int32} {v_elsewhere : Int32} {v_sMany : Int32} {v_bMany : Int32} {v_year : Int32} {y_lies : Int64} {a_rsort : Nat → Int32} {a_rmany : Nat → Int32} {a_nums : Nat → Nat → Int64} {t : Nat → Int32} {nb : Int32} {bv : Nat → Int32 → Int32 → Int32 → Int32 → Int32 → Int32 → Bool} {pl : va_W}  {p1 : Int32} {p2 : Int32} {res : Int32} {ra_ring : Nat → Int32} {E : EvT} (hE : EvN E) (hPO : PO cA pl ta ba t nb bv) (hF : FX0_inRing a_wants a_ring p1 p2 = some (res, ra_ring)) : MX l yX0_inRing (ws_ yX0_inRing cX0_inRing 8 (Option.some Jvm.ClassFile.FieldType.int)) rm_X0_inRing D vwA (cT cA) E [.ref (ad 0), .int p1, .int p2] (cW ad cA sA ta ba na gi rh rt g_sort g_size g_from g_to g_level g_full a_tape a_hAt a_hMany a_tAt a_tMany a_least a_place a_to a_order a_fails a_sKeys a_sRow a_sSlots a_bKeys a_bRow a_bSlots a_easy a_wants a_wantedBy a_ring a_carried a_latest v_taped v_faultKind v_faultPlace v_x v_ordered v_sought v_lastSought v_hMoved v_hWithout v_tMoved v_tWithout v_places v_elsewhere v_sMany v_bMany v_year y_lies a_rsort a_rmany a_nums pl) (fun z => z = (cW ad cA sA ta ba na gi rh rt g_sort g_size g_from g_to g_level g_full a_tape a_hAt a_hMany a_tAt a_tMany a_least a_place a_to a_order a_fails a_sKeys a_sRow a_sSlots a_bKeys a_bRow a_bSlots a_easy a_wants a_wantedBy ra_ring a_carried a_latest v_taped v_faultKind v_faultPlace v_x v_ordered v_sought v_lastSought v_hMoved v_hWithout v_tMoved v_tWithout v_places v_elsewhere v_sMany v_bMany v_year y_lies a_rsort a_rmany a_nums pl)) (some (.int res)) := by
  refine MX.ofI (by decide) (Nat.le_of_ble_eq_true rfl) ?_
  intro p e s m args below meth c Q A hX hK hE0 hname hret H locs ls hH hl
  have hX : CallFix p m c cX0_inRing 8 s args lw_all RX0 := hX
  have hx := hX.1
  have hb := hX.2.1
  have hown := hX.2.2.2.1
  have hts := hX.2.2.2.2
  have hl : lv_has ls 8 [(0, .ref (ad 0)), (1, .int p1), (2, .int p2)] := hl
  have hEv := hE.1
  have hNW := hE.2.1 _ _ _ hE0
  have hT := hPO.1
  have hB := hPO.2
  delta FX0_inRing at hF
  refine lv_iload_n hx hb dX0_inRing_0 rfl (lv_at hl 1 rfl) ?_
  refine lv_istore_n (lv' := [(3, .int p1), (0, .ref (ad 0)), (1, .int p1), (2, .int p2)]) hx hb dX0_inRing_1 rfl hl (by decide) rfl (fun ls hl => ?_)
  refine lv_aload_n hx hb dX0_inRing_2 rfl (lv_at hl 1 rfl) ?_
  refine cg_Y_this_wants hX hK hNW hH dX0_inRing_3 ?_
  refine lv_iload_n hx hb dX0_inRing_6 rfl (lv_at hl 2 rfl) ?_
  obtain ⟨x_56, he, hF⟩ := bd1e hF
  refine cl_wants hX hK hH he dX0_inRing_7 ?_
  refine lv_istore (lv' := [(4, .int x_56), (3, .int p1), (0, .ref (ad 0)), (1, .int p1), (2, .int p2)]) hx hb dX0_inRing_8 hl (by decide) rfl (fun ls hl => ?_)
  obtain ⟨xx10, ee10, kk10_0⟩ := bd1L hF
  have k10_0 : ∀ (x_63 : Int32), xx10 = x_63 → ∀ (H : Heap) (locs : List Loc) (ls : Array Slot), MH D vwA A s.heap (cW ad cA sA ta ba na gi rh rt g_sort g_size g_from g_to g_level g_full a_tape a_hAt a_hMany a_tAt a_tMany a_least a_place a_to a_order a_fails a_sKeys a_sRow a_sSlots a_bKeys a_bRow a_bSlots a_easy a_wants a_wantedBy a_ring a_carried a_latest v_taped v_faultKind v_faultPlace v_x v_ordered v_sought v_lastSought v_hMoved v_hWithout v_tMoved v_tWithout v_places v_elsewhere v_sMany v_bMany v_year y_lies a_rsort a_rmany a_nums pl) H locs → lv_has ls 8 [(0, .ref (ad 0)), (1, .int p1), (2, .int p2), (3, .int x_63)] → W p l e rm_X0_inRing s m args below meth c H locs 0 0 Q (F0 m 35 ls []) := by
    intro x_63 hxx H locs ls hH hl
    have hF := un1e (kk10_0 x_63 hxx)
    refine lv_iconst (v := 0) hx hb dX0_inRing_35 kyi_0 ?_
    refine lv_istore (lv' := [(4, .int 0), (0, .ref (ad 0)), (1, .int p1), (2, .int p2), (3, .int x_63)]) hx hb dX0_inRing_36 hl (by decide) rfl (fun ls hl => ?_)
    refine lv_iconst (v := 0) hx hb dX0_inRing_38 kyi_0 ?_
    refine lv_istore (lv' := [(5, .int 0), (4, .int 0), (0, .ref (ad 0)), (1, .int p1), (2, .int p2), (3, .int x_63)]) hx hb dX0_inRing_39 hl (by decide) rfl (fun ls hl => ?_)
    refine lv_iload_n hx hb dX0_inRing_41 rfl (lv_at hl 5 rfl) ?_
    refine lv_istore (lv' := [(6, .int x_63), (5, .int 0), (4, .int 0), (0, .ref (ad 0)), (1, .int p1), (2, .int p2), (3, .int x_63)]) hx hb dX0_inRing_42 hl (by decide) rfl (fun ls hl => ?_)
    obtain ⟨xx44, ee44, kk44_0⟩ := bd3L hF
    have k44_0 : ∀ (x_85 : Int32) (x_86 : Int32) (a_ring_87 : Nat → Int32), xx44 = (x_85, x_86, a_ring_87) → ∀ (H : Heap) (locs : List Loc) (ls : Array Slot), MH D vwA A s.heap (cW ad cA sA ta ba na gi rh rt g_sort g_size g_from g_to g_level g_full a_tape a_hAt a_hMany a_tAt a_tMany a_least a_place a_to a_order a_fails a_sKeys a_sRow a_sSlots a_bKeys a_bRow a_bSlots a_easy a_wants a_wantedBy a_ring_87 a_carried a_latest v_taped v_faultKind v_faultPlace v_x v_ordered v_sought v_lastSought v_hMoved v_hWithout v_tMoved v_tWithout v_places v_elsewhere v_sMany v_bMany v_year y_lies a_rsort a_rmany a_nums pl) H locs → lv_has ls 8 [(0, .ref (ad 0)), (1, .int p1), (2, .int p2), (4, .int x_85), (5, .int x_86)] → W p l e rm_X0_inRing s m args below meth c H locs 0 0 Q (F0 m 81 ls []) := by
      intro x_85 x_86 a_ring_87 hxx H locs ls hH hl
      have hF := un3e (kk44_0 (x_85, x_86, a_ring_87) hxx)
      refine lv_aload_n hx hb dX0_inRing_81 rfl (lv_at hl 0 rfl) ?_
      refine cg_Y_this_ring hX hK hNW hH dX0_inRing_82 ?_
      refine lv_iload_n hx hb dX0_inRing_85 rfl (lv_at hl 2 rfl) ?_
      refine lv_iconst (v := 1) hx hb dX0_inRing_86 kyi_1 ?_
      have j95 : ∀ (x_89 : Int32), FX0_inRing_j95 p1 x_85 x_86 a_ring_87 x_89 = some (res, ra_ring) → ∀ (H : Heap) (locs : List Loc) (ls : Array Slot), MH D vwA A s.heap (cW ad cA sA ta ba na gi rh rt g_sort g_size g_from g_to g_level g_full a_tape a_hAt a_hMany a_tAt a_tMany a_least a_place a_to a_order a_fails a_sKeys a_sRow a_sSlots a_bKeys a_bRow a_bSlots a_easy a_wants a_wantedBy a_ring_87 a_carried a_latest v_taped v_faultKind v_faultPlace v_x v_ordered v_sought v_lastSought v_hMoved v_hWithout v_tMoved v_tWithout v_places v_elsewhere v_sMany v_bMany v_year y_lies a_rsort a_rmany a_nums pl) H locs → lv_has ls 8 [(1, .int p1), (4, .int x_85), (5, .int x_86)] → W p l e rm_X0_inRing s m args below meth c H locs 0 0 Q (F0 m 95 ls [.int x_89, .ref (ad 27)]) := by
        intro x_89 hF H locs ls hH hl
        delta FX0_inRing_j95 at hF
        refine lv_iload hx hb dX0_inRing_95 (lv_at hl 2 rfl) ?_
        refine lv_isub hx hb dX0_inRing_97 ?_
        refine lv_iload hx hb dX0_inRing_98 (lv_at hl 1 rfl) ?_
        obtain ⟨hg_90, hF⟩ := bd0e hF
        refine cm_floorMod hX hK hE hE0 hH hl q1440 (nz_of hg_90) dX0_inRing_100 (Nat.le_of_ble_eq_true rfl) (Nat.le_of_ble_eq_true rfl) (Nat.le_of_ble_eq_true rfl) ⟨Nat.le_of_ble_eq_true rfl, Nat.le_of_ble_eq_true rfl⟩ (fun H locs hH => ?_)
        obtain ⟨x_91, he, hF⟩ := bd1e hF
        refine cl_ring hX hK hH he dX0_inRing_103 ?_
        refine lv_istore (lv' := [(7, .int x_91), (1, .int p1), (4, .int x_85), (5, .int x_86)]) hx hb dX0_inRing_104 hl (by decide) rfl (fun ls hl => ?_)
        refine lv_iload hx hb dX0_inRing_106 (lv_at hl 0 rfl) ?_
        refine lv_iload_n hx hb dX0_inRing_108 rfl (lv_at hl 1 rfl) ?_
        refine lv_icmp_ne (tgt := 116) hx hb dX0_inRing_109 rfl (fun c_92 => ?_) (fun c_92 => ?_)
        · have hF := itn c_92 hF
          refine lv_iload hx hb dX0_inRing_116 (lv_at hl 0 rfl) ?_
          obtain ⟨rfl, rfl⟩ := re2 hF
          exact hret _ _ _ _ _ rfl hH dX0_inRing_118
        · have hF := itp c_92 hF
          refine lv_iconst (v := (-1)) hx hb dX0_inRing_112 kyi_m1 ?_
          refine lv_goto (tgt := 118) hx hb dX0_inRing_113 rfl ?_
          obtain ⟨rfl, rfl⟩ := re2 hF
          exact hret _ _ _ _ _ rfl hH dX0_inRing_118
      refine lv_icmp_ne (tgt := 94) hx hb dX0_inRing_87 rfl (fun c_88 => ?_) (fun c_88 => ?_)
      · have hF := itn c_88 hF
        refine lv_iconst (v := 1) hx hb dX0_inRing_94 kyi_1 ?_
        exact j95 1 hF _ _ _ hH (lv_sub hl [1, 3, 4] rfl)
      · have hF := itp c_88 hF
        refine lv_iconst (v := 0) hx hb dX0_inRing_90 kyi_0 ?_
        refine lv_goto (tgt := 95) hx hb dX0_inRing_91 rfl ?_
        exact j95 0 hF _ _ _ hH (lv_sub hl [1, 3, 4] rfl)
    obtain ⟨nn44, en44⟩ := loopC_some ee44
    have l44 : ∀ (n : Nat) (x_76 : Int32) (x_77 : Int32) (x_78 : Int32) (a_ring_79 : Nat → Int32), loopN (fun s => FX0_inRing_b44 a_wants p1 x_63 s.1 s.2.1 s.2.2.1 s.2.2.2) n (x_76, x_77, x_78, a_ring_79) = some xx44 → ∀ (H : Heap) (locs : List Loc) (ls : Array Slot), MH D vwA A s.heap (cW ad cA sA ta ba na gi rh rt g_sort g_size g_from g_to g_level g_full a_tape a_hAt a_hMany a_tAt a_tMany a_least a_place a_to a_order a_fails a_sKeys a_sRow a_sSlots a_bKeys a_bRow a_bSlots a_easy a_wants a_wantedBy a_ring_79 a_carried a_latest v_taped v_faultKind v_faultPlace v_x v_ordered v_sought v_lastSought v_hMoved v_hWithout v_tMoved v_tWithout v_places v_elsewhere v_sMany v_bMany v_year y_lies a_rsort a_rmany a_nums pl) H locs → lv_has ls 8 [(0, .ref (ad 0)), (1, .int p1), (2, .int p2), (3, .int x_63), (4, .int x_76), (5, .int x_77), (6, .int x_78)] → W p l e rm_X0_inRing s m args below meth c H locs 0 0 Q (F0 m 44 ls []) := by
      intro n
      induction n with
      | zero =>
        intro x_76 x_77 x_78 a_ring_79 hN
        exact absurd hN loopN_zero
      | succ n ih =>
        intro x_76 x_77 x_78 a_ring_79 hN H locs ls hH hl
        obtain ⟨yy44, hB44, hY44⟩ := loopN_succ hN
        have hF : FX0_inRing_b44 a_wants p1 x_63 x_76 x_77 x_78 a_ring_79 = some yy44 := hB44
        delta FX0_inRing_b44 at hF
        refine lv_aload_n hx hb dX0_inRing_44 rfl (lv_at hl 0 rfl) ?_
        refine cg_Y_this_ring hX hK hNW hH dX0_inRing_45 ?_
        refine lv_iload hx hb dX0_inRing_48 (lv_at hl 4 rfl) ?_
        refine lv_iload hx hb dX0_inRing_50 (lv_at hl 6 rfl) ?_
        obtain ⟨a_ring_80, he, hF⟩ := bd1e hF
        refine cs_ring hX hK hH he dX0_inRing_52 (fun H locs hH => ?_)
        refine lv_iload hx hb dX0_inRing_53 (lv_at hl 6 rfl) ?_
        refine lv_iload_n hx hb dX0_inRing_55 rfl (lv_at hl 1 rfl) ?_
        have j63 : ∀ (x_82 : Int32), FX0_inRing_j63 a_wants x_63 x_76 x_78 a_ring_80 x_82 = some yy44 → ∀ (H : Heap) (locs : List Loc) (ls : Array Slot), MH D vwA A s.heap (cW ad cA sA ta ba na gi rh rt g_sort g_size g_from g_to g_level g_full a_tape a_hAt a_hMany a_tAt a_tMany a_least a_place a_to a_order a_fails a_sKeys a_sRow a_sSlots a_bKeys a_bRow a_bSlots a_easy a_wants a_wantedBy a_ring_80 a_carried a_latest v_taped v_faultKind v_faultPlace v_x v_ordered v_sought v_lastSought v_hMoved v_hWithout v_tMoved v_tWithout v_places v_elsewhere v_sMany v_bMany v_year y_lies a_rsort a_rmany a_nums pl) H locs → lv_has ls 8 [(0, .ref (ad 0)), (1, .int p1), (2, .int p2), (3, .int x_63), (4, .int x_76), (5, .int x_82), (6, .int x_78)] → W p l e rm_X0_inRing s m args below meth c H locs 0 0 Q (F0 m 63 ls []) := by
          intro x_82 hF H locs ls hH hl
          delta FX0_inRing_j63 at hF
          refine lv_iinc (v := (x_76 + 1)) (lv' := [(4, .int (x_76 + 1)), (0, .ref (ad 0)), (1, .int p1), (2, .int p2), (3, .int x_63), (5, .int x_82), (6, .int x_78)]) hx hb dX0_inRing_63 hl (k := 4) rfl (syc kyi_1) (by decide) rfl (fun ls hl => ?_)
          refine lv_aload_n hx hb dX0_inRing_66 rfl (lv_at hl 1 rfl) ?_
          refine cg_Y_this_wants hX hK hNW hH dX0_inRing_67 ?_
          refine lv_iload hx hb dX0_inRing_70 (lv_at hl 6 rfl) ?_
          obtain ⟨x_83, he, hF⟩ := bd1e hF
          refine cl_wants hX hK hH he dX0_inRing_72 ?_
          refine lv_istore (lv' := [(6, .int x_83), (4, .int (x_76 + 1)), (0, .ref (ad 0)), (1, .int p1), (2, .int p2), (3, .int x_63), (5, .int x_82)]) hx hb dX0_inRing_73 hl (by decide) rfl (fun ls hl => ?_)
          refine lv_iload hx hb dX0_inRing_75 (lv_at hl 0 rfl) ?_
          refine lv_iload_n hx hb dX0_inRing_77 rfl (lv_at hl 5 rfl) ?_
          refine lv_icmp_ne (tgt := 44) hx hb dX0_inRing_78 rfl (fun c_84 => ?_) (fun c_84 => ?_)
          · have hF := itn c_84 hF
            obtain rfl := Option.some.inj hF
            exact ih (x_76 + 1) x_82 x_83 a_ring_80 hY44 _ _ _ hH (lv_sub hl [2, 3, 4, 5, 1, 6, 0] rfl)
          · have hF := itp c_84 hF
            obtain rfl := Option.some.inj hF
            exact k44_0 (x_76 + 1) x_82 a_ring_80 hY44 _ _ _ hH (lv_sub hl [2, 3, 4, 1, 6] rfl)
        refine lv_icmp_ne (tgt := 63) hx hb dX0_inRing_56 rfl (fun c_81 => ?_) (fun c_81 => ?_)
        · have hF := itn c_81 hF
          exact j63 x_77 hF _ _ _ hH (lv_sub hl [0, 1, 2, 3, 4, 5, 6] rfl)
        · have hF := itp c_81 hF
          refine lv_iload hx hb dX0_inRing_59 (lv_at hl 4 rfl) ?_
          refine lv_istore (lv' := [(5, .int x_76), (0, .ref (ad 0)), (1, .int p1), (2, .int p2), (3, .int x_63), (4, .int x_76), (6, .int x_78)]) hx hb dX0_inRing_61 hl (by decide) rfl (fun ls hl => ?_)
          exact j63 x_76 hF _ _ _ hH (lv_sub hl [1, 2, 3, 4, 5, 0, 6] rfl)
    exact l44 nn44 0 0 x_63 a_ring en44 _ _ _ hH (lv_sub hl [3, 4, 5, 6, 2, 1, 0] rfl)
  obtain ⟨nn10, en10⟩ := loopC_some ee10
  have l10 : ∀ (n : Nat) (x_59 : Int32) (x_60 : Int32), loopN (fun s => FX0_inRing_b10 a_wants p1 s.1 s.2) n (x_59, x_60) = some xx10 → ∀ (H : Heap) (locs : List Loc) (ls : Array Slot), MH D vwA A s.heap (cW ad cA sA ta ba na gi rh rt g_sort g_size g_from g_to g_level g_full a_tape a_hAt a_hMany a_tAt a_tMany a_least a_place a_to a_order a_fails a_sKeys a_sRow a_sSlots a_bKeys a_bRow a_bSlots a_easy a_wants a_wantedBy a_ring a_carried a_latest v_taped v_faultKind v_faultPlace v_x v_ordered v_sought v_lastSought v_hMoved v_hWithout v_tMoved v_tWithout v_places v_elsewhere v_sMany v_bMany v_year y_lies a_rsort a_rmany a_nums pl) H locs → lv_has ls 8 [(0, .ref (ad 0)), (1, .int p1), (2, .int p2), (3, .int x_59), (4, .int x_60)] → W p l e rm_X0_inRing s m args below meth c H locs 0 0 Q (F0 m 10 ls []) := by
    intro n
    induction n with
    | zero =>
      intro x_59 x_60 hN
      exact absurd hN loopN_zero
    | succ n ih =>
      intro x_59 x_60 hN H locs ls hH hl
      obtain ⟨yy10, hB10, hY10⟩ := loopN_succ hN
      have hF : FX0_inRing_b10 a_wants p1 x_59 x_60 = some yy10 := hB10
      delta FX0_inRing_b10 at hF
      refine lv_iload hx hb dX0_inRing_10 (lv_at hl 4 rfl) ?_
      refine lv_iload_n hx hb dX0_inRing_12 rfl (lv_at hl 1 rfl) ?_
      refine lv_icmp_eq (tgt := 35) hx hb dX0_inRing_13 rfl (fun c_61 => ?_) (fun c_61 => ?_)
      · have hF := itp c_61 hF
        obtain rfl := Option.some.inj hF
        exact k10_0 x_59 hY10 _ _ _ hH (lv_sub hl [0, 1, 2, 3] rfl)
      · have hF := itn c_61 hF
        refine lv_iload_n hx hb dX0_inRing_16 rfl (lv_at hl 3 rfl) ?_
        refine lv_iload hx hb dX0_inRing_17 (lv_at hl 4 rfl) ?_
        refine cm_min hX hl (hts _ q1439) dX0_inRing_19 (Nat.le_of_ble_eq_true rfl) (Nat.le_of_ble_eq_true rfl) (Nat.le_of_ble_eq_true rfl) (Nat.le_of_ble_eq_true rfl) ?_
        refine lv_istore_n (lv' := [(3, .int (mnI x_59 x_60)), (0, .ref (ad 0)), (1, .int p1), (2, .int p2), (4, .int x_60)]) hx hb dX0_inRing_22 rfl hl (by decide) rfl (fun ls hl => ?_)
        refine lv_aload_n hx hb dX0_inRing_23 rfl (lv_at hl 1 rfl) ?_
        refine cg_Y_this_wants hX hK hNW hH dX0_inRing_24 ?_
        refine lv_iload hx hb dX0_inRing_27 (lv_at hl 4 rfl) ?_
        obtain ⟨x_62, he, hF⟩ := bd1e hF
        refine cl_wants hX hK hH he dX0_inRing_29 ?_
        refine lv_istore (lv' := [(4, .int x_62), (3, .int (mnI x_59 x_60)), (0, .ref (ad 0)), (1, .int p1), (2, .int p2)]) hx hb dX0_inRing_30 hl (by decide) rfl (fun ls hl => ?_)
        refine lv_goto (tgt := 10) hx hb dX0_inRing_32 rfl ?_
        obtain rfl := Option.some.inj hF
        exact ih (mnI x_59 x_60) x_62 hY10 _ _ _ hH (lv_sub hl [2, 3, 4, 1, 0] rfl)
  exact l10 nn10 p1 x_56 en10 _ _ _ hH (lv_sub hl [2, 3, 4, 1, 0] rfl)
abbrev rm_X0_partner : Room := { frames := 4, cells := 0, slots := 0, locals := 125 }
set_option maxHeartbeats 4000000 in
theorem met_X0_partner {l : Launch} {D : va_G} {ad : Nat → Nat} {cA : Nat → ClassId} {sA ta ba na : Nat → Nat} {gi : Nat → Option Nat} {rh : Option Nat} {rt : Option Nat} {g_sort : Int32} {g_size : Int32} {g_from : Int32} {g_to : Int32} {g_level : Int32} {g_full : Int32} {a_tape : Nat → Int32} {a_hAt : Nat → Int32} {a_hMany : Nat → Int32} {a_tAt : Nat → Int32} {a_tMany : Nat → Int32} {a_least : Nat → Int32} {a_place : Nat → Int32} {a_to : Nat → Int32} {a_order : Nat → Int32} {a_fails : Nat → Int32} {a_sKeys : Nat → Int64} {a_sRow : Nat → Int64} {a_sSlots : Nat → Int32} {a_bKeys : Nat → Int64} {a_bRow : Nat → Int64} {a_bSlots : Nat → Int32} {a_easy : Nat → Int32} {a_wants : Nat → Int32} {a_wantedBy : Nat → Int32} {a_ring : Nat → Int32} {a_carried : Nat → Int32} {a_latest : Nat → Int32} {v_taped : Int32} {v_faultKind : Int32} {v_faultPlace : Int32} {v_x : Int32} {v_ordered : Int32} {v_sought : Int32} {v_lastSought : Int32} {v_hMoved : Int32} {v_hWithout : Int32} {v_tMoved : Int32} {v_tWithout : Int32} {v_places : Int32} {v_elsewhere : Int32} {v_sMany : Int32} {v_bMany : Int32} {v_year : Int32} {y_lies : Int64} {a_rsort : Nat → Int32} {a_rmany : Nat → Int32} {a_nums : Nat → Nat → Int64} {t : Nat → Int32} {nb : Int32} {bv : Nat → Int32 → Int32 → Int32 → Int32 → Int32 → Int32 → Bool} {pl : va_W}  {p1 : Int32} {p2 : Int32} {p3 : Int32} {p4 : Int32} {res : Int32} {ra_wants : Nat → Int32} {ra_wantedBy : Nat → Int32} {ra_ring : Nat → Int32} {E : EvT} (hE : EvN E) (hPO : PO cA pl ta ba t nb bv) (hF : FX0_partner a_wants a_wantedBy a_ring a_rsort a_rmany a_nums p1 p2 p3 p4 = some (res, ra_wants, ra_wantedBy, ra_ring)) : MX l yX0_partner (ws_ yX0_partner cX0_partner 7 (Option.some Jvm.ClassFile.FieldType.int)) rm_X0_partner D vwA (cT cA) E [.ref (ad 0), .int p1, .int p2, .int p3, .int p4] (cW ad cA sA ta ba na gi rh rt g_sort g_size g_from g_to g_level g_full a_tape a_hAt a_hMany a_tAt a_tMany a_least a_place a_to a_order a_fails a_sKeys a_sRow a_sSlots a_bKeys a_bRow a_bSlots a_easy a_wants a_wantedBy a_ring a_carried a_latest v_taped v_faultKind v_faultPlace v_x v_ordered v_sought v_lastSought v_hMoved v_hWithout v_tMoved v_tWithout v_places v_elsewhere v_sMany v_bMany v_year y_lies a_rsort a_rmany a_nums pl) (fun z => z = (cW ad cA sA ta ba na gi rh rt g_sort g_size g_from g_to g_level g_full a_tape a_hAt a_hMany a_tAt a_tMany a_least a_place a_to a_order a_fails a_sKeys a_sRow a_sSlots a_bKeys a_bRow a_bSlots a_easy ra_wants ra_wantedBy ra_ring a_carried a_latest v_taped v_faultKind v_faultPlace v_x v_ordered v_sought v_lastSought v_hMoved v_hWithout v_tMoved v_tWithout v_places v_elsewhere v_sMany v_bMany v_year y_lies a_rsort a_rmany a_nums pl)) (some (.int res)) := by
  refine MX.ofI (by decide) (Nat.le_of_ble_eq_true rfl) ?_
  intro p e s m args below meth c Q A hX hK hE0 hname hret H locs ls hH hl
  have hX : CallFix p m c cX0_partner 7 s args lw_all RX0 := hX
  have hx := hX.1
  have hb := hX.2.1
  have hown := hX.2.2.2.1
  have hts := hX.2.2.2.2
  have hl : lv_has ls 7 [(0, .ref (ad 0)), (1, .int p1), (2, .int p2), (3, .int p3), (4, .int p4)] := hl
  have hEv := hE.1
  have hNW := hE.2.1 _ _ _ hE0
  have hT := hPO.1
  have hB := hPO.2
  delta FX0_partner at hF
  refine lv_iload_n hx hb dX0_partner_0 rfl (lv_at hl 1 rfl) ?_
  obtain ⟨b_58, he, hF⟩ := bd1e hF
  refine mxS hX hK hEv hE0 hH (met_X0_isNumbers hE hPO he) gw_StoneYear_305 hd_yX0_isNumbers ⟨Nat.le_of_ble_eq_true rfl, Nat.le_of_ble_eq_true rfl⟩ rfl rfl hl (Nat.le_of_ble_eq_true rfl) dX0_partner_1 ⟨Nat.le_of_ble_eq_true rfl, Nat.le_of_ble_eq_true rfl⟩ (fun w2 H locs hw hH => ?_)
  subst hw
  refine lv_if_eq (tgt := 30) hx hb dX0_partner_4 rfl (fun c_59 => ?_) (fun c_59 => ?_)
  · have hF := itp c_59 hF
    refine lv_bipush (v := (-2)) hx hb dX0_partner_30 kyb_m2 ?_
    obtain ⟨rfl, rfl, rfl, rfl⟩ := re4 hF
    exact hret _ _ _ _ _ rfl hH dX0_partner_32
  · have hF := itn c_59 hF
    refine lv_iload hx hb dX0_partner_7 (lv_at hl 4 rfl) ?_
    refine lv_if_lt (tgt := 30) hx hb dX0_partner_9 rfl (fun c_60 => ?_) (fun c_60 => ?_)
    · have hF := itp c_60 hF
      refine lv_bipush (v := (-2)) hx hb dX0_partner_30 kyb_m2 ?_
      obtain ⟨rfl, rfl, rfl, rfl⟩ := re4 hF
      exact hret _ _ _ _ _ rfl hH dX0_partner_32
    · have hF := itn c_60 hF
      refine lv_iload hx hb dX0_partner_12 (lv_at hl 4 rfl) ?_
      refine lv_iload_n hx hb dX0_partner_14 rfl (lv_at hl 2 rfl) ?_
      refine lv_icmp_ge (tgt := 30) hx hb dX0_partner_15 rfl (fun c_61 => ?_) (fun c_61 => ?_)
      · have hF := itp c_61 hF
        refine lv_bipush (v := (-2)) hx hb dX0_partner_30 kyb_m2 ?_
        obtain ⟨rfl, rfl, rfl, rfl⟩ := re4 hF
        exact hret _ _ _ _ _ rfl hH dX0_partner_32
      · have hF := itn c_61 hF
        refine lv_iload_n hx hb dX0_partner_18 rfl (lv_at hl 3 rfl) ?_
        refine lv_i2l (v := (Int32.toInt64 p3)) hx hb dX0_partner_19 rfl ?_
        refine lv_lconst (v := 1) hx hb dX0_partner_20 rfl ?_
        refine lv_ldc2 (v := 2) hx hb hown (hts _ q1396) dX0_partner_21 ?_
        obtain ⟨b_62, he, hF⟩ := bd1e hF
        refine mxS hX hK hEv hE0 hH (met_X0_in hE hPO he) gw_StoneYear_106 hd_yX0_in ⟨Nat.le_of_ble_eq_true rfl, Nat.le_of_ble_eq_true rfl⟩ rfl rfl hl (Nat.le_of_ble_eq_true rfl) dX0_partner_24 ⟨Nat.le_of_ble_eq_true rfl, Nat.le_of_ble_eq_true rfl⟩ (fun w2 H locs hw hH => ?_)
        subst hw
        refine lv_if_ne (tgt := 33) hx hb dX0_partner_27 rfl (fun c_63 => ?_) (fun c_63 => ?_)
        · have hF := itn c_63 hF
          refine lv_aload_n hx hb dX0_partner_33 rfl (lv_at hl 0 rfl) ?_
          refine lv_iload_n hx hb dX0_partner_34 rfl (lv_at hl 1 rfl) ?_
          refine lv_iload_n hx hb dX0_partner_35 rfl (lv_at hl 2 rfl) ?_
          obtain ⟨x_64, a_wants_65, a_wantedBy_66, he, hF⟩ := bd3e hF
          refine mxV hX hK hEv hE0 hH (met_X0_wallFault hE hPO he) (crecv hK hH 0 0 rfl rfl) gw_StoneYear_487 hd_yX0_wallFault ⟨Nat.le_of_ble_eq_true rfl, Nat.le_of_ble_eq_true rfl⟩ rfl rfl hl (Nat.le_of_ble_eq_true rfl) dX0_partner_36 ⟨Nat.le_of_ble_eq_true rfl, Nat.le_of_ble_eq_true rfl⟩ (fun w2 H locs hw hH => ?_)
          subst hw
          refine lv_istore (lv' := [(5, .int x_64), (0, .ref (ad 0)), (1, .int p1), (2, .int p2), (3, .int p3), (4, .int p4)]) hx hb dX0_partner_39 hl (by decide) rfl (fun ls hl => ?_)
          refine lv_iload hx hb dX0_partner_41 (lv_at hl 0 rfl) ?_
          refine lv_if_eq (tgt := 49) hx hb dX0_partner_43 rfl (fun c_67 => ?_) (fun c_67 => ?_)
          · have hF := itp c_67 hF
            refine lv_aload_n hx hb dX0_partner_49 rfl (lv_at hl 1 rfl) ?_
            refine lv_iload_n hx hb dX0_partner_50 rfl (lv_at hl 3 rfl) ?_
            obtain ⟨x_68, he, hF⟩ := bd1e hF
            refine mxV hX hK hEv hE0 hH (met_X0_wallYears hE hPO he) (crecv hK hH 0 0 rfl rfl) gw_StoneYear_490 hd_yX0_wallYears ⟨Nat.le_of_ble_eq_true rfl, Nat.le_of_ble_eq_true rfl⟩ rfl rfl hl (Nat.le_of_ble_eq_true rfl) dX0_partner_51 ⟨Nat.le_of_ble_eq_true rfl, Nat.le_of_ble_eq_true rfl⟩ (fun w2 H locs hw hH => ?_)
            subst hw
            refine lv_istore (lv' := [(6, .int x_68), (5, .int x_64), (0, .ref (ad 0)), (1, .int p1), (2, .int p2), (3, .int p3), (4, .int p4)]) hx hb dX0_partner_54 hl (by decide) rfl (fun ls hl => ?_)
            refine lv_iload_n hx hb dX0_partner_56 rfl (lv_at hl 5 rfl) ?_
            refine lv_iload hx hb dX0_partner_57 (lv_at hl 0 rfl) ?_
            refine lv_icmp_le (tgt := 64) hx hb dX0_partner_59 rfl (fun c_69 => ?_) (fun c_69 => ?_)
            · have hF := itp c_69 hF
              refine lv_iload hx hb dX0_partner_64 (lv_at hl 0 rfl) ?_
              refine lv_iconst (v := 1) hx hb dX0_partner_66 kyi_1 ?_
              refine lv_icmp_ne (tgt := 94) hx hb dX0_partner_67 rfl (fun c_70 => ?_) (fun c_70 => ?_)
              · have hF := itn c_70 hF
                refine lv_aload_n hx hb dX0_partner_94 rfl (lv_at hl 2 rfl) ?_
                refine lv_iload hx hb dX0_partner_95 (lv_at hl 6 rfl) ?_
                refine lv_iload_n hx hb dX0_partner_97 rfl (lv_at hl 5 rfl) ?_
                obtain ⟨x_74, a_ring_75, he, hF⟩ := bd2e hF
                refine mxV hX hK hEv hE0 hH (met_X0_inRing hE hPO he) (crecv hK hH 0 0 rfl rfl) gw_StoneYear_493 hd_yX0_inRing ⟨Nat.le_of_ble_eq_true rfl, Nat.le_of_ble_eq_true rfl⟩ rfl rfl hl (Nat.le_of_ble_eq_true rfl) dX0_partner_98 ⟨Nat.le_of_ble_eq_true rfl, Nat.le_of_ble_eq_true rfl⟩ (fun w2 H locs hw hH => ?_)
                subst hw
                obtain ⟨rfl, rfl, rfl, rfl⟩ := re4 hF
                exact hret _ _ _ _ _ rfl hH dX0_partner_101
              · have hF := itp c_70 hF
                refine lv_aload_n hx hb dX0_partner_70 rfl (lv_at hl 2 rfl) ?_
                refine cg_Y_this_wants hX hK hNW hH dX0_partner_71 ?_
                refine lv_iload hx hb dX0_partner_74 (lv_at hl 6 rfl) ?_
                obtain ⟨x_71, he, hF⟩ := bd1e hF
                refine cl_wants hX hK hH he dX0_partner_76 ?_
                refine lv_iload hx hb dX0_partner_77 (lv_at hl 6 rfl) ?_
                refine lv_icmp_ne (tgt := 86) hx hb dX0_partner_79 rfl (fun c_72 => ?_) (fun c_72 => ?_)
                · have hF := itn c_72 hF
                  refine lv_aload_n hx hb dX0_partner_86 rfl (lv_at hl 2 rfl) ?_
                  refine cg_Y_this_wants hX hK hNW hH dX0_partner_87 ?_
                  refine lv_iload hx hb dX0_partner_90 (lv_at hl 6 rfl) ?_
                  obtain ⟨x_73, he, hF⟩ := bd1e hF
                  refine cl_wants hX hK hH he dX0_partner_92 ?_
                  obtain ⟨rfl, rfl, rfl, rfl⟩ := re4 hF
                  exact hret _ _ _ _ _ rfl hH dX0_partner_93
                · have hF := itp c_72 hF
                  refine lv_iconst (v := (-1)) hx hb dX0_partner_82 kyi_m1 ?_
                  refine lv_goto (tgt := 93) hx hb dX0_partner_83 rfl ?_
                  obtain ⟨rfl, rfl, rfl, rfl⟩ := re4 hF
                  exact hret _ _ _ _ _ rfl hH dX0_partner_93
            · have hF := itn c_69 hF
              refine lv_iconst (v := (-1)) hx hb dX0_partner_62 kyi_m1 ?_
              obtain ⟨rfl, rfl, rfl, rfl⟩ := re4 hF
              exact hret _ _ _ _ _ rfl hH dX0_partner_63
          · have hF := itn c_67 hF
            refine lv_iload hx hb dX0_partner_46 (lv_at hl 0 rfl) ?_
            obtain ⟨rfl, rfl, rfl, rfl⟩ := re4 hF
            exact hret _ _ _ _ _ rfl hH dX0_partner_48
        · have hF := itp c_63 hF
          refine lv_bipush (v := (-2)) hx hb dX0_partner_30 kyb_m2 ?_
          obtain ⟨rfl, rfl, rfl, rfl⟩ := re4 hF
          exact hret _ _ _ _ _ rfl hH dX0_partner_32
abbrev rm_X0_threshold : Room := { frames := 5, cells := 0, slots := 0, locals := 162 }
set_option maxHeartbeats 4000000 in
theorem met_X0_threshold {l : Launch} {D : va_G} {ad : Nat → Nat} {cA : Nat → ClassId} {sA ta ba na : Nat → Nat} {gi : Nat → Option Nat} {rh : Option Nat} {rt : Option Nat} {g_sort : Int32} {g_size : Int32} {g_from : Int32} {g_to : Int32} {g_level : Int32} {g_full : Int32} {a_tape : Nat → Int32} {a_hAt : Nat → Int32} {a_hMany : Nat → Int32} {a_tAt : Nat → Int32} {a_tMany : Nat → Int32} {a_least : Nat → Int32} {a_place : Nat → Int32} {a_to : Nat → Int32} {a_order : Nat → Int32} {a_fails : Nat → Int32} {a_sKeys : Nat → Int64} {a_sRow : Nat → Int64} {a_sSlots : Nat → Int32} {a_bKeys : Nat → Int64} {a_bRow : Nat → Int64} {a_bSlots : Nat → Int32} {a_easy : Nat → Int32} {a_wants : Nat → Int32} {a_wantedBy : Nat → Int32} {a_ring : Nat → Int32} {a_carried : Nat → Int32} {a_latest : Nat → Int32} {v_taped : Int32} {v_faultKind : Int32} {v_faultPlace : Int32} {v_x : Int32} {v_ordered : Int32} {v_sought : Int32} {v_lastSought : Int32} {v_hMoved : Int32} {v_hWithout : Int32} {v_tMoved : Int32} {v_tWithout : Int32} {v_places : Int32} {v_elsewhere : Int32} {v_sMany : Int32} {v_bMany : Int32} {v_year : Int32} {y_lies : Int64} {a_rsort : Nat → Int32} {a_rmany : Nat → Int32} {a_nums : Nat → Nat → Int64} {t : Nat → Int32} {nb : Int32} {bv : Nat → Int32 → Int32 → Int32 → Int32 → Int32 → Int32 → Bool} {pl : va_W}  {p1 : Int32} {p2 : Int32} {res : Int32} {ra_hAt : Nat → Int32} {ra_hMany : Nat → Int32} {rv_hMoved : Int32} {E : EvT} (hE : EvN E) (hPO : PO cA pl ta ba t nb bv) (hF : FX0_threshold a_hAt a_hMany v_hMoved y_lies t p1 p2 = some (res, ra_hAt, ra_hMany, rv_hMoved)) : MX l yX0_threshold (ws_ yX0_threshold cX0_threshold 7 (Option.some Jvm.ClassFile.FieldType.int)) rm_X0_threshold D vwA (cT cA) E [.ref (ad 0), .int p1, .int p2] (cW ad cA sA ta ba na gi rh rt g_sort g_size g_from g_to g_level g_full a_tape a_hAt a_hMany a_tAt a_tMany a_least a_place a_to a_order a_fails a_sKeys a_sRow a_sSlots a_bKeys a_bRow a_bSlots a_easy a_wants a_wantedBy a_ring a_carried a_latest v_taped v_faultKind v_faultPlace v_x v_ordered v_sought v_lastSought v_hMoved v_hWithout v_tMoved v_tWithout v_places v_elsewhere v_sMany v_bMany v_year y_lies a_rsort a_rmany a_nums pl) (fun z => ∃ rh' : Option Nat, z = (cW ad cA sA ta ba na gi rh' rt g_sort g_size g_from g_to g_level g_full a_tape ra_hAt ra_hMany a_tAt a_tMany a_least a_place a_to a_order a_fails a_sKeys a_sRow a_sSlots a_bKeys a_bRow a_bSlots a_easy a_wants a_wantedBy a_ring a_carried a_latest v_taped v_faultKind v_faultPlace v_x v_ordered v_sought v_lastSought rv_hMoved v_hWithout v_tMoved v_tWithout v_places v_elsewhere v_sMany v_bMany v_year y_lies a_rsort a_rmany a_nums pl)) (some (.int res)) := by
  refine MX.ofI (by decide) (Nat.le_of_ble_eq_true rfl) ?_
  intro p e s m args below meth c Q A hX hK hE0 hname hret H locs ls hH hl
  have hX : CallFix p m c cX0_threshold 7 s args lw_all RX0 := hX
  have hx := hX.1
  have hb := hX.2.1
  have hown := hX.2.2.2.1
  have hts := hX.2.2.2.2
  have hl : lv_has ls 7 [(0, .ref (ad 0)), (1, .int p1), (2, .int p2)] := hl
  have hEv := hE.1
  have hNW := hE.2.1 _ _ _ hE0
  have hT := hPO.1
  have hB := hPO.2
  delta FX0_threshold at hF
  refine lv_aload_n hx hb dX0_threshold_0 rfl (lv_at hl 0 rfl) ?_
  refine lv_iload_n hx hb dX0_threshold_1 rfl (lv_at hl 1 rfl) ?_
  obtain ⟨b_56, he, hF⟩ := bd1e hF
  refine mxV hX hK hEv hE0 hH (met_X0_isThere hE hPO he) (crecv hK hH 0 0 rfl rfl) gw_StoneYear_184 hd_yX0_isThere ⟨Nat.le_of_ble_eq_true rfl, Nat.le_of_ble_eq_true rfl⟩ rfl rfl hl (Nat.le_of_ble_eq_true rfl) dX0_threshold_2 ⟨Nat.le_of_ble_eq_true rfl, Nat.le_of_ble_eq_true rfl⟩ (fun w2 H locs hw hH => ?_)
  subst hw
  refine lv_if_eq (tgt := 33) hx hb dX0_threshold_5 rfl (fun c_57 => ?_) (fun c_57 => ?_)
  · have hF := itp c_57 hF
    refine lv_bipush (v := (-2)) hx hb dX0_threshold_33 kyb_m2 ?_
    obtain ⟨rfl, rfl, rfl, rfl⟩ := re4 hF
    exact hret _ _ _ _ _ ⟨_, rfl⟩ hH dX0_threshold_35
  · have hF := itn c_57 hF
    refine lv_iload_n hx hb dX0_threshold_8 rfl (lv_at hl 2 rfl) ?_
    refine lv_i2l (v := (Int32.toInt64 p2)) hx hb dX0_threshold_9 rfl ?_
    refine lv_lconst (v := 0) hx hb dX0_threshold_10 rfl ?_
    refine lv_aload_n hx hb dX0_threshold_11 rfl (lv_at hl 0 rfl) ?_
    refine cg_Y_this_s hX hK hNW hH dX0_threshold_12 ?_
    refine cg_Y_state_town hX hK hNW hH dX0_threshold_15 ?_
    refine cg_Y_town_rows hT (fun _ h => cW_pl h) hX hK hNW hH dX0_threshold_18 ?_
    refine mxV hX hK hEv hE0 hH (met_J2_size hE.1 hT.rows (fun _ h => cW_pl h)) (precv (fun _ h => cW_pl h) hK hH 17 rfl hT.rows.obj) gw_StoneYear_133 hd_yJ2_size ⟨Nat.le_of_ble_eq_true rfl, Nat.le_of_ble_eq_true rfl⟩ rfl rfl hl (Nat.le_of_ble_eq_true rfl) dX0_threshold_21 ⟨Nat.le_of_ble_eq_true rfl, Nat.le_of_ble_eq_true rfl⟩ (fun w2 H locs hw hH => ?_)
    subst hw
    refine lv_iconst (v := 1) hx hb dX0_threshold_24 kyi_1 ?_
    refine lv_isub hx hb dX0_threshold_25 ?_
    refine lv_i2l (v := (Int32.toInt64 ((t 0) - 1))) hx hb dX0_threshold_26 rfl ?_
    obtain ⟨b_58, he, hF⟩ := bd1e hF
    refine mxS hX hK hEv hE0 hH (met_X0_in hE hPO he) gw_StoneYear_106 hd_yX0_in ⟨Nat.le_of_ble_eq_true rfl, Nat.le_of_ble_eq_true rfl⟩ rfl rfl hl (Nat.le_of_ble_eq_true rfl) dX0_threshold_27 ⟨Nat.le_of_ble_eq_true rfl, Nat.le_of_ble_eq_true rfl⟩ (fun w2 H locs hw hH => ?_)
    subst hw
    refine lv_if_ne (tgt := 36) hx hb dX0_threshold_30 rfl (fun c_59 => ?_) (fun c_59 => ?_)
    · have hF := itn c_59 hF
      refine lv_aload_n hx hb dX0_threshold_36 rfl (lv_at hl 0 rfl) ?_
      refine cg_Y_this_s hX hK hNW hH dX0_threshold_37 ?_
      refine cg_Y_state_lies hX hK hNW hH dX0_threshold_40 ?_
      refine lv_iload_n hx hb dX0_threshold_43 rfl (lv_at hl 1 rfl) ?_
      obtain ⟨x_60, he, hF⟩ := bd1e hF
      refine mxS hX hK hEv hE0 hH (met_X0_placeIn hE hPO he) gw_StoneYear_162 hd_yX0_placeIn ⟨Nat.le_of_ble_eq_true rfl, Nat.le_of_ble_eq_true rfl⟩ rfl rfl hl (Nat.le_of_ble_eq_true rfl) dX0_threshold_44 ⟨Nat.le_of_ble_eq_true rfl, Nat.le_of_ble_eq_true rfl⟩ (fun w2 H locs hw hH => ?_)
      subst hw
      refine lv_iconst (v := 3) hx hb dX0_threshold_47 kyi_3 ?_
      refine lv_idiv hx hb dX0_threshold_48 (by decide) ?_
      refine lv_istore_n (lv' := [(3, .int (x_60 / 3)), (0, .ref (ad 0)), (1, .int p1), (2, .int p2)]) hx hb dX0_threshold_49 rfl hl (by decide) rfl (fun ls hl => ?_)
      refine lv_aload_n hx hb dX0_threshold_50 rfl (lv_at hl 1 rfl) ?_
      obtain ⟨a_hAt_61, a_hMany_62, v_hMoved_63, he, hF⟩ := bd3e hF
      refine mxV hX hK hEv hE0 hH (met_X0_here hE hPO he) (crecv hK hH 0 0 rfl rfl) gw_StoneYear_195 hd_yX0_here ⟨Nat.le_of_ble_eq_true rfl, Nat.le_of_ble_eq_true rfl⟩ rfl rfl hl (Nat.le_of_ble_eq_true rfl) dX0_threshold_51 ⟨Nat.le_of_ble_eq_true rfl, Nat.le_of_ble_eq_true rfl⟩ (fun w2 H locs hw hH => ?_)
      subst hw
      refine lv_astore (lv' := [(4, .ref (ad 4)), (3, .int (x_60 / 3)), (0, .ref (ad 0)), (1, .int p1), (2, .int p2)]) hx hb dX0_threshold_54 hl (by decide) rfl (fun ls hl => ?_)
      refine lv_iload_n hx hb dX0_threshold_56 rfl (lv_at hl 4 rfl) ?_
      refine lv_iload_n hx hb dX0_threshold_57 rfl (lv_at hl 1 rfl) ?_
      refine lv_isub hx hb dX0_threshold_58 ?_
      obtain ⟨x_64, he, hF⟩ := bd1e hF
      refine mxS hX hK hEv hE0 hH (met_J11_signum (EvG_of hEv) he).toX gw_StoneYear_502 hd_yJ11_signum ⟨Nat.le_of_ble_eq_true rfl, Nat.le_of_ble_eq_true rfl⟩ rfl rfl hl (Nat.le_of_ble_eq_true rfl) dX0_threshold_59 ⟨Nat.le_of_ble_eq_true rfl, Nat.le_of_ble_eq_true rfl⟩ (fun w2 H locs hw hH => ?_)
      subst hw
      refine lv_istore (lv' := [(5, .int x_64), (4, .ref (ad 4)), (3, .int (x_60 / 3)), (0, .ref (ad 0)), (1, .int p1), (2, .int p2)]) hx hb dX0_threshold_62 hl (by decide) rfl (fun ls hl => ?_)
      refine lv_iload_n hx hb dX0_threshold_64 rfl (lv_at hl 2 rfl) ?_
      refine lv_istore (lv' := [(6, .int (x_60 / 3)), (5, .int x_64), (4, .ref (ad 4)), (3, .int (x_60 / 3)), (0, .ref (ad 0)), (1, .int p1), (2, .int p2)]) hx hb dX0_threshold_65 hl (by decide) rfl (fun ls hl => ?_)
      obtain ⟨xx67, ee67, kk67_0, kk67_1⟩ := bdS2e hF
      have k67_0 : xx67 = (.inl ()) → ∀ (H : Heap) (locs : List Loc) (ls : Array Slot), MH D vwA A s.heap (cW ad cA sA ta ba na gi (some (ta 0)) rt g_sort g_size g_from g_to g_level g_full a_tape a_hAt_61 a_hMany_62 a_tAt a_tMany a_least a_place a_to a_order a_fails a_sKeys a_sRow a_sSlots a_bKeys a_bRow a_bSlots a_easy a_wants a_wantedBy a_ring a_carried a_latest v_taped v_faultKind v_faultPlace v_x v_ordered v_sought v_lastSought v_hMoved_63 v_hWithout v_tMoved v_tWithout v_places v_elsewhere v_sMany v_bMany v_year y_lies a_rsort a_rmany a_nums pl) H locs → lv_has ls 7 [] → W p l e rm_X0_threshold s m args below meth c H locs 0 0 Q (F0 m 102 ls []) := by
        intro hxx H locs ls hH hl
        have hF := un0e (kk67_0 () hxx)
        refine lv_iconst (v := (-1)) hx hb dX0_threshold_102 kyi_m1 ?_
        obtain ⟨rfl, rfl, rfl, rfl⟩ := re4 hF
        exact hret _ _ _ _ _ ⟨_, rfl⟩ hH dX0_threshold_103
      have k67_1 : xx67 = (.inr ()) → ∀ (H : Heap) (locs : List Loc) (ls : Array Slot), MH D vwA A s.heap (cW ad cA sA ta ba na gi (some (ta 0)) rt g_sort g_size g_from g_to g_level g_full a_tape a_hAt_61 a_hMany_62 a_tAt a_tMany a_least a_place a_to a_order a_fails a_sKeys a_sRow a_sSlots a_bKeys a_bRow a_bSlots a_easy a_wants a_wantedBy a_ring a_carried a_latest v_taped v_faultKind v_faultPlace v_x v_ordered v_sought v_lastSought v_hMoved_63 v_hWithout v_tMoved v_tWithout v_places v_elsewhere v_sMany v_bMany v_year y_lies a_rsort a_rmany a_nums pl) H locs → lv_has ls 7 [(2, .int p2), (3, .int (x_60 / 3))] → W p l e rm_X0_threshold s m args below meth c H locs 0 0 Q (F0 m 114 ls []) := by
        intro hxx H locs ls hH hl
        have hF := un0e (kk67_1 () hxx)
        refine lv_iload_n hx hb dX0_threshold_114 rfl (lv_at hl 0 rfl) ?_
        refine lv_iload_n hx hb dX0_threshold_115 rfl (lv_at hl 1 rfl) ?_
        refine lv_isub hx hb dX0_threshold_116 ?_
        refine cm_abs hX hl (hts _ q1450) dX0_threshold_117 (Nat.le_of_ble_eq_true rfl) (Nat.le_of_ble_eq_true rfl) (Nat.le_of_ble_eq_true rfl) (Nat.le_of_ble_eq_true rfl) ?_
        obtain ⟨rfl, rfl, rfl, rfl⟩ := re4 hF
        exact hret _ _ _ _ _ ⟨_, rfl⟩ hH dX0_threshold_120
      obtain ⟨nn67, en67⟩ := loopC_some ee67
      have l67 : ∀ (n : Nat) (x_69 : Int32), loopN (fun s => FX0_threshold_b67 t p2 a_hMany_62 x_64 s) n x_69 = some xx67 → ∀ (H : Heap) (locs : List Loc) (ls : Array Slot), MH D vwA A s.heap (cW ad cA sA ta ba na gi (some (ta 0)) rt g_sort g_size g_from g_to g_level g_full a_tape a_hAt_61 a_hMany_62 a_tAt a_tMany a_least a_place a_to a_order a_fails a_sKeys a_sRow a_sSlots a_bKeys a_bRow a_bSlots a_easy a_wants a_wantedBy a_ring a_carried a_latest v_taped v_faultKind v_faultPlace v_x v_ordered v_sought v_lastSought v_hMoved_63 v_hWithout v_tMoved v_tWithout v_places v_elsewhere v_sMany v_bMany v_year y_lies a_rsort a_rmany a_nums pl) H locs → lv_has ls 7 [(0, .ref (ad 0)), (2, .int p2), (3, .int (x_60 / 3)), (4, .ref (ad 4)), (5, .int x_64), (6, .int x_69)] → W p l e rm_X0_threshold s m args below meth c H locs 0 0 Q (F0 m 67 ls []) := by
        intro n
        induction n with
        | zero =>
          intro x_69 hN
          exact absurd hN loopN_zero
        | succ n ih =>
          intro x_69 hN H locs ls hH hl
          obtain ⟨yy67, hB67, hY67⟩ := loopN_succ hN
          have hF : FX0_threshold_b67 t p2 a_hMany_62 x_64 x_69 = some yy67 := hB67
          delta FX0_threshold_b67 at hF
          refine lv_iload hx hb dX0_threshold_67 (lv_at hl 5 rfl) ?_
          refine lv_iload_n hx hb dX0_threshold_69 rfl (lv_at hl 1 rfl) ?_
          refine lv_icmp_eq (tgt := 114) hx hb dX0_threshold_70 rfl (fun c_70 => ?_) (fun c_70 => ?_)
          · have hF := itp c_70 hF
            obtain rfl := Option.some.inj hF
            exact k67_1 hY67 _ _ _ hH (lv_sub hl [1, 2] rfl)
          · have hF := itn c_70 hF
            refine lv_aload hx hb dX0_threshold_73 (lv_at hl 3 rfl) ?_
            refine cg_Y_stkh_many hX hK hNW hH dX0_threshold_75 ?_
            refine lv_iload hx hb dX0_threshold_78 (lv_at hl 5 rfl) ?_
            refine lv_iload hx hb dX0_threshold_80 (lv_at hl 4 rfl) ?_
            refine lv_iadd hx hb dX0_threshold_82 ?_
            obtain ⟨x_71, he, hF⟩ := bd1e hF
            refine cl_hMany hX hK hH he dX0_threshold_83 ?_
            refine lv_aload_n hx hb dX0_threshold_84 rfl (lv_at hl 0 rfl) ?_
            refine cg_Y_this_s hX hK hNW hH dX0_threshold_85 ?_
            refine cg_Y_state_town hX hK hNW hH dX0_threshold_88 ?_
            refine lv_iload hx hb dX0_threshold_91 (lv_at hl 5 rfl) ?_
            refine lv_iload hx hb dX0_threshold_93 (lv_at hl 4 rfl) ?_
            refine lv_iadd hx hb dX0_threshold_95 ?_
            obtain ⟨x_72, he, hF⟩ := bd1e hF
            refine mxV hX hK hEv hE0 hH (met_X2_high hE hPO hT he) (precv (fun _ h => cW_pl h) hK hH 2 rfl ⟨_, hT.obj⟩) gw_StoneYear_268 hd_yX2_high ⟨Nat.le_of_ble_eq_true rfl, Nat.le_of_ble_eq_true rfl⟩ rfl rfl hl (Nat.le_of_ble_eq_true rfl) dX0_threshold_96 ⟨Nat.le_of_ble_eq_true rfl, Nat.le_of_ble_eq_true rfl⟩ (fun w2 H locs hw hH => ?_)
            subst hw
            refine lv_icmp_ne (tgt := 104) hx hb dX0_threshold_99 rfl (fun c_73 => ?_) (fun c_73 => ?_)
            · have hF := itn c_73 hF
              refine lv_iload hx hb dX0_threshold_104 (lv_at hl 5 rfl) ?_
              refine lv_iload hx hb dX0_threshold_106 (lv_at hl 4 rfl) ?_
              refine lv_iadd hx hb dX0_threshold_108 ?_
              refine lv_istore (lv' := [(6, .int (x_69 + x_64)), (0, .ref (ad 0)), (2, .int p2), (3, .int (x_60 / 3)), (4, .ref (ad 4)), (5, .int x_64)]) hx hb dX0_threshold_109 hl (by decide) rfl (fun ls hl => ?_)
              refine lv_goto (tgt := 67) hx hb dX0_threshold_111 rfl ?_
              obtain rfl := Option.some.inj hF
              exact ih (x_69 + x_64) hY67 _ _ _ hH (lv_sub hl [1, 2, 3, 4, 5, 0] rfl)
            · have hF := itp c_73 hF
              obtain rfl := Option.some.inj hF
              exact k67_0 hY67 _ _ _ hH (lv_sub hl [] rfl)
      exact l67 nn67 (x_60 / 3) en67 _ _ _ hH (lv_sub hl [4, 6, 3, 2, 1, 0] rfl)
    · have hF := itp c_59 hF
      refine lv_bipush (v := (-2)) hx hb dX0_threshold_33 kyb_m2 ?_
      obtain ⟨rfl, rfl, rfl, rfl⟩ := re4 hF
      exact hret _ _ _ _ _ ⟨_, rfl⟩ hH dX0_threshold_35
abbrev rm_X0_count : Room := { frames := 1, cells := 0, slots := 0, locals := 20 }
set_option maxHeartbeats 4000000 in
theorem met_X0_count {l : Launch} {D : va_G} {ad : Nat → Nat} {cA : Nat → ClassId} {sA ta ba na : Nat → Nat} {gi : Nat → Option Nat} {rh : Option Nat} {rt : Option Nat} {g_sort : Int32} {g_size : Int32} {g_from : Int32} {g_to : Int32} {g_level : Int32} {g_full : Int32} {a_tape : Nat → Int32} {a_hAt : Nat → Int32} {a_hMany : Nat → Int32} {a_tAt : Nat → Int32} {a_tMany : Nat → Int32} {a_least : Nat → Int32} {a_place : Nat → Int32} {a_to : Nat → Int32} {a_order : Nat → Int32} {a_fails : Nat → Int32} {a_sKeys : Nat → Int64} {a_sRow : Nat → Int64} {a_sSlots : Nat → Int32} {a_bKeys : Nat → Int64} {a_bRow : Nat → Int64} {a_bSlots : Nat → Int32} {a_easy : Nat → Int32} {a_wants : Nat → Int32} {a_wantedBy : Nat → Int32} {a_ring : Nat → Int32} {a_carried : Nat → Int32} {a_latest : Nat → Int32} {v_taped : Int32} {v_faultKind : Int32} {v_faultPlace : Int32} {v_x : Int32} {v_ordered : Int32} {v_sought : Int32} {v_lastSought : Int32} {v_hMoved : Int32} {v_hWithout : Int32} {v_tMoved : Int32} {v_tWithout : Int32} {v_places : Int32} {v_elsewhere : Int32} {v_sMany : Int32} {v_bMany : Int32} {v_year : Int32} {y_lies : Int64} {a_rsort : Nat → Int32} {a_rmany : Nat → Int32} {a_nums : Nat → Nat → Int64} {t : Nat → Int32} {nb : Int32} {bv : Nat → Int32 → Int32 → Int32 → Int32 → Int32 → Int32 → Bool} {pl : va_W}  {p1 : Int32} {res : Int32} {E : EvT} (hE : EvN E) (hPO : PO cA pl ta ba t nb bv) (hF : FX0_count v_taped v_year y_lies t nb p1 = some res) : MX l yX0_count (ws_ yX0_count cX0_count 2 (Option.some Jvm.ClassFile.FieldType.int)) rm_X0_count D vwA (cT cA) E [.ref (ad 0), .int p1] (cW ad cA sA ta ba na gi rh rt g_sort g_size g_from g_to g_level g_full a_tape a_hAt a_hMany a_tAt a_tMany a_least a_place a_to a_order a_fails a_sKeys a_sRow a_sSlots a_bKeys a_bRow a_bSlots a_easy a_wants a_wantedBy a_ring a_carried a_latest v_taped v_faultKind v_faultPlace v_x v_ordered v_sought v_lastSought v_hMoved v_hWithout v_tMoved v_tWithout v_places v_elsewhere v_sMany v_bMany v_year y_lies a_rsort a_rmany a_nums pl) (fun z => z = (cW ad cA sA ta ba na gi rh rt g_sort g_size g_from g_to g_level g_full a_tape a_hAt a_hMany a_tAt a_tMany a_least a_place a_to a_order a_fails a_sKeys a_sRow a_sSlots a_bKeys a_bRow a_bSlots a_easy a_wants a_wantedBy a_ring a_carried a_latest v_taped v_faultKind v_faultPlace v_x v_ordered v_sought v_lastSought v_hMoved v_hWithout v_tMoved v_tWithout v_places v_elsewhere v_sMany v_bMany v_year y_lies a_rsort a_rmany a_nums pl)) (some (.int res)) := by
  refine MX.ofI (by decide) (Nat.le_of_ble_eq_true rfl) ?_
  intro p e s m args below meth c Q A hX hK hE0 hname hret H locs ls hH hl
  have hX : CallFix p m c cX0_count 2 s args lw_all RX0 := hX
  have hx := hX.1
  have hb := hX.2.1
  have hown := hX.2.2.2.1
  have hts := hX.2.2.2.2
  have hl : lv_has ls 2 [(0, .ref (ad 0)), (1, .int p1)] := hl
  have hEv := hE.1
  have hNW := hE.2.1 _ _ _ hE0
  have hT := hPO.1
  have hB := hPO.2
  delta FX0_count at hF
  refine lv_iload_n hx hb dX0_count_0 rfl (lv_at hl 1 rfl) ?_
  by_cases c_55_0 : p1 = 0
  · have hF := itp c_55_0 hF
    refine lv_tableIn (tgt := 64) hx hb dX0_count_1 (by rw [c_55_0]; decide) (by rw [c_55_0]; decide) (by rw [c_55_0]; rfl) rfl ?_
    refine lv_aload_n hx hb dX0_count_64 rfl (lv_at hl 0 rfl) ?_
    refine cg_Y_this_s hX hK hNW hH dX0_count_65 ?_
    refine cg_Y_state_town hX hK hNW hH dX0_count_68 ?_
    refine cg_Y_town_rows hT (fun _ h => cW_pl h) hX hK hNW hH dX0_count_71 ?_
    refine mxV hX hK hEv hE0 hH (met_J2_size hE.1 hT.rows (fun _ h => cW_pl h)) (precv (fun _ h => cW_pl h) hK hH 17 rfl hT.rows.obj) gw_StoneYear_133 hd_yJ2_size ⟨Nat.le_of_ble_eq_true rfl, Nat.le_of_ble_eq_true rfl⟩ rfl rfl hl (Nat.le_of_ble_eq_true rfl) dX0_count_74 ⟨Nat.le_of_ble_eq_true rfl, Nat.le_of_ble_eq_true rfl⟩ (fun w2 H locs hw hH => ?_)
    subst hw
    obtain rfl := Option.some.inj hF
    exact hret _ _ _ _ _ rfl hH dX0_count_77
  · have hF := itn c_55_0 hF
    by_cases c_55_1 : p1 = 1
    · have hF := itp c_55_1 hF
      refine lv_tableIn (tgt := 78) hx hb dX0_count_1 (by rw [c_55_1]; decide) (by rw [c_55_1]; decide) (by rw [c_55_1]; rfl) rfl ?_
      refine lv_aload_n hx hb dX0_count_78 rfl (lv_at hl 0 rfl) ?_
      refine cg_Y_this_s hX hK hNW hH dX0_count_79 ?_
      refine cg_Y_state_town hX hK hNW hH dX0_count_82 ?_
      refine cg_Y_town_stones hT (fun _ h => cW_pl h) hX hK hNW hH dX0_count_85 ?_
      refine mxV hX hK hEv hE0 hH (met_J2_size hE.1 hT.stones (fun _ h => cW_pl h)) (precv (fun _ h => cW_pl h) hK hH 17 rfl hT.stones.obj) gw_StoneYear_133 hd_yJ2_size ⟨Nat.le_of_ble_eq_true rfl, Nat.le_of_ble_eq_true rfl⟩ rfl rfl hl (Nat.le_of_ble_eq_true rfl) dX0_count_88 ⟨Nat.le_of_ble_eq_true rfl, Nat.le_of_ble_eq_true rfl⟩ (fun w2 H locs hw hH => ?_)
      subst hw
      obtain rfl := Option.some.inj hF
      exact hret _ _ _ _ _ rfl hH dX0_count_91
    · have hF := itn c_55_1 hF
      by_cases c_55_2 : p1 = 2
      · have hF := itp c_55_2 hF
        refine lv_tableIn (tgt := 92) hx hb dX0_count_1 (by rw [c_55_2]; decide) (by rw [c_55_2]; decide) (by rw [c_55_2]; rfl) rfl ?_
        refine lv_aload_n hx hb dX0_count_92 rfl (lv_at hl 0 rfl) ?_
        refine cg_Y_this_s hX hK hNW hH dX0_count_93 ?_
        refine cg_Y_state_town hX hK hNW hH dX0_count_96 ?_
        refine cg_Y_town_musts hT (fun _ h => cW_pl h) hX hK hNW hH dX0_count_99 ?_
        refine mxV hX hK hEv hE0 hH (met_J2_size hE.1 hT.musts (fun _ h => cW_pl h)) (precv (fun _ h => cW_pl h) hK hH 17 rfl hT.musts.obj) gw_StoneYear_133 hd_yJ2_size ⟨Nat.le_of_ble_eq_true rfl, Nat.le_of_ble_eq_true rfl⟩ rfl rfl hl (Nat.le_of_ble_eq_true rfl) dX0_count_102 ⟨Nat.le_of_ble_eq_true rfl, Nat.le_of_ble_eq_true rfl⟩ (fun w2 H locs hw hH => ?_)
        subst hw
        obtain rfl := Option.some.inj hF
        exact hret _ _ _ _ _ rfl hH dX0_count_105
      · have hF := itn c_55_2 hF
        by_cases c_55_3 : p1 = 3
        · have hF := itp c_55_3 hF
          refine lv_tableIn (tgt := 106) hx hb dX0_count_1 (by rw [c_55_3]; decide) (by rw [c_55_3]; decide) (by rw [c_55_3]; rfl) rfl ?_
          refine lv_aload_n hx hb dX0_count_106 rfl (lv_at hl 0 rfl) ?_
          refine cg_Y_this_s hX hK hNW hH dX0_count_107 ?_
          refine cg_Y_state_bars hX hK hNW hH dX0_count_110 ?_
          refine mxV hX hK hEv hE0 hH (met_J2_size hE.1 hB.ls (fun _ h => cW_pl h)) (precv (fun _ h => cW_pl h) hK hH 17 rfl hB.ls.obj) gw_StoneYear_133 hd_yJ2_size ⟨Nat.le_of_ble_eq_true rfl, Nat.le_of_ble_eq_true rfl⟩ rfl rfl hl (Nat.le_of_ble_eq_true rfl) dX0_count_113 ⟨Nat.le_of_ble_eq_true rfl, Nat.le_of_ble_eq_true rfl⟩ (fun w2 H locs hw hH => ?_)
          subst hw
          obtain rfl := Option.some.inj hF
          exact hret _ _ _ _ _ rfl hH dX0_count_116
        · have hF := itn c_55_3 hF
          by_cases c_55_4 : p1 = 4
          · have hF := itp c_55_4 hF
            refine lv_tableIn (tgt := 117) hx hb dX0_count_1 (by rw [c_55_4]; decide) (by rw [c_55_4]; decide) (by rw [c_55_4]; rfl) rfl ?_
            refine lv_aload_n hx hb dX0_count_117 rfl (lv_at hl 0 rfl) ?_
            refine cg_Y_this_s hX hK hNW hH dX0_count_118 ?_
            refine cg_Y_state_year hX hK hNW hH dX0_count_121 ?_
            obtain rfl := Option.some.inj hF
            exact hret _ _ _ _ _ rfl hH dX0_count_124
          · have hF := itn c_55_4 hF
            by_cases c_55_5 : p1 = 5
            · have hF := itp c_55_5 hF
              refine lv_tableIn (tgt := 125) hx hb dX0_count_1 (by rw [c_55_5]; decide) (by rw [c_55_5]; decide) (by rw [c_55_5]; rfl) rfl ?_
              refine lv_aload_n hx hb dX0_count_125 rfl (lv_at hl 0 rfl) ?_
              refine cg_Y_this_s hX hK hNW hH dX0_count_126 ?_
              refine cg_Y_state_lies hX hK hNW hH dX0_count_129 ?_
              refine lv_bipush (v := 32) hx hb dX0_count_132 kyb_32 ?_
              refine lv_lshr hx hb dX0_count_134 rfl ?_
              refine lv_l2i (v := (Int64.toInt32 (shrL y_lies 32))) hx hb dX0_count_135 rfl ?_
              obtain ⟨x_58, he, hF⟩ := bd1e hF
              refine mxS hX hK hEv hE0 hH (met_J11_bitCount (EvG_of hEv) he).toX gw_StoneYear_361 hd_yJ11_bitCount ⟨Nat.le_of_ble_eq_true rfl, Nat.le_of_ble_eq_true rfl⟩ rfl rfl hl (Nat.le_of_ble_eq_true rfl) dX0_count_136 ⟨Nat.le_of_ble_eq_true rfl, Nat.le_of_ble_eq_true rfl⟩ (fun w2 H locs hw hH => ?_)
              subst hw
              obtain rfl := Option.some.inj hF
              exact hret _ _ _ _ _ rfl hH dX0_count_139
            · have hF := itn c_55_5 hF
              by_cases c_55_6 : p1 = 6
              · have hF := itp c_55_6 hF
                refine lv_tableIn (tgt := 140) hx hb dX0_count_1 (by rw [c_55_6]; decide) (by rw [c_55_6]; decide) (by rw [c_55_6]; rfl) rfl ?_
                refine lv_aload_n hx hb dX0_count_140 rfl (lv_at hl 0 rfl) ?_
                refine cg_Y_this_s hX hK hNW hH dX0_count_141 ?_
                refine cg_Y_state_town hX hK hNW hH dX0_count_144 ?_
                refine cg_Y_town_over hT (fun _ h => cW_pl h) hX hK hNW hH dX0_count_147 ?_
                obtain rfl := Option.some.inj hF
                exact hret _ _ _ _ _ rfl hH dX0_count_150
              · have hF := itn c_55_6 hF
                by_cases c_55_7 : p1 = 7
                · have hF := itp c_55_7 hF
                  refine lv_tableIn (tgt := 151) hx hb dX0_count_1 (by rw [c_55_7]; decide) (by rw [c_55_7]; decide) (by rw [c_55_7]; rfl) rfl ?_
                  refine lv_aload_n hx hb dX0_count_151 rfl (lv_at hl 0 rfl) ?_
                  refine cg_Y_this_s hX hK hNW hH dX0_count_152 ?_
                  refine cg_Y_state_town hX hK hNW hH dX0_count_155 ?_
                  refine cg_Y_town_most hT (fun _ h => cW_pl h) hX hK hNW hH dX0_count_158 ?_
                  obtain rfl := Option.some.inj hF
                  exact hret _ _ _ _ _ rfl hH dX0_count_161
                · have hF := itn c_55_7 hF
                  by_cases c_55_8 : p1 = 8
                  · have hF := itp c_55_8 hF
                    refine lv_tableIn (tgt := 162) hx hb dX0_count_1 (by rw [c_55_8]; decide) (by rw [c_55_8]; decide) (by rw [c_55_8]; rfl) rfl ?_
                    refine lv_aload_n hx hb dX0_count_162 rfl (lv_at hl 0 rfl) ?_
                    refine cg_Y_this_s hX hK hNW hH dX0_count_163 ?_
                    refine cg_Y_state_town hX hK hNW hH dX0_count_166 ?_
                    refine cg_Y_town_rings hT (fun _ h => cW_pl h) hX hK hNW hH dX0_count_169 ?_
                    refine lv_if_eq (tgt := 179) hx hb dX0_count_172 rfl (fun c_57 => ?_) (fun c_57 => ?_)
                    · have hF := itp c_57 hF
                      refine lv_iconst (v := 0) hx hb dX0_count_179 kyi_0 ?_
                      obtain rfl := Option.some.inj hF
                      exact hret _ _ _ _ _ rfl hH dX0_count_180
                    · have hF := itn c_57 hF
                      refine lv_iconst (v := 1) hx hb dX0_count_175 kyi_1 ?_
                      refine lv_goto (tgt := 180) hx hb dX0_count_176 rfl ?_
                      obtain rfl := Option.some.inj hF
                      exact hret _ _ _ _ _ rfl hH dX0_count_180
                  · have hF := itn c_55_8 hF
                    by_cases c_55_9 : p1 = 9
                    · have hF := itp c_55_9 hF
                      refine lv_tableIn (tgt := 181) hx hb dX0_count_1 (by rw [c_55_9]; decide) (by rw [c_55_9]; decide) (by rw [c_55_9]; rfl) rfl ?_
                      refine lv_aload_n hx hb dX0_count_181 rfl (lv_at hl 0 rfl) ?_
                      refine cg_Y_this_s hX hK hNW hH dX0_count_182 ?_
                      refine cg_Y_state_town hX hK hNW hH dX0_count_185 ?_
                      refine cg_Y_town_floods hT (fun _ h => cW_pl h) hX hK hNW hH dX0_count_188 ?_
                      refine lv_if_eq (tgt := 198) hx hb dX0_count_191 rfl (fun c_56 => ?_) (fun c_56 => ?_)
                      · have hF := itp c_56 hF
                        refine lv_iconst (v := 0) hx hb dX0_count_198 kyi_0 ?_
                        obtain rfl := Option.some.inj hF
                        exact hret _ _ _ _ _ rfl hH dX0_count_199
                      · have hF := itn c_56 hF
                        refine lv_iconst (v := 1) hx hb dX0_count_194 kyi_1 ?_
                        refine lv_goto (tgt := 199) hx hb dX0_count_195 rfl ?_
                        obtain rfl := Option.some.inj hF
                        exact hret _ _ _ _ _ rfl hH dX0_count_199
                    · have hF := itn c_55_9 hF
                      by_cases c_55_10 : p1 = 10
                      · have hF := itp c_55_10 hF
                        refine lv_tableIn (tgt := 200) hx hb dX0_count_1 (by rw [c_55_10]; decide) (by rw [c_55_10]; decide) (by rw [c_55_10]; rfl) rfl ?_
                        refine lv_aload_n hx hb dX0_count_200 rfl (lv_at hl 0 rfl) ?_
                        refine cg_Y_this_taped hX hK hNW hH dX0_count_201 ?_
                        obtain rfl := Option.some.inj hF
                        exact hret _ _ _ _ _ rfl hH dX0_count_204
                      · have hF := itn c_55_10 hF
                        by_cases c_55_11 : p1 = 11
                        · have hF := itp c_55_11 hF
                          refine lv_tableIn (tgt := 205) hx hb dX0_count_1 (by rw [c_55_11]; decide) (by rw [c_55_11]; decide) (by rw [c_55_11]; rfl) rfl ?_
                          refine lv_aload_n hx hb dX0_count_205 rfl (lv_at hl 0 rfl) ?_
                          refine cg_Y_this_s hX hK hNW hH dX0_count_206 ?_
                          refine cg_Y_state_town hX hK hNW hH dX0_count_209 ?_
                          refine cg_Y_town_lines hT (fun _ h => cW_pl h) hX hK hNW hH dX0_count_212 ?_
                          obtain rfl := Option.some.inj hF
                          exact hret _ _ _ _ _ rfl hH dX0_count_215
                        · have hF := itn c_55_11 hF
                          have tc_55_0 := lv_neT (a := 0) c_55_0 (by decide)
                          have tc_55_1 := lv_neT (a := 1) c_55_1 (by decide)
                          have tc_55_2 := lv_neT (a := 2) c_55_2 (by decide)
                          have tc_55_3 := lv_neT (a := 3) c_55_3 (by decide)
                          have tc_55_4 := lv_neT (a := 4) c_55_4 (by decide)
                          have tc_55_5 := lv_neT (a := 5) c_55_5 (by decide)
                          have tc_55_6 := lv_neT (a := 6) c_55_6 (by decide)
                          have tc_55_7 := lv_neT (a := 7) c_55_7 (by decide)
                          have tc_55_8 := lv_neT (a := 8) c_55_8 (by decide)
                          have tc_55_9 := lv_neT (a := 9) c_55_9 (by decide)
                          have tc_55_10 := lv_neT (a := 10) c_55_10 (by decide)
                          have tc_55_11 := lv_neT (a := 11) c_55_11 (by decide)
                          refine lv_tableOut (tgt := 216) hx hb dX0_count_1 (by omega) rfl ?_
                          refine lv_iconst (v := (-1)) hx hb dX0_count_216 kyi_m1 ?_
                          obtain rfl := Option.some.inj hF
                          exact hret _ _ _ _ _ rfl hH dX0_count_217