set_option maxRecDepth 100000
abbrev rm_X0_bytes : Room := { frames := 0, cells := 0, slots := 0, locals := 0 }
set_option maxHeartbeats 4000000 in
theorem met_X0_bytes {l : Launch} {D : va_G} {ad : Nat → Nat} {cA : Nat → ClassId} {sA ta ba na : Nat → Nat} {gi : Nat → Option Nat} {rh : Option Nat} {rt : Option Nat} {g_sort : Int32} {g_size : Int32} {g_from : Int32} {g_to : Int32} {g_level : Int32} {g_full : Int32} {a_tape : Nat → Int32} {a_hAt : Nat → Int32} {a_hMany : Nat → Int32} {a_tAt : Nat → Int32} {a_tMany : Nat → Int32} {a_least : Nat → Int32} {a_place : Nat → Int32} {a_to : Nat → Int32} {a_order : Nat → Int32} {a_fails : Nat → Int32} {a_sKeys : Nat → Int64} {a_sRow : Nat → Int64} {a_sSlots : Nat → Int32} {a_bKeys : Nat → Int64} {a_bRow : Nat → Int64} {a_bSlots : Nat → Int32} {a_easy : Nat → Int32} {a_wants : Nat → Int32} {a_wantedBy : Nat → Int32} {a_ring : Nat → Int32} {a_carried : Nat → Int32} {a_latest : Nat → Int32} {v_taped : Int32} {v_faultKind : Int32} {v_faultPlace : Int32} {v_x : Int32} {v_ordered : Int32} {v_sought : Int32} {v_lastSought : Int32} {v_hMoved : Int32} {v_hWithout : Int32} {v_tMoved : Int32} {v_tWithout : Int32} {v_places : Int32} {v_elsewhere : Int32} {v_sMany : Int32} {v_bMany : Int32} {v_year : Int32} {y_lies : Int64} {a_rsort : Nat → Int32} {a_rmany : Nat → Int32} {a_nums : Nat → Nat → Int64} {t : Nat → Int32} {nb : Int32} {bv : Nat → Int32 → Int32 → Int32 → Int32 → Int32 → Int32 → Bool} {pl : va_W}  {p1 : Int32} {ra_tape : Nat → Int32} {rv_taped : Int32} {E : EvT} (hE : EvN E) (hPO : PO cA pl ta ba t nb bv) (hF : FX0_bytes a_tape v_taped p1 = some (ra_tape, rv_taped)) : MX l yX0_bytes (ws_ yX0_bytes cX0_bytes 3 (Option.none : Option Jvm.ClassFile.FieldType)) rm_X0_bytes D vwA (cT cA) E [.ref (ad 0), .int p1] (cW ad cA sA ta ba na gi rh rt g_sort g_size g_from g_to g_level g_full a_tape a_hAt a_hMany a_tAt a_tMany a_least a_place a_to a_order a_fails a_sKeys a_sRow a_sSlots a_bKeys a_bRow a_bSlots a_easy a_wants a_wantedBy a_ring a_carried a_latest v_taped v_faultKind v_faultPlace v_x v_ordered v_sought v_lastSought v_hMoved v_hWithout v_tMoved v_tWithout v_places v_elsewhere v_sMany v_bMany v_year y_lies a_rsort a_rmany a_nums pl) (fun z => z = (cW ad cA sA ta ba na gi rh rt g_sort g_size g_from g_to g_level g_full ra_tape a_hAt a_hMany a_tAt a_tMany a_least a_place a_to a_order a_fails a_sKeys a_sRow a_sSlots a_bKeys a_bRow a_bSlots a_easy a_wants a_wantedBy a_ring a_carried a_latest rv_taped v_faultKind v_faultPlace v_x v_ordered v_sought v_lastSought v_hMoved v_hWithout v_tMoved v_tWithout v_places v_elsewhere v_sMany v_bMany v_year y_lies a_rsort a_rmany a_nums pl)) none := by
  refine MX.ofV (by decide) (Nat.le_of_ble_eq_true rfl) ?_
  intro p e s m args below meth c Q A hX hK hE0 hname hret H locs ls hH hl
  have hX : CallFix p m c cX0_bytes 3 s args lw_all RX0 := hX
  have hx := hX.1
  have hb := hX.2.1
  have hown := hX.2.2.2.1
  have hts := hX.2.2.2.2
  have hl : lv_has ls 3 [(0, .ref (ad 0)), (1, .int p1)] := hl
  have hEv := hE.1
  have hNW := hE.2.1 _ _ _ hE0
  have hT := hPO.1
  have hB := hPO.2
  delta FX0_bytes at hF
  refine lv_bipush (v := 24) hx hb dX0_bytes_0 kyb_24 ?_
  refine lv_istore_n (lv' := [(2, .int 24), (0, .ref (ad 0)), (1, .int p1)]) hx hb dX0_bytes_2 rfl hl (by decide) rfl (fun ls hl => ?_)
  obtain ⟨xx3, ee3, kk3_0⟩ := bd2L hF
  have k3_0 : ∀ (a_tape_62 : Nat → Int32) (v_taped_63 : Int32), xx3 = (a_tape_62, v_taped_63) → ∀ (H : Heap) (locs : List Loc) (ls : Array Slot), MH D vwA A s.heap (cW ad cA sA ta ba na gi rh rt g_sort g_size g_from g_to g_level g_full a_tape_62 a_hAt a_hMany a_tAt a_tMany a_least a_place a_to a_order a_fails a_sKeys a_sRow a_sSlots a_bKeys a_bRow a_bSlots a_easy a_wants a_wantedBy a_ring a_carried a_latest v_taped_63 v_faultKind v_faultPlace v_x v_ordered v_sought v_lastSought v_hMoved v_hWithout v_tMoved v_tWithout v_places v_elsewhere v_sMany v_bMany v_year y_lies a_rsort a_rmany a_nums pl) H locs → lv_has ls 3 [] → W p l e rm_X0_bytes s m args below meth c H locs 0 0 Q (F0 m 36 ls []) := by
    intro a_tape_62 v_taped_63 hxx H locs ls hH hl
    have hF := un2e (kk3_0 (a_tape_62, v_taped_63) hxx)
    obtain ⟨rfl, rfl⟩ := re2 hF
    exact hret _ _ _ _ _ rfl hH dX0_bytes_36
  obtain ⟨nn3, en3⟩ := loopC_some ee3
  have l3 : ∀ (n : Nat) (x_57 : Int32) (a_tape_58 : Nat → Int32) (v_taped_59 : Int32), loopN (fun s => FX0_bytes_b3 p1 s.1 s.2.1 s.2.2) n (x_57, a_tape_58, v_taped_59) = some xx3 → ∀ (H : Heap) (locs : List Loc) (ls : Array Slot), MH D vwA A s.heap (cW ad cA sA ta ba na gi rh rt g_sort g_size g_from g_to g_level g_full a_tape_58 a_hAt a_hMany a_tAt a_tMany a_least a_place a_to a_order a_fails a_sKeys a_sRow a_sSlots a_bKeys a_bRow a_bSlots a_easy a_wants a_wantedBy a_ring a_carried a_latest v_taped_59 v_faultKind v_faultPlace v_x v_ordered v_sought v_lastSought v_hMoved v_hWithout v_tMoved v_tWithout v_places v_elsewhere v_sMany v_bMany v_year y_lies a_rsort a_rmany a_nums pl) H locs → lv_has ls 3 [(0, .ref (ad 0)), (1, .int p1), (2, .int x_57)] → W p l e rm_X0_bytes s m args below meth c H locs 0 0 Q (F0 m 3 ls []) := by
    intro n
    induction n with
    | zero =>
      intro x_57 a_tape_58 v_taped_59 hN
      exact absurd hN loopN_zero
    | succ n ih =>
      intro x_57 a_tape_58 v_taped_59 hN H locs ls hH hl
      obtain ⟨yy3, hB3, hY3⟩ := loopN_succ hN
      have hF : FX0_bytes_b3 p1 x_57 a_tape_58 v_taped_59 = some yy3 := hB3
      delta FX0_bytes_b3 at hF
      refine lv_iload_n hx hb dX0_bytes_3 rfl (lv_at hl 2 rfl) ?_
      refine lv_if_lt (tgt := 36) hx hb dX0_bytes_4 rfl (fun c_60 => ?_) (fun c_60 => ?_)
      · have hF := itp c_60 hF
        obtain rfl := Option.some.inj hF
        exact k3_0 a_tape_58 v_taped_59 hY3 _ _ _ hH (lv_sub hl [] rfl)
      · have hF := itn c_60 hF
        refine lv_aload_n hx hb dX0_bytes_7 rfl (lv_at hl 0 rfl) ?_
        refine cg_Y_this_tape hX hK hNW hH dX0_bytes_8 ?_
        refine lv_aload_n hx hb dX0_bytes_11 rfl (lv_at hl 0 rfl) ?_
        refine cg_Y_this_taped hX hK hNW hH dX0_bytes_12 ?_
        refine lv_iload_n hx hb dX0_bytes_15 rfl (lv_at hl 1 rfl) ?_
        refine lv_iload_n hx hb dX0_bytes_16 rfl (lv_at hl 2 rfl) ?_
        refine lv_ishr hx hb dX0_bytes_17 ?_
        refine lv_i2b (v := (cvB (p1 >>> (x_57 &&& 31)))) hx hb dX0_bytes_18 rfl ?_
        obtain ⟨a_tape_61, he, hF⟩ := bd1e hF
        refine cs_tape hX hK hH he dX0_bytes_19 (fun H locs hH => ?_)
        refine lv_aload_n hx hb dX0_bytes_20 rfl (lv_at hl 0 rfl) ?_
        refine lv_dup hx hb dX0_bytes_21 rfl ?_
        refine cg_Y_this_taped hX hK hNW hH dX0_bytes_22 ?_
        refine lv_iconst (v := 1) hx hb dX0_bytes_25 kyi_1 ?_
        refine lv_iadd hx hb dX0_bytes_26 ?_
        refine cp_Y_this_taped hX hK hNW hH dX0_bytes_27 (fun H locs hH => ?_)
        refine lv_iinc (v := (x_57 + (-8))) (lv' := [(2, .int (x_57 + (-8))), (0, .ref (ad 0)), (1, .int p1)]) hx hb dX0_bytes_30 hl (k := 2) rfl (syc kyi_m8) (by decide) rfl (fun ls hl => ?_)
        refine lv_goto (tgt := 3) hx hb dX0_bytes_33 rfl ?_
        obtain rfl := Option.some.inj hF
        exact ih (x_57 + (-8)) a_tape_61 (v_taped_59 + 1) hY3 _ _ _ hH (lv_sub hl [1, 2, 0] rfl)
  exact l3 nn3 24 a_tape v_taped en3 _ _ _ hH (lv_sub hl [1, 2, 0] rfl)
abbrev rm_X0_feed : Room := { frames := 1, cells := 0, slots := 0, locals := 22 }
set_option maxHeartbeats 4000000 in
theorem met_X0_feed {l : Launch} {D : va_G} {ad : Nat → Nat} {cA : Nat → ClassId} {sA ta ba na : Nat → Nat} {gi : Nat → Option Nat} {rh : Option Nat} {rt : Option Nat} {g_sort : Int32} {g_size : Int32} {g_from : Int32} {g_to : Int32} {g_level : Int32} {g_full : Int32} {a_tape : Nat → Int32} {a_hAt : Nat → Int32} {a_hMany : Nat → Int32} {a_tAt : Nat → Int32} {a_tMany : Nat → Int32} {a_least : Nat → Int32} {a_place : Nat → Int32} {a_to : Nat → Int32} {a_order : Nat → Int32} {a_fails : Nat → Int32} {a_sKeys : Nat → Int64} {a_sRow : Nat → Int64} {a_sSlots : Nat → Int32} {a_bKeys : Nat → Int64} {a_bRow : Nat → Int64} {a_bSlots : Nat → Int32} {a_easy : Nat → Int32} {a_wants : Nat → Int32} {a_wantedBy : Nat → Int32} {a_ring : Nat → Int32} {a_carried : Nat → Int32} {a_latest : Nat → Int32} {v_taped : Int32} {v_faultKind : Int32} {v_faultPlace : Int32} {v_x : Int32} {v_ordered : Int32} {v_sought : Int32} {v_lastSought : Int32} {v_hMoved : Int32} {v_hWithout : Int32} {v_tMoved : Int32} {v_tWithout : Int32} {v_places : Int32} {v_elsewhere : Int32} {v_sMany : Int32} {v_bMany : Int32} {v_year : Int32} {y_lies : Int64} {a_rsort : Nat → Int32} {a_rmany : Nat → Int32} {a_nums : Nat → Nat → Int64} {t : Nat → Int32} {nb : Int32} {bv : Nat → Int32 → Int32 → Int32 → Int32 → Int32 → Int32 → Bool} {pl : va_W}  {p1 : Int32} {p2 : Int32} {p3 : Int32} {p4 : Int32} {p5 : Int32} {res : Int32} {ra_tape : Nat → Int32} {rv_taped : Int32} {E : EvT} (hE : EvN E) (hPO : PO cA pl ta ba t nb bv) (hF : FX0_feed a_tape v_taped p1 p2 p3 p4 p5 = some (res, ra_tape, rv_taped)) : MX l yX0_feed (ws_ yX0_feed cX0_feed 6 (Option.some Jvm.ClassFile.FieldType.int)) rm_X0_feed D vwA (cT cA) E [.ref (ad 0), .int p1, .int p2, .int p3, .int p4, .int p5] (cW ad cA sA ta ba na gi rh rt g_sort g_size g_from g_to g_level g_full a_tape a_hAt a_hMany a_tAt a_tMany a_least a_place a_to a_order a_fails a_sKeys a_sRow a_sSlots a_bKeys a_bRow a_bSlots a_easy a_wants a_wantedBy a_ring a_carried a_latest v_taped v_faultKind v_faultPlace v_x v_ordered v_sought v_lastSought v_hMoved v_hWithout v_tMoved v_tWithout v_places v_elsewhere v_sMany v_bMany v_year y_lies a_rsort a_rmany a_nums pl) (fun z => z = (cW ad cA sA ta ba na gi rh rt g_sort g_size g_from g_to g_level g_full ra_tape a_hAt a_hMany a_tAt a_tMany a_least a_place a_to a_order a_fails a_sKeys a_sRow a_sSlots a_bKeys a_bRow a_bSlots a_easy a_wants a_wantedBy a_ring a_carried a_latest rv_taped v_faultKind v_faultPlace v_x v_ordered v_sought v_lastSought v_hMoved v_hWithout v_tMoved v_tWithout v_places v_elsewhere v_sMany v_bMany v_year y_lies a_rsort a_rmany a_nums pl)) (some (.int res)) := by
  refine MX.ofI (by decide) (Nat.le_of_ble_eq_true rfl) ?_
  intro p e s m args below meth c Q A hX hK hE0 hname hret H locs ls hH hl
  have hX : CallFix p m c cX0_feed 6 s args lw_all RX0 := hX
  have hx := hX.1
  have hb := hX.2.1
  have hown := hX.2.2.2.1
  have hts := hX.2.2.2.2
  have hl : lv_has ls 6 [(0, .ref (ad 0)), (1, .int p1), (2, .int p2), (3, .int p3), (4, .int p4), (5, .int p5)] := hl
  have hEv := hE.1
  have hNW := hE.2.1 _ _ _ hE0
  have hT := hPO.1
  have hB := hPO.2
  delta FX0_feed at hF
  refine lv_aload_n hx hb dX0_feed_0 rfl (lv_at hl 0 rfl) ?_
  refine cg_Y_this_taped hX hK hNW hH dX0_feed_1 ?_
  refine lv_bipush (v := 20) hx hb dX0_feed_4 kyb_20 ?_
  refine lv_iadd hx hb dX0_feed_6 ?_
  refine lv_sipush (v := 400) hx hb dX0_feed_7 kys_400 ?_
  refine lv_icmp_le (tgt := 16) hx hb dX0_feed_10 rfl (fun c_59 => ?_) (fun c_59 => ?_)
  · have hF := itp c_59 hF
    refine lv_aload_n hx hb dX0_feed_16 rfl (lv_at hl 0 rfl) ?_
    refine lv_iload_n hx hb dX0_feed_17 rfl (lv_at hl 1 rfl) ?_
    obtain ⟨a_tape_60, v_taped_61, he, hF⟩ := bd2e hF
    refine mxV hX hK hEv hE0 hH (met_X0_bytes hE hPO he) (crecv hK hH 0 0 rfl rfl) gw_StoneYear_102 hd_yX0_bytes ⟨Nat.le_of_ble_eq_true rfl, Nat.le_of_ble_eq_true rfl⟩ rfl rfl hl (Nat.le_of_ble_eq_true rfl) dX0_feed_18 ⟨Nat.le_of_ble_eq_true rfl, Nat.le_of_ble_eq_true rfl⟩ (fun w2 H locs hw hH => ?_)
    subst hw
    refine lv_aload_n hx hb dX0_feed_21 rfl (lv_at hl 0 rfl) ?_
    refine lv_iload_n hx hb dX0_feed_22 rfl (lv_at hl 2 rfl) ?_
    obtain ⟨a_tape_62, v_taped_63, he, hF⟩ := bd2e hF
    refine mxV hX hK hEv hE0 hH (met_X0_bytes hE hPO he) (crecv hK hH 0 0 rfl rfl) gw_StoneYear_102 hd_yX0_bytes ⟨Nat.le_of_ble_eq_true rfl, Nat.le_of_ble_eq_true rfl⟩ rfl rfl hl (Nat.le_of_ble_eq_true rfl) dX0_feed_23 ⟨Nat.le_of_ble_eq_true rfl, Nat.le_of_ble_eq_true rfl⟩ (fun w2 H locs hw hH => ?_)
    subst hw
    refine lv_aload_n hx hb dX0_feed_26 rfl (lv_at hl 0 rfl) ?_
    refine lv_iload_n hx hb dX0_feed_27 rfl (lv_at hl 3 rfl) ?_
    obtain ⟨a_tape_64, v_taped_65, he, hF⟩ := bd2e hF
    refine mxV hX hK hEv hE0 hH (met_X0_bytes hE hPO he) (crecv hK hH 0 0 rfl rfl) gw_StoneYear_102 hd_yX0_bytes ⟨Nat.le_of_ble_eq_true rfl, Nat.le_of_ble_eq_true rfl⟩ rfl rfl hl (Nat.le_of_ble_eq_true rfl) dX0_feed_28 ⟨Nat.le_of_ble_eq_true rfl, Nat.le_of_ble_eq_true rfl⟩ (fun w2 H locs hw hH => ?_)
    subst hw
    refine lv_aload_n hx hb dX0_feed_31 rfl (lv_at hl 0 rfl) ?_
    refine lv_iload hx hb dX0_feed_32 (lv_at hl 4 rfl) ?_
    obtain ⟨a_tape_66, v_taped_67, he, hF⟩ := bd2e hF
    refine mxV hX hK hEv hE0 hH (met_X0_bytes hE hPO he) (crecv hK hH 0 0 rfl rfl) gw_StoneYear_102 hd_yX0_bytes ⟨Nat.le_of_ble_eq_true rfl, Nat.le_of_ble_eq_true rfl⟩ rfl rfl hl (Nat.le_of_ble_eq_true rfl) dX0_feed_34 ⟨Nat.le_of_ble_eq_true rfl, Nat.le_of_ble_eq_true rfl⟩ (fun w2 H locs hw hH => ?_)
    subst hw
    refine lv_aload_n hx hb dX0_feed_37 rfl (lv_at hl 0 rfl) ?_
    refine lv_iload hx hb dX0_feed_38 (lv_at hl 5 rfl) ?_
    obtain ⟨a_tape_68, v_taped_69, he, hF⟩ := bd2e hF
    refine mxV hX hK hEv hE0 hH (met_X0_bytes hE hPO he) (crecv hK hH 0 0 rfl rfl) gw_StoneYear_102 hd_yX0_bytes ⟨Nat.le_of_ble_eq_true rfl, Nat.le_of_ble_eq_true rfl⟩ rfl rfl hl (Nat.le_of_ble_eq_true rfl) dX0_feed_40 ⟨Nat.le_of_ble_eq_true rfl, Nat.le_of_ble_eq_true rfl⟩ (fun w2 H locs hw hH => ?_)
    subst hw
    refine lv_aload_n hx hb dX0_feed_43 rfl (lv_at hl 0 rfl) ?_
    refine cg_Y_this_taped hX hK hNW hH dX0_feed_44 ?_
    obtain ⟨rfl, rfl, rfl⟩ := re3 hF
    exact hret _ _ _ _ _ rfl hH dX0_feed_47
  · have hF := itn c_59 hF
    refine lv_bipush (v := (-5)) hx hb dX0_feed_13 kyb_m5 ?_
    obtain ⟨rfl, rfl, rfl⟩ := re3 hF
    exact hret _ _ _ _ _ rfl hH dX0_feed_15
abbrev rm_X0_in : Room := { frames := 0, cells := 0, slots := 0, locals := 0 }
set_option maxHeartbeats 4000000 in
theorem met_X0_in {l : Launch} {D : va_G} {ad : Nat → Nat} {cA : Nat → ClassId} {sA ta ba na : Nat → Nat} {gi : Nat → Option Nat} {rh : Option Nat} {rt : Option Nat} {g_sort : Int32} {g_size : Int32} {g_from : Int32} {g_to : Int32} {g_level : Int32} {g_full : Int32} {a_tape : Nat → Int32} {a_hAt : Nat → Int32} {a_hMany : Nat → Int32} {a_tAt : Nat → Int32} {a_tMany : Nat → Int32} {a_least : Nat → Int32} {a_place : Nat → Int32} {a_to : Nat → Int32} {a_order : Nat → Int32} {a_fails : Nat → Int32} {a_sKeys : Nat → Int64} {a_sRow : Nat → Int64} {a_sSlots : Nat → Int32} {a_bKeys : Nat → Int64} {a_bRow : Nat → Int64} {a_bSlots : Nat → Int32} {a_easy : Nat → Int32} {a_wants : Nat → Int32} {a_wantedBy : Nat → Int32} {a_ring : Nat → Int32} {a_carried : Nat → Int32} {a_latest : Nat → Int32} {v_taped : Int32} {v_faultKind : Int32} {v_faultPlace : Int32} {v_x : Int32} {v_ordered : Int32} {v_sought : Int32} {v_lastSought : Int32} {v_hMoved : Int32} {v_hWithout : Int32} {v_tMoved : Int32} {v_tWithout : Int32} {v_places : Int32} {v_elsewhere : Int32} {v_sMany : Int32} {v_bMany : Int32} {v_year : Int32} {y_lies : Int64} {a_rsort : Nat → Int32} {a_rmany : Nat → Int32} {a_nums : Nat → Nat → Int64} {t : Nat → Int32} {nb : Int32} {bv : Nat → Int32 → Int32 → Int32 → Int32 → Int32 → Int32 → Bool} {pl : va_W}  {p0 : Int64} {p2 : Int64} {p4 : Int64} {res : Bool} {E : EvT} (hE : EvN E) (hPO : PO cA pl ta ba t nb bv) (hF : FX0_in p0 p2 p4 = some res) : MX l yX0_in (ws_ yX0_in cX0_in 6 (Option.some Jvm.ClassFile.FieldType.boolean)) rm_X0_in D vwA (cT cA) E [.long p0, .long p2, .long p4] (cW ad cA sA ta ba na gi rh rt g_sort g_size g_from g_to g_level g_full a_tape a_hAt a_hMany a_tAt a_tMany a_least a_place a_to a_order a_fails a_sKeys a_sRow a_sSlots a_bKeys a_bRow a_bSlots a_easy a_wants a_wantedBy a_ring a_carried a_latest v_taped v_faultKind v_faultPlace v_x v_ordered v_sought v_lastSought v_hMoved v_hWithout v_tMoved v_tWithout v_places v_elsewhere v_sMany v_bMany v_year y_lies a_rsort a_rmany a_nums pl) (fun z => z = (cW ad cA sA ta ba na gi rh rt g_sort g_size g_from g_to g_level g_full a_tape a_hAt a_hMany a_tAt a_tMany a_least a_place a_to a_order a_fails a_sKeys a_sRow a_sSlots a_bKeys a_bRow a_bSlots a_easy a_wants a_wantedBy a_ring a_carried a_latest v_taped v_faultKind v_faultPlace v_x v_ordered v_sought v_lastSought v_hMoved v_hWithout v_tMoved v_tWithout v_places v_elsewhere v_sMany v_bMany v_year y_lies a_rsort a_rmany a_nums pl)) (some (.int (b2i res))) := by
  refine MX.ofZ (by decide) (Nat.le_of_ble_eq_true rfl) ?_
  intro p e s m args below meth c Q A hX hK hE0 hname hret H locs ls hH hl
  have hX : CallFix p m c cX0_in 6 s args lw_all RX0 := hX
  have hx := hX.1
  have hb := hX.2.1
  have hown := hX.2.2.2.1
  have hts := hX.2.2.2.2
  have hl : lv_has ls 6 [(0, .long p0), (2, .long p2), (4, .long p4)] := hl
  have hEv := hE.1
  have hNW := hE.2.1 _ _ _ hE0
  have hT := hPO.1
  have hB := hPO.2
  delta FX0_in at hF
  refine lv_lload_n hx hb dX0_in_0 rfl (lv_at hl 0 rfl) ?_
  refine lv_lload_n hx hb dX0_in_1 rfl (lv_at hl 1 rfl) ?_
  refine W.lcmp hx hb dX0_in_2 ?_
  refine lv_if_lt (tgt := 17) hx hb dX0_in_3 rfl (fun c_57 => ?_) (fun c_57 => ?_)
  · have hF := itp c_57 hF
    refine lv_iconst (v := 0) hx hb dX0_in_17 kyi_0 ?_
    obtain rfl := Option.some.inj hF
    exact hret _ _ _ _ _ rfl hH dX0_in_18
  · have hF := itn c_57 hF
    refine lv_lload_n hx hb dX0_in_6 rfl (lv_at hl 0 rfl) ?_
    refine lv_lload hx hb dX0_in_7 (lv_at hl 2 rfl) ?_
    refine W.lcmp hx hb dX0_in_9 ?_
    refine lv_if_gt (tgt := 17) hx hb dX0_in_10 rfl (fun c_58 => ?_) (fun c_58 => ?_)
    · have hF := itp c_58 hF
      refine lv_iconst (v := 0) hx hb dX0_in_17 kyi_0 ?_
      obtain rfl := Option.some.inj hF
      exact hret _ _ _ _ _ rfl hH dX0_in_18
    · have hF := itn c_58 hF
      refine lv_iconst (v := 1) hx hb dX0_in_13 kyi_1 ?_
      refine lv_goto (tgt := 18) hx hb dX0_in_14 rfl ?_
      obtain rfl := Option.some.inj hF
      exact hret _ _ _ _ _ rfl hH dX0_in_18
abbrev rm_X0_fault : Room := { frames := 0, cells := 0, slots := 0, locals := 0 }
set_option maxHeartbeats 4000000 in
theorem met_X0_fault {l : Launch} {D : va_G} {ad : Nat → Nat} {cA : Nat → ClassId} {sA ta ba na : Nat → Nat} {gi : Nat → Option Nat} {rh : Option Nat} {rt : Option Nat} {g_sort : Int32} {g_size : Int32} {g_from : Int32} {g_to : Int32} {g_level : Int32} {g_full : Int32} {a_tape : Nat → Int32} {a_hAt : Nat → Int32} {a_hMany : Nat → Int32} {a_tAt : Nat → Int32} {a_tMany : Nat → Int32} {a_least : Nat → Int32} {a_place : Nat → Int32} {a_to : Nat → Int32} {a_order : Nat → Int32} {a_fails : Nat → Int32} {a_sKeys : Nat → Int64} {a_sRow : Nat → Int64} {a_sSlots : Nat → Int32} {a_bKeys : Nat → Int64} {a_bRow : Nat → Int64} {a_bSlots : Nat → Int32} {a_easy : Nat → Int32} {a_wants : Nat → Int32} {a_wantedBy : Nat → Int32} {a_ring : Nat → Int32} {a_carried : Nat → Int32} {a_latest : Nat → Int32} {v_taped : Int32} {v_faultKind : Int32} {v_faultPlace : Int32} {v_x : Int32} {v_ordered : Int32} {v_sought : Int32} {v_lastSought : Int32} {v_hMoved : Int32} {v_hWithout : Int32} {v_tMoved : Int32} {v_tWithout : Int32} {v_places : Int32} {v_elsewhere : Int32} {v_sMany : Int32} {v_bMany : Int32} {v_year : Int32} {y_lies : Int64} {a_rsort : Nat → Int32} {a_rmany : Nat → Int32} {a_nums : Nat → Nat → Int64} {t : Nat → Int32} {nb : Int32} {bv : Nat → Int32 → Int32 → Int32 → Int32 → Int32 → Int32 → Bool} {pl : va_W}  {p1 : Int32} {res : Int32} {E : EvT} (hE : EvN E) (hPO : PO cA pl ta ba t nb bv) (hF : FX0_fault v_faultKind v_faultPlace p1 = some res) : MX l yX0_fault (ws_ yX0_fault cX0_fault 2 (Option.some Jvm.ClassFile.FieldType.int)) rm_X0_fault D vwA (cT cA) E [.ref (ad 0), .int p1] (cW ad cA sA ta ba na gi rh rt g_sort g_size g_from g_to g_level g_full a_tape a_hAt a_hMany a_tAt a_tMany a_least a_place a_to a_order a_fails a_sKeys a_sRow a_sSlots a_bKeys a_bRow a_bSlots a_easy a_wants a_wantedBy a_ring a_carried a_latest v_taped v_faultKind v_faultPlace v_x v_ordered v_sought v_lastSought v_hMoved v_hWithout v_tMoved v_tWithout v_places v_elsewhere v_sMany v_bMany v_year y_lies a_rsort a_rmany a_nums pl) (fun z => z = (cW ad cA sA ta ba na gi rh rt g_sort g_size g_from g_to g_level g_full a_tape a_hAt a_hMany a_tAt a_tMany a_least a_place a_to a_order a_fails a_sKeys a_sRow a_sSlots a_bKeys a_bRow a_bSlots a_easy a_wants a_wantedBy a_ring a_carried a_latest v_taped v_faultKind v_faultPlace v_x v_ordered v_sought v_lastSought v_hMoved v_hWithout v_tMoved v_tWithout v_places v_elsewhere v_sMany v_bMany v_year y_lies a_rsort a_rmany a_nums pl)) (some (.int res)) := by
  refine MX.ofI (by decide) (Nat.le_of_ble_eq_true rfl) ?_
  intro p e s m args below meth c Q A hX hK hE0 hname hret H locs ls hH hl
  have hX : CallFix p m c cX0_fault 2 s args lw_all RX0 := hX
  have hx := hX.1
  have hb := hX.2.1
  have hown := hX.2.2.2.1
  have hts := hX.2.2.2.2
  have hl : lv_has ls 2 [(0, .ref (ad 0)), (1, .int p1)] := hl
  have hEv := hE.1
  have hNW := hE.2.1 _ _ _ hE0
  have hT := hPO.1
  have hB := hPO.2
  delta FX0_fault at hF
  refine lv_iload_n hx hb dX0_fault_0 rfl (lv_at hl 1 rfl) ?_
  refine lv_if_ne (tgt := 11) hx hb dX0_fault_1 rfl (fun c_55 => ?_) (fun c_55 => ?_)
  · have hF := itn c_55 hF
    refine lv_iload_n hx hb dX0_fault_11 rfl (lv_at hl 1 rfl) ?_
    refine lv_iconst (v := 1) hx hb dX0_fault_12 kyi_1 ?_
    refine lv_icmp_ne (tgt := 23) hx hb dX0_fault_13 rfl (fun c_56 => ?_) (fun c_56 => ?_)
    · have hF := itn c_56 hF
      refine lv_iconst (v := (-1)) hx hb dX0_fault_23 kyi_m1 ?_
      obtain rfl := Option.some.inj hF
      exact hret _ _ _ _ _ rfl hH dX0_fault_24
    · have hF := itp c_56 hF
      refine lv_aload_n hx hb dX0_fault_16 rfl (lv_at hl 0 rfl) ?_
      refine cg_Y_this_faultPlace hX hK hNW hH dX0_fault_17 ?_
      refine lv_goto (tgt := 24) hx hb dX0_fault_20 rfl ?_
      obtain rfl := Option.some.inj hF
      exact hret _ _ _ _ _ rfl hH dX0_fault_24
  · have hF := itp c_55 hF
    refine lv_aload_n hx hb dX0_fault_4 rfl (lv_at hl 0 rfl) ?_
    refine cg_Y_this_faultKind hX hK hNW hH dX0_fault_5 ?_
    refine lv_goto (tgt := 24) hx hb dX0_fault_8 rfl ?_
    obtain rfl := Option.some.inj hF
    exact hret _ _ _ _ _ rfl hH dX0_fault_24
abbrev rm_X0_isStone : Room := { frames := 1, cells := 0, slots := 0, locals := 25 }
set_option maxHeartbeats 4000000 in
theorem met_X0_isStone {l : Launch} {D : va_G} {ad : Nat → Nat} {cA : Nat → ClassId} {sA ta ba na : Nat → Nat} {gi : Nat → Option Nat} {rh : Option Nat} {rt : Option Nat} {g_sort : Int32} {g_size : Int32} {g_from : Int32} {g_to : Int32} {g_level : Int32} {g_full : Int32} {a_tape : Nat → Int32} {a_hAt : Nat → Int32} {a_hMany : Nat → Int32} {a_tAt : Nat → Int32} {a_tMany : Nat → Int32} {a_least : Nat → Int32} {a_place : Nat → Int32} {a_to : Nat → Int32} {a_order : Nat → Int32} {a_fails : Nat → Int32} {a_sKeys : Nat → Int64} {a_sRow : Nat → Int64} {a_sSlots : Nat → Int32} {a_bKeys : Nat → Int64} {a_bRow : Nat → Int64} {a_bSlots : Nat → Int32} {a_easy : Nat → Int32} {a_wants : Nat → Int32} {a_wantedBy : Nat → Int32} {a_ring : Nat → Int32} {a_carried : Nat → Int32} {a_latest : Nat → Int32} {v_taped : Int32} {v_faultKind : Int32} {v_faultPlace : Int32} {v_x : Int32} {v_ordered : Int32} {v_sought : Int32} {v_lastSought : Int32} {v_hMoved : Int32} {v_hWithout : Int32} {v_tMoved : Int32} {v_tWithout : Int32} {v_places : Int32} {v_elsewhere : Int32} {v_sMany : Int32} {v_bMany : Int32} {v_year : Int32} {y_lies : Int64} {a_rsort : Nat → Int32} {a_rmany : Nat → Int32} {a_nums : Nat → Nat → Int64} {t : Nat → Int32} {nb : Int32} {bv : Nat → Int32 → Int32 → Int32 → Int32 → Int32 → Int32 → Bool} {pl : va_W}  {p1 : Int32} {res : Bool} {E : EvT} (hE : EvN E) (hPO : PO cA pl ta ba t nb bv) (hF : FX0_isStone t p1 = some res) : MX l yX0_isStone (ws_ yX0_isStone cX0_isStone 2 (Option.some Jvm.ClassFile.FieldType.boolean)) rm_X0_isStone D vwA (cT cA) E [.ref (ad 0), .int p1] (cW ad cA sA ta ba na gi rh rt g_sort g_size g_from g_to g_level g_full a_tape a_hAt a_hMany a_tAt a_tMany a_least a_place a_to a_order a_fails a_sKeys a_sRow a_sSlots a_bKeys a_bRow a_bSlots a_easy a_wants a_wantedBy a_ring a_carried a_latest v_taped v_faultKind v_faultPlace v_x v_ordered v_sought v_lastSought v_hMoved v_hWithout v_tMoved v_tWithout v_places v_elsewhere v_sMany v_bMany v_year y_lies a_rsort a_rmany a_nums pl) (fun z => z = (cW ad cA sA ta ba na gi rh rt g_sort g_size g_from g_to g_level g_full a_tape a_hAt a_hMany a_tAt a_tMany a_least a_place a_to a_order a_fails a_sKeys a_sRow a_sSlots a_bKeys a_bRow a_bSlots a_easy a_wants a_wantedBy a_ring a_carried a_latest v_taped v_faultKind v_faultPlace v_x v_ordered v_sought v_lastSought v_hMoved v_hWithout v_tMoved v_tWithout v_places v_elsewhere v_sMany v_bMany v_year y_lies a_rsort a_rmany a_nums pl)) (some (.int (b2i res))) := by
  refine MX.ofZ (by decide) (Nat.le_of_ble_eq_true rfl) ?_
  intro p e s m args below meth c Q A hX hK hE0 hname hret H locs ls hH hl
  have hX : CallFix p m c cX0_isStone 2 s args lw_all RX0 := hX
  have hx := hX.1
  have hb := hX.2.1
  have hown := hX.2.2.2.1
  have hts := hX.2.2.2.2
  have hl : lv_has ls 2 [(0, .ref (ad 0)), (1, .int p1)] := hl
  have hEv := hE.1
  have hNW := hE.2.1 _ _ _ hE0
  have hT := hPO.1
  have hB := hPO.2
  delta FX0_isStone at hF
  refine lv_iload_n hx hb dX0_isStone_0 rfl (lv_at hl 1 rfl) ?_
  refine lv_i2l (v := (Int32.toInt64 p1)) hx hb dX0_isStone_1 rfl ?_
  refine lv_lconst (v := 0) hx hb dX0_isStone_2 rfl ?_
  refine lv_aload_n hx hb dX0_isStone_3 rfl (lv_at hl 0 rfl) ?_
  refine cg_Y_this_s hX hK hNW hH dX0_isStone_4 ?_
  refine cg_Y_state_town hX hK hNW hH dX0_isStone_7 ?_
  refine cg_Y_town_stones hT (fun _ h => cW_pl h) hX hK hNW hH dX0_isStone_10 ?_
  refine mxV hX hK hEv hE0 hH (met_J2_size hE.1 hT.stones (fun _ h => cW_pl h)) (precv (fun _ h => cW_pl h) hK hH 17 rfl hT.stones.obj) gw_StoneYear_133 hd_yJ2_size ⟨Nat.le_of_ble_eq_true rfl, Nat.le_of_ble_eq_true rfl⟩ rfl rfl hl (Nat.le_of_ble_eq_true rfl) dX0_isStone_13 ⟨Nat.le_of_ble_eq_true rfl, Nat.le_of_ble_eq_true rfl⟩ (fun w2 H locs hw hH => ?_)
  subst hw
  refine lv_iconst (v := 1) hx hb dX0_isStone_16 kyi_1 ?_
  refine lv_isub hx hb dX0_isStone_17 ?_
  refine lv_i2l (v := (Int32.toInt64 ((t 6) - 1))) hx hb dX0_isStone_18 rfl ?_
  obtain ⟨b_55, he, hF⟩ := bd1e hF
  refine mxS hX hK hEv hE0 hH (met_X0_in hE hPO he) gw_StoneYear_106 hd_yX0_in ⟨Nat.le_of_ble_eq_true rfl, Nat.le_of_ble_eq_true rfl⟩ rfl rfl hl (Nat.le_of_ble_eq_true rfl) dX0_isStone_19 ⟨Nat.le_of_ble_eq_true rfl, Nat.le_of_ble_eq_true rfl⟩ (fun w2 H locs hw hH => ?_)
  subst hw
  obtain rfl := Option.some.inj hF
  exact hret _ _ _ _ _ rfl hH dX0_isStone_22
abbrev rm_X0_placeIn : Room := { frames := 0, cells := 0, slots := 0, locals := 0 }
set_option maxHeartbeats 4000000 in
theorem met_X0_placeIn {l : Launch} {D : va_G} {ad : Nat → Nat} {cA : Nat → ClassId} {sA ta ba na : Nat → Nat} {gi : Nat → Option Nat} {rh : Option Nat} {rt : Option Nat} {g_sort : Int32} {g_size : Int32} {g_from : Int32} {g_to : Int32} {g_level : Int32} {g_full : Int32} {a_tape : Nat → Int32} {a_hAt : Nat → Int32} {a_hMany : Nat → Int32} {a_tAt : Nat → Int32} {a_tMany : Nat → Int32} {a_least : Nat → Int32} {a_place : Nat → Int32} {a_to : Nat → Int32} {a_order : Nat → Int32} {a_fails : Nat → Int32} {a_sKeys : Nat → Int64} {a_sRow : Nat → Int64} {a_sSlots : Nat → Int32} {a_bKeys : Nat → Int64} {a_bRow : Nat → Int64} {a_bSlots : Nat → Int32} {a_easy : Nat → Int32} {a_wants : Nat → Int32} {a_wantedBy : Nat → Int32} {a_ring : Nat → Int32} {a_carried : Nat → Int32} {a_latest : Nat → Int32} {v_taped : Int32} {v_faultKind : Int32} {v_faultPlace : Int32} {v_x : Int32} {v_ordered : Int32} {v_sought : Int32} {v_lastSought : Int32} {v_hMoved : Int32} {v_hWithout : Int32} {v_tMoved : Int32} {v_tWithout : Int32} {v_places : Int32} {v_elsewhere : Int32} {v_sMany : Int32} {v_bMany : Int32} {v_year : Int32} {y_lies : Int64} {a_rsort : Nat → Int32} {a_rmany : Nat → Int32} {a_nums : Nat → Nat → Int64} {t : Nat → Int32} {nb : Int32} {bv : Nat → Int32 → Int32 → Int32 → Int32 → Int32 → Int32 → Bool} {pl : va_W}  {p0 : Int64} {p2 : Int32} {res : Int32} {E : EvT} (hE : EvN E) (hPO : PO cA pl ta ba t nb bv) (hF : FX0_placeIn p0 p2 = some res) : MX l yX0_placeIn (ws_ yX0_placeIn cX0_placeIn 3 (Option.some Jvm.ClassFile.FieldType.int)) rm_X0_placeIn D vwA (cT cA) E [.long p0, .int p2] (cW ad cA sA ta ba na gi rh rt g_sort g_size g_from g_to g_level g_full a_tape a_hAt a_hMany a_tAt a_tMany a_least a_place a_to a_order a_fails a_sKeys a_sRow a_sSlots a_bKeys a_bRow a_bSlots a_easy a_wants a_wantedBy a_ring a_carried a_latest v_taped v_faultKind v_faultPlace v_x v_ordered v_sought v_lastSought v_hMoved v_hWithout v_tMoved v_tWithout v_places v_elsewhere v_sMany v_bMany v_year y_lies a_rsort a_rmany a_nums pl) (fun z => z = (cW ad cA sA ta ba na gi rh rt g_sort g_size g_from g_to g_level g_full a_tape a_hAt a_hMany a_tAt a_tMany a_least a_place a_to a_order a_fails a_sKeys a_sRow a_sSlots a_bKeys a_bRow a_bSlots a_easy a_wants a_wantedBy a_ring a_carried a_latest v_taped v_faultKind v_faultPlace v_x v_ordered v_sought v_lastSought v_hMoved v_hWithout v_tMoved v_tWithout v_places v_elsewhere v_sMany v_bMany v_year y_lies a_rsort a_rmany a_nums pl)) (some (.int res)) := by
  refine MX.ofI (by decide) (Nat.le_of_ble_eq_true rfl) ?_
  intro p e s m args below meth c Q A hX hK hE0 hname hret H locs ls hH hl
  have hX : CallFix p m c cX0_placeIn 3 s args lw_all RX0 := hX
  have hx := hX.1
  have hb := hX.2.1
  have hown := hX.2.2.2.1
  have hts := hX.2.2.2.2
  have hl : lv_has ls 3 [(0, .long p0), (2, .int p2)] := hl
  have hEv := hE.1
  have hNW := hE.2.1 _ _ _ hE0
  have hT := hPO.1
  have hB := hPO.2
  delta FX0_placeIn at hF
  refine lv_lload_n hx hb dX0_placeIn_0 rfl (lv_at hl 0 rfl) ?_
  refine lv_iconst (v := 4) hx hb dX0_placeIn_1 kyi_4 ?_
  refine lv_iload_n hx hb dX0_placeIn_2 rfl (lv_at hl 1 rfl) ?_
  refine lv_imul hx hb dX0_placeIn_3 ?_
  refine lv_lshr hx hb dX0_placeIn_4 rfl ?_
  refine lv_ldc2 (v := 15) hx hb hown (hts _ q977) dX0_placeIn_5 ?_
  refine lv_land hx hb dX0_placeIn_8 ?_
  refine lv_l2i (v := (Int64.toInt32 ((shrL p0 (4 * p2)) &&& 15))) hx hb dX0_placeIn_9 rfl ?_
  obtain rfl := Option.some.inj hF
  exact hret _ _ _ _ _ rfl hH dX0_placeIn_10
abbrev rm_X0_isThere : Room := { frames := 2, cells := 0, slots := 0, locals := 46 }
set_option maxHeartbeats 4000000 in
theorem met_X0_isThere {l : Launch} {D : va_G} {ad : Nat → Nat} {cA : Nat → ClassId} {sA ta ba na : Nat → Nat} {gi : Nat → Option Nat} {rh : Option Nat} {rt : Option Nat} {g_sort : Int32} {g_size : Int32} {g_from : Int32} {g_to : Int32} {g_level : Int32} {g_full : Int32} {a_tape : Nat → Int32} {a_hAt : Nat → Int32} {a_hMany : Nat → Int32} {a_tAt : Nat → Int32} {a_tMany : Nat → Int32} {a_least : Nat → Int32} {a_place : Nat → Int32} {a_to : Nat → Int32} {a_order : Nat → Int32} {a_fails : Nat → Int32} {a_sKeys : Nat → Int64} {a_sRow : Nat → Int64} {a_sSlots : Nat → Int32} {a_bKeys : Nat → Int64} {a_bRow : Nat → Int64} {a_bSlots : Nat → Int32} {a_easy : Nat → Int32} {a_wants : Nat → Int32} {a_wantedBy : Nat → Int32} {a_ring : Nat → Int32} {a_carried : Nat → Int32} {a_latest : Nat → Int32} {v_taped : Int32} {v_faultKind : Int32} {v_faultPlace : Int32} {v_x : Int32} {v_ordered : Int32} {v_sought : Int32} {v_lastSought : Int32} {v_hMoved : Int32} {v_hWithout : Int32} {v_tMoved : Int32} {v_tWithout : Int32} {v_places : Int32} {v_elsewhere : Int32} {v_sMany : Int32} {v_bMany : Int32} {v_year : Int32} {y_lies : Int64} {a_rsort : Nat → Int32} {a_rmany : Nat → Int32} {a_nums : Nat → Nat → Int64} {t : Nat → Int32} {nb : Int32} {bv : Nat → Int32 → Int32 → Int32 → Int32 → Int32 → Int32 → Bool} {pl : va_W}  {p1 : Int32} {res : Bool} {E : EvT} (hE : EvN E) (hPO : PO cA pl ta ba t nb bv) (hF : FX0_isThere y_lies t p1 = some res) : MX l yX0_isThere (ws_ yX0_isThere cX0_isThere 2 (Option.some Jvm.ClassFile.FieldType.boolean)) rm_X0_isThere D vwA (cT cA) E [.ref (ad 0), .int p1] (cW ad cA sA ta ba na gi rh rt g_sort g_size g_from g_to g_level g_full a_tape a_hAt a_hMany a_tAt a_tMany a_least a_place a_to a_order a_fails a_sKeys a_sRow a_sSlots a_bKeys a_bRow a_bSlots a_easy a_wants a_wantedBy a_ring a_carried a_latest v_taped v_faultKind v_faultPlace v_x v_ordered v_sought v_lastSought v_hMoved v_hWithout v_tMoved v_tWithout v_places v_elsewhere v_sMany v_bMany v_year y_lies a_rsort a_rmany a_nums pl) (fun z => z = (cW ad cA sA ta ba na gi rh rt g_sort g_size g_from g_to g_level g_full a_tape a_hAt a_hMany a_tAt a_tMany a_least a_place a_to a_order a_fails a_sKeys a_sRow a_sSlots a_bKeys a_bRow a_bSlots a_easy a_wants a_wantedBy a_ring a_carried a_latest v_taped v_faultKind v_faultPlace v_x v_ordered v_sought v_lastSought v_hMoved v_hWithout v_tMoved v_tWithout v_places v_elsewhere v_sMany v_bMany v_year y_lies a_rsort a_rmany a_nums pl)) (some (.int (b2i res))) := by
  refine MX.ofZ (by decide) (Nat.le_of_ble_eq_true rfl) ?_
  intro p e s m args below meth c Q A hX hK hE0 hname hret H locs ls hH hl
  have hX : CallFix p m c cX0_isThere 2 s args lw_all RX0 := hX
  have hx := hX.1
  have hb := hX.2.1
  have hown := hX.2.2.2.1
  have hts := hX.2.2.2.2
  have hl : lv_has ls 2 [(0, .ref (ad 0)), (1, .int p1)] := hl
  have hEv := hE.1
  have hNW := hE.2.1 _ _ _ hE0
  have hT := hPO.1
  have hB := hPO.2
  delta FX0_isThere at hF
  refine lv_aload_n hx hb dX0_isThere_0 rfl (lv_at hl 0 rfl) ?_
  refine lv_iload_n hx hb dX0_isThere_1 rfl (lv_at hl 1 rfl) ?_
  obtain ⟨b_55, he, hF⟩ := bd1e hF
  refine mxV hX hK hEv hE0 hH (met_X0_isStone hE hPO he) (crecv hK hH 0 0 rfl rfl) gw_StoneYear_158 hd_yX0_isStone ⟨Nat.le_of_ble_eq_true rfl, Nat.le_of_ble_eq_true rfl⟩ rfl rfl hl (Nat.le_of_ble_eq_true rfl) dX0_isThere_2 ⟨Nat.le_of_ble_eq_true rfl, Nat.le_of_ble_eq_true rfl⟩ (fun w2 H locs hw hH => ?_)
  subst hw
  refine lv_if_eq (tgt := 28) hx hb dX0_isThere_5 rfl (fun c_56 => ?_) (fun c_56 => ?_)
  · have hF := itp c_56 hF
    refine lv_iconst (v := 0) hx hb dX0_isThere_28 kyi_0 ?_
    obtain rfl := Option.some.inj hF
    exact hret _ _ _ _ _ rfl hH dX0_isThere_29
  · have hF := itn c_56 hF
    refine lv_aload_n hx hb dX0_isThere_8 rfl (lv_at hl 0 rfl) ?_
    refine cg_Y_this_s hX hK hNW hH dX0_isThere_9 ?_
    refine cg_Y_state_lies hX hK hNW hH dX0_isThere_12 ?_
    refine lv_iload_n hx hb dX0_isThere_15 rfl (lv_at hl 1 rfl) ?_
    obtain ⟨x_57, he, hF⟩ := bd1e hF
    refine mxS hX hK hEv hE0 hH (met_X0_placeIn hE hPO he) gw_StoneYear_162 hd_yX0_placeIn ⟨Nat.le_of_ble_eq_true rfl, Nat.le_of_ble_eq_true rfl⟩ rfl rfl hl (Nat.le_of_ble_eq_true rfl) dX0_isThere_16 ⟨Nat.le_of_ble_eq_true rfl, Nat.le_of_ble_eq_true rfl⟩ (fun w2 H locs hw hH => ?_)
    subst hw
    refine lv_bipush (v := 15) hx hb dX0_isThere_19 kyb_15 ?_
    refine lv_icmp_eq (tgt := 28) hx hb dX0_isThere_21 rfl (fun c_58 => ?_) (fun c_58 => ?_)
    · have hF := itp c_58 hF
      refine lv_iconst (v := 0) hx hb dX0_isThere_28 kyi_0 ?_
      obtain rfl := Option.some.inj hF
      exact hret _ _ _ _ _ rfl hH dX0_isThere_29
    · have hF := itn c_58 hF
      refine lv_iconst (v := 1) hx hb dX0_isThere_24 kyi_1 ?_
      refine lv_goto (tgt := 29) hx hb dX0_isThere_25 rfl ?_
      obtain rfl := Option.some.inj hF
      exact hret _ _ _ _ _ rfl hH dX0_isThere_29
abbrev rm_X0_stone : Room := { frames := 4, cells := 0, slots := 0, locals := 141 }
set_option maxHeartbeats 4000000 in
theorem met_X0_stone {l : Launch} {D : va_G} {ad : Nat → Nat} {cA : Nat → ClassId} {sA ta ba na : Nat → Nat} {gi : Nat → Option Nat} {rh : Option Nat} {rt : Option Nat} {g_sort : Int32} {g_size : Int32} {g_from : Int32} {g_to : Int32} {g_level : Int32} {g_full : Int32} {a_tape : Nat → Int32} {a_hAt : Nat → Int32} {a_hMany : Nat → Int32} {a_tAt : Nat → Int32} {a_tMany : Nat → Int32} {a_least : Nat → Int32} {a_place : Nat → Int32} {a_to : Nat → Int32} {a_order : Nat → Int32} {a_fails : Nat → Int32} {a_sKeys : Nat → Int64} {a_sRow : Nat → Int64} {a_sSlots : Nat → Int32} {a_bKeys : Nat → Int64} {a_bRow : Nat → Int64} {a_bSlots : Nat → Int32} {a_easy : Nat → Int32} {a_wants : Nat → Int32} {a_wantedBy : Nat → Int32} {a_ring : Nat → Int32} {a_carried : Nat → Int32} {a_latest : Nat → Int32} {v_taped : Int32} {v_faultKind : Int32} {v_faultPlace : Int32} {v_x : Int32} {v_ordered : Int32} {v_sought : Int32} {v_lastSought : Int32} {v_hMoved : Int32} {v_hWithout : Int32} {v_tMoved : Int32} {v_tWithout : Int32} {v_places : Int32} {v_elsewhere : Int32} {v_sMany : Int32} {v_bMany : Int32} {v_year : Int32} {y_lies : Int64} {a_rsort : Nat → Int32} {a_rmany : Nat → Int32} {a_nums : Nat → Nat → Int64} {t : Nat → Int32} {nb : Int32} {bv : Nat → Int32 → Int32 → Int32 → Int32 → Int32 → Int32 → Bool} {pl : va_W}  {p1 : Int32} {p2 : Int32} {res : Int32} {E : EvT} (hE : EvN E) (hPO : PO cA pl ta ba t nb bv) (hF : FX0_stone a_carried a_latest y_lies t p1 p2 = some res) : MX l yX0_stone (ws_ yX0_stone cX0_stone 4 (Option.some Jvm.ClassFile.FieldType.int)) rm_X0_stone D vwA (cT cA) E [.ref (ad 0), .int p1, .int p2] (cW ad cA sA ta ba na gi rh rt g_sort g_size g_from g_to g_level g_full a_tape a_hAt a_hMany a_tAt a_tMany a_least a_place a_to a_order a_fails a_sKeys a_sRow a_sSlots a_bKeys a_bRow a_bSlots a_easy a_wants a_wantedBy a_ring a_carried a_latest v_taped v_faultKind v_faultPlace v_x v_ordered v_sought v_lastSought v_hMoved v_hWithout v_tMoved v_tWithout v_places v_elsewhere v_sMany v_bMany v_year y_lies a_rsort a_rmany a_nums pl) (fun z => z = (cW ad cA sA ta ba na gi rh rt g_sort g_size g_from g_to g_level g_full a_tape a_hAt a_hMany a_tAt a_tMany a_least a_place a_to a_order a_fails a_sKeys a_sRow a_sSlots a_bKeys a_bRow a_bSlots a_easy a_wants a_wantedBy a_ring a_carried a_latest v_taped v_faultKind v_faultPlace v_x v_ordered v_sought v_lastSought v_hMoved v_hWithout v_tMoved v_tWithout v_places v_elsewhere v_sMany v_bMany v_year y_lies a_rsort a_rmany a_nums pl)) (some (.int res)) := by
  refine MX.ofI (by decide) (Nat.le_of_ble_eq_true rfl) ?_
  intro p e s m args below meth c Q A hX hK hE0 hname hret H locs ls hH hl
  have hX : CallFix p m c cX0_stone 4 s args lw_all RX0 := hX
  have hx := hX.1
  have hb := hX.2.1
  have hown := hX.2.2.2.1
  have hts := hX.2.2.2.2
  have hl : lv_has ls 4 [(0, .ref (ad 0)), (1, .int p1), (2, .int p2)] := hl
  have hEv := hE.1
  have hNW := hE.2.1 _ _ _ hE0
  have hT := hPO.1
  have hB := hPO.2
  delta FX0_stone at hF
  refine lv_aload_n hx hb dX0_stone_0 rfl (lv_at hl 0 rfl) ?_
  refine lv_iload_n hx hb dX0_stone_1 rfl (lv_at hl 1 rfl) ?_
  obtain ⟨b_56, he, hF⟩ := bd1e hF
  refine mxV hX hK hEv hE0 hH (met_X0_isStone hE hPO he) (crecv hK hH 0 0 rfl rfl) gw_StoneYear_158 hd_yX0_isStone ⟨Nat.le_of_ble_eq_true rfl, Nat.le_of_ble_eq_true rfl⟩ rfl rfl hl (Nat.le_of_ble_eq_true rfl) dX0_stone_2 ⟨Nat.le_of_ble_eq_true rfl, Nat.le_of_ble_eq_true rfl⟩ (fun w2 H locs hw hH => ?_)
  subst hw
  refine lv_if_eq (tgt := 20) hx hb dX0_stone_5 rfl (fun c_57 => ?_) (fun c_57 => ?_)
  · have hF := itp c_57 hF
    refine lv_bipush (v := (-2)) hx hb dX0_stone_20 kyb_m2 ?_
    obtain rfl := Option.some.inj hF
    exact hret _ _ _ _ _ rfl hH dX0_stone_22
  · have hF := itn c_57 hF
    refine lv_iload_n hx hb dX0_stone_8 rfl (lv_at hl 2 rfl) ?_
    refine lv_i2l (v := (Int32.toInt64 p2)) hx hb dX0_stone_9 rfl ?_
    refine lv_lconst (v := 0) hx hb dX0_stone_10 rfl ?_
    refine lv_ldc2 (v := 6) hx hb hown (hts _ q967) dX0_stone_11 ?_
    obtain ⟨b_58, he, hF⟩ := bd1e hF
    refine mxS hX hK hEv hE0 hH (met_X0_in hE hPO he) gw_StoneYear_106 hd_yX0_in ⟨Nat.le_of_ble_eq_true rfl, Nat.le_of_ble_eq_true rfl⟩ rfl rfl hl (Nat.le_of_ble_eq_true rfl) dX0_stone_14 ⟨Nat.le_of_ble_eq_true rfl, Nat.le_of_ble_eq_true rfl⟩ (fun w2 H locs hw hH => ?_)
    subst hw
    refine lv_if_ne (tgt := 23) hx hb dX0_stone_17 rfl (fun c_59 => ?_) (fun c_59 => ?_)
    · have hF := itn c_59 hF
      refine lv_aload_n hx hb dX0_stone_23 rfl (lv_at hl 0 rfl) ?_
      refine cg_Y_this_s hX hK hNW hH dX0_stone_24 ?_
      refine cg_Y_state_town hX hK hNW hH dX0_stone_27 ?_
      refine cg_Y_town_stones hT (fun _ h => cW_pl h) hX hK hNW hH dX0_stone_30 ?_
      refine lv_iload_n hx hb dX0_stone_33 rfl (lv_at hl 1 rfl) ?_
      obtain ⟨hg_60, hF⟩ := bd0e hF
      refine mxV hX hK hEv hE0 hH (met_J2_get hE.1 rfl hT.stones hg_60 (fun _ h => cW_pl h)) (precv (fun _ h => cW_pl h) hK hH 17 rfl hT.stones.obj) gw_StoneYear_170 hd_yJ2_get ⟨Nat.le_of_ble_eq_true rfl, Nat.le_of_ble_eq_true rfl⟩ rfl rfl hl (Nat.le_of_ble_eq_true rfl) dX0_stone_34 ⟨Nat.le_of_ble_eq_true rfl, Nat.le_of_ble_eq_true rfl⟩ (fun w2 H locs hw hH => ?_)
      subst hw
      refine va_castE hx hb hown (hts _ q969) (precv (fun _ h => cW_pl h) hK hH 11 rfl ⟨_, hT.stone (alg_lt hg_60)⟩) dX0_stone_37 ?_
      refine lv_astore_n (lv' := [(3, .ref (ta (30 + p1.toNatClampNeg))), (0, .ref (ad 0)), (1, .int p1), (2, .int p2)]) hx hb dX0_stone_40 rfl hl (by decide) rfl (fun ls hl => ?_)
      refine lv_iload_n hx hb dX0_stone_41 rfl (lv_at hl 3 rfl) ?_
      by_cases c_61_0 : p2 = 0
      · have hF := itp c_61_0 hF
        refine lv_tableIn (tgt := 80) hx hb dX0_stone_42 (by rw [c_61_0]; decide) (by rw [c_61_0]; decide) (by rw [c_61_0]; rfl) rfl ?_
        refine lv_aload_n hx hb dX0_stone_80 rfl (lv_at hl 0 rfl) ?_
        refine cg_Y_stone_sort hT (alg_lt hg_60) (fun _ h => cW_pl h) hX hK hNW hH dX0_stone_81 ?_
        obtain rfl := Option.some.inj hF
        exact hret _ _ _ _ _ rfl hH dX0_stone_84
      · have hF := itn c_61_0 hF
        by_cases c_61_1 : p2 = 1
        · have hF := itp c_61_1 hF
          refine lv_tableIn (tgt := 85) hx hb dX0_stone_42 (by rw [c_61_1]; decide) (by rw [c_61_1]; decide) (by rw [c_61_1]; rfl) rfl ?_
          refine lv_aload_n hx hb dX0_stone_85 rfl (lv_at hl 0 rfl) ?_
          refine cg_Y_stone_size hT (alg_lt hg_60) (fun _ h => cW_pl h) hX hK hNW hH dX0_stone_86 ?_
          obtain rfl := Option.some.inj hF
          exact hret _ _ _ _ _ rfl hH dX0_stone_89
        · have hF := itn c_61_1 hF
          by_cases c_61_2 : p2 = 2
          · have hF := itp c_61_2 hF
            refine lv_tableIn (tgt := 90) hx hb dX0_stone_42 (by rw [c_61_2]; decide) (by rw [c_61_2]; decide) (by rw [c_61_2]; rfl) rfl ?_
            refine lv_aload_n hx hb dX0_stone_90 rfl (lv_at hl 0 rfl) ?_
            refine cg_Y_stone_bears hT (alg_lt hg_60) (fun _ h => cW_pl h) hX hK hNW hH dX0_stone_91 ?_
            obtain rfl := Option.some.inj hF
            exact hret _ _ _ _ _ rfl hH dX0_stone_94
          · have hF := itn c_61_2 hF
            by_cases c_61_3 : p2 = 3
            · have hF := itp c_61_3 hF
              refine lv_tableIn (tgt := 95) hx hb dX0_stone_42 (by rw [c_61_3]; decide) (by rw [c_61_3]; decide) (by rw [c_61_3]; rfl) rfl ?_
              refine lv_aload_n hx hb dX0_stone_95 rfl (lv_at hl 1 rfl) ?_
              refine lv_iload_n hx hb dX0_stone_96 rfl (lv_at hl 2 rfl) ?_
              obtain ⟨b_64, he, hF⟩ := bd1e hF
              refine mxV hX hK hEv hE0 hH (met_X0_isThere hE hPO he) (crecv hK hH 0 0 rfl rfl) gw_StoneYear_184 hd_yX0_isThere ⟨Nat.le_of_ble_eq_true rfl, Nat.le_of_ble_eq_true rfl⟩ rfl rfl hl (Nat.le_of_ble_eq_true rfl) dX0_stone_97 ⟨Nat.le_of_ble_eq_true rfl, Nat.le_of_ble_eq_true rfl⟩ (fun w2 H locs hw hH => ?_)
              subst hw
              refine lv_if_eq (tgt := 117) hx hb dX0_stone_100 rfl (fun c_65 => ?_) (fun c_65 => ?_)
              · have hF := itp c_65 hF
                refine lv_iconst (v := (-1)) hx hb dX0_stone_117 kyi_m1 ?_
                obtain rfl := Option.some.inj hF
                exact hret _ _ _ _ _ rfl hH dX0_stone_118
              · have hF := itn c_65 hF
                refine lv_aload_n hx hb dX0_stone_103 rfl (lv_at hl 1 rfl) ?_
                refine cg_Y_this_s hX hK hNW hH dX0_stone_104 ?_
                refine cg_Y_state_lies hX hK hNW hH dX0_stone_107 ?_
                refine lv_iload_n hx hb dX0_stone_110 rfl (lv_at hl 2 rfl) ?_
                obtain ⟨x_66, he, hF⟩ := bd1e hF
                refine mxS hX hK hEv hE0 hH (met_X0_placeIn hE hPO he) gw_StoneYear_162 hd_yX0_placeIn ⟨Nat.le_of_ble_eq_true rfl, Nat.le_of_ble_eq_true rfl⟩ rfl rfl hl (Nat.le_of_ble_eq_true rfl) dX0_stone_111 ⟨Nat.le_of_ble_eq_true rfl, Nat.le_of_ble_eq_true rfl⟩ (fun w2 H locs hw hH => ?_)
                subst hw
                refine lv_goto (tgt := 118) hx hb dX0_stone_114 rfl ?_
                obtain rfl := Option.some.inj hF
                exact hret _ _ _ _ _ rfl hH dX0_stone_118
            · have hF := itn c_61_3 hF
              by_cases c_61_4 : p2 = 4
              · have hF := itp c_61_4 hF
                refine lv_tableIn (tgt := 119) hx hb dX0_stone_42 (by rw [c_61_4]; decide) (by rw [c_61_4]; decide) (by rw [c_61_4]; rfl) rfl ?_
                refine lv_aload_n hx hb dX0_stone_119 rfl (lv_at hl 1 rfl) ?_
                refine cg_Y_this_s hX hK hNW hH dX0_stone_120 ?_
                refine cg_Y_state_lies hX hK hNW hH dX0_stone_123 ?_
                refine lv_bipush (v := 32) hx hb dX0_stone_126 kyb_32 ?_
                refine lv_iload_n hx hb dX0_stone_128 rfl (lv_at hl 2 rfl) ?_
                refine lv_iadd hx hb dX0_stone_129 ?_
                refine lv_lshr hx hb dX0_stone_130 rfl ?_
                refine lv_lconst (v := 1) hx hb dX0_stone_131 rfl ?_
                refine lv_land hx hb dX0_stone_132 ?_
                refine lv_l2i (v := (Int64.toInt32 ((shrL y_lies (32 + p1)) &&& 1))) hx hb dX0_stone_133 rfl ?_
                obtain rfl := Option.some.inj hF
                exact hret _ _ _ _ _ rfl hH dX0_stone_134
              · have hF := itn c_61_4 hF
                by_cases c_61_5 : p2 = 5
                · have hF := itp c_61_5 hF
                  refine lv_tableIn (tgt := 135) hx hb dX0_stone_42 (by rw [c_61_5]; decide) (by rw [c_61_5]; decide) (by rw [c_61_5]; rfl) rfl ?_
                  refine lv_aload_n hx hb dX0_stone_135 rfl (lv_at hl 1 rfl) ?_
                  refine cg_Y_this_s hX hK hNW hH dX0_stone_136 ?_
                  refine cg_Y_state_carried hX hK hNW hH dX0_stone_139 ?_
                  refine lv_iload_n hx hb dX0_stone_142 rfl (lv_at hl 2 rfl) ?_
                  obtain ⟨x_63, he, hF⟩ := bd1e hF
                  refine cl_carried hX hK hH he dX0_stone_143 ?_
                  obtain rfl := Option.some.inj hF
                  exact hret _ _ _ _ _ rfl hH dX0_stone_144
                · have hF := itn c_61_5 hF
                  have tc_61_0 := lv_neT (a := 0) c_61_0 (by decide)
                  have tc_61_1 := lv_neT (a := 1) c_61_1 (by decide)
                  have tc_61_2 := lv_neT (a := 2) c_61_2 (by decide)
                  have tc_61_3 := lv_neT (a := 3) c_61_3 (by decide)
                  have tc_61_4 := lv_neT (a := 4) c_61_4 (by decide)
                  have tc_61_5 := lv_neT (a := 5) c_61_5 (by decide)
                  refine lv_tableOut (tgt := 145) hx hb dX0_stone_42 (by omega) rfl ?_
                  refine lv_aload_n hx hb dX0_stone_145 rfl (lv_at hl 1 rfl) ?_
                  refine cg_Y_this_s hX hK hNW hH dX0_stone_146 ?_
                  refine cg_Y_state_latest hX hK hNW hH dX0_stone_149 ?_
                  refine lv_iload_n hx hb dX0_stone_152 rfl (lv_at hl 2 rfl) ?_
                  obtain ⟨x_62, he, hF⟩ := bd1e hF
                  refine cl_latest hX hK hH he dX0_stone_153 ?_
                  obtain rfl := Option.some.inj hF
                  exact hret _ _ _ _ _ rfl hH dX0_stone_154
    · have hF := itp c_59 hF
      refine lv_bipush (v := (-2)) hx hb dX0_stone_20 kyb_m2 ?_
      obtain rfl := Option.some.inj hF
      exact hret _ _ _ _ _ rfl hH dX0_stone_22
abbrev rm_X4_lays_h : Room := { frames := 1, cells := 0, slots := 0, locals := 22 }
set_option maxHeartbeats 4000000 in
theorem met_X4_lays_h {l : Launch} {D : va_G} {ad : Nat → Nat} {cA : Nat → ClassId} {sA ta ba na : Nat → Nat} {gi : Nat → Option Nat} {rh : Option Nat} {rt : Option Nat} {g_sort : Int32} {g_size : Int32} {g_from : Int32} {g_to : Int32} {g_level : Int32} {g_full : Int32} {a_tape : Nat → Int32} {a_hAt : Nat → Int32} {a_hMany : Nat → Int32} {a_tAt : Nat → Int32} {a_tMany : Nat → Int32} {a_least : Nat → Int32} {a_place : Nat → Int32} {a_to : Nat → Int32} {a_order : Nat → Int32} {a_fails : Nat → Int32} {a_sKeys : Nat → Int64} {a_sRow : Nat → Int64} {a_sSlots : Nat → Int32} {a_bKeys : Nat → Int64} {a_bRow : Nat → Int64} {a_bSlots : Nat → Int32} {a_easy : Nat → Int32} {a_wants : Nat → Int32} {a_wantedBy : Nat → Int32} {a_ring : Nat → Int32} {a_carried : Nat → Int32} {a_latest : Nat → Int32} {v_taped : Int32} {v_faultKind : Int32} {v_faultPlace : Int32} {v_x : Int32} {v_ordered : Int32} {v_sought : Int32} {v_lastSought : Int32} {v_hMoved : Int32} {v_hWithout : Int32} {v_tMoved : Int32} {v_tWithout : Int32} {v_places : Int32} {v_elsewhere : Int32} {v_sMany : Int32} {v_bMany : Int32} {v_year : Int32} {y_lies : Int64} {a_rsort : Nat → Int32} {a_rmany : Nat → Int32} {a_nums : Nat → Nat → Int64} {t : Nat → Int32} {nb : Int32} {bv : Nat → Int32 → Int32 → Int32 → Int32 → Int32 → Int32 → Bool} {pl : va_W} {tb : Nat → Nat} {u : Nat → Int32}  {p2 : Int64} {ra_hAt : Nat → Int32} {ra_hMany : Nat → Int32} {rv_hMoved : Int32} {E : EvT} (hE : EvN E) (hPO : PO cA pl ta ba t nb bv) (hU : TownAt cA pl tb u) (hF : FX4_lays u a_hAt a_hMany p2 = some (ra_hAt, ra_hMany, rv_hMoved)) : MX l yX4_lays (ws_ yX4_lays cX4_lays 6 (Option.some (Jvm.ClassFile.FieldType.object "StoneYear$Stacks"))) rm_X4_lays_h D vwA (cT cA) E [.ref (ad 4), .ref (tb 0), .long p2] (cW ad cA sA ta ba na gi rh rt g_sort g_size g_from g_to g_level g_full a_tape a_hAt a_hMany a_tAt a_tMany a_least a_place a_to a_order a_fails a_sKeys a_sRow a_sSlots a_bKeys a_bRow a_bSlots a_easy a_wants a_wantedBy a_ring a_carried a_latest v_taped v_faultKind v_faultPlace v_x v_ordered v_sought v_lastSought v_hMoved v_hWithout v_tMoved v_tWithout v_places v_elsewhere v_sMany v_bMany v_year y_lies a_rsort a_rmany a_nums pl) (fun z => z = (cW ad cA sA ta ba na gi (some (tb 0)) rt g_sort g_size g_from g_to g_level g_full a_tape ra_hAt ra_hMany a_tAt a_tMany a_least a_place a_to a_order a_fails a_sKeys a_sRow a_sSlots a_bKeys a_bRow a_bSlots a_easy a_wants a_wantedBy a_ring a_carried a_latest v_taped v_faultKind v_faultPlace v_x v_ordered v_sought v_lastSought rv_hMoved v_hWithout v_tMoved v_tWithout v_places v_elsewhere v_sMany v_bMany v_year y_lies a_rsort a_rmany a_nums pl)) (some (.ref (ad 4))) := by
  refine MX.ofR (Or.inl ⟨_, rfl⟩) (Or.inr ⟨_, rfl⟩) (by decide) (Nat.le_of_ble_eq_true rfl) ?_
  intro p e s m args below meth c Q A hX hK hE0 hname hret H locs ls hH hl
  have hX : CallFix p m c cX4_lays 6 s args lw_all RX4 := hX
  have hx := hX.1
  have hb := hX.2.1
  have hown := hX.2.2.2.1
  have hts := hX.2.2.2.2
  have hl : lv_has ls 6 [(0, .ref (ad 4)), (1, .ref (tb 0)), (2, .long p2)] := hl
  have hEv := hE.1
  have hNW := hE.2.1 _ _ _ hE0
  have hT := hPO.1
  have hB := hPO.2
  delta FX4_lays at hF
  refine lv_aload_n hx hb dX4_lays_0 rfl (lv_at hl 0 rfl) ?_
  refine lv_aload_n hx hb dX4_lays_1 rfl (lv_at hl 1 rfl) ?_
  refine cp_Y_Stacks_stkh_town hX hK hNW hH dX4_lays_2 (fun H locs hH => ?_)
  refine lv_aload_n hx hb dX4_lays_5 rfl (lv_at hl 0 rfl) ?_
  refine lv_lload_n hx hb dX4_lays_6 rfl (lv_at hl 2 rfl) ?_
  refine lv_bipush (v := 32) hx hb dX4_lays_7 kyb_32 ?_
  refine lv_lshr hx hb dX4_lays_9 rfl ?_
  refine lv_l2i (v := (Int64.toInt32 (shrL p2 32))) hx hb dX4_lays_10 rfl ?_
  refine cp_Y_Stacks_stkh_moved hX hK hNW hH dX4_lays_11 (fun H locs hH => ?_)
  refine lv_iconst (v := 0) hx hb dX4_lays_14 kyi_0 ?_
  refine lv_istore (lv' := [(4, .int 0), (0, .ref (ad 4)), (1, .ref (tb 0)), (2, .long p2)]) hx hb dX4_lays_15 hl (by decide) rfl (fun ls hl => ?_)
  obtain ⟨xx17, ee17, kk17_0⟩ := bd1L hF
  have k17_0 : ∀ (a_hMany_62 : Nat → Int32), xx17 = a_hMany_62 → ∀ (H : Heap) (locs : List Loc) (ls : Array Slot), MH D vwA A s.heap (cW ad cA sA ta ba na gi (some (tb 0)) rt g_sort g_size g_from g_to g_level g_full a_tape a_hAt a_hMany_62 a_tAt a_tMany a_least a_place a_to a_order a_fails a_sKeys a_sRow a_sSlots a_bKeys a_bRow a_bSlots a_easy a_wants a_wantedBy a_ring a_carried a_latest v_taped v_faultKind v_faultPlace v_x v_ordered v_sought v_lastSought (Int64.toInt32 (shrL p2 32)) v_hWithout v_tMoved v_tWithout v_places v_elsewhere v_sMany v_bMany v_year y_lies a_rsort a_rmany a_nums pl) H locs → lv_has ls 6 [(0, .ref (ad 4)), (1, .ref (tb 0)), (2, .long p2)] → W p l e rm_X4_lays_h s m args below meth c H locs 0 0 Q (F0 m 37 ls []) := by
    intro a_hMany_62 hxx H locs ls hH hl
    have hF := un1e (kk17_0 a_hMany_62 hxx)
    refine lv_iconst (v := 0) hx hb dX4_lays_37 kyi_0 ?_
    refine lv_istore (lv' := [(4, .int 0), (0, .ref (ad 4)), (1, .ref (tb 0)), (2, .long p2)]) hx hb dX4_lays_38 hl (by decide) rfl (fun ls hl => ?_)
    obtain ⟨xx40, ee40, kk40_0⟩ := bd1L hF
    have k40_0 : ∀ (a_hAt_69 : Nat → Int32), xx40 = a_hAt_69 → ∀ (H : Heap) (locs : List Loc) (ls : Array Slot), MH D vwA A s.heap (cW ad cA sA ta ba na gi (some (tb 0)) rt g_sort g_size g_from g_to g_level g_full a_tape a_hAt_69 a_hMany_62 a_tAt a_tMany a_least a_place a_to a_order a_fails a_sKeys a_sRow a_sSlots a_bKeys a_bRow a_bSlots a_easy a_wants a_wantedBy a_ring a_carried a_latest v_taped v_faultKind v_faultPlace v_x v_ordered v_sought v_lastSought (Int64.toInt32 (shrL p2 32)) v_hWithout v_tMoved v_tWithout v_places v_elsewhere v_sMany v_bMany v_year y_lies a_rsort a_rmany a_nums pl) H locs → lv_has ls 6 [(0, .ref (ad 4)), (1, .ref (tb 0)), (2, .long p2)] → W p l e rm_X4_lays_h s m args below meth c H locs 0 0 Q (F0 m 61 ls []) := by
      intro a_hAt_69 hxx H locs ls hH hl
      have hF := un1e (kk40_0 a_hAt_69 hxx)
      refine lv_iconst (v := 0) hx hb dX4_lays_61 kyi_0 ?_
      refine lv_istore (lv' := [(4, .int 0), (0, .ref (ad 4)), (1, .ref (tb 0)), (2, .long p2)]) hx hb dX4_lays_62 hl (by decide) rfl (fun ls hl => ?_)
      obtain ⟨xx64, ee64, kk64_0⟩ := bd2L hF
      have k64_0 : ∀ (a_hAt_89 : Nat → Int32) (a_hMany_90 : Nat → Int32), xx64 = (a_hAt_89, a_hMany_90) → ∀ (H : Heap) (locs : List Loc) (ls : Array Slot), MH D vwA A s.heap (cW ad cA sA ta ba na gi (some (tb 0)) rt g_sort g_size g_from g_to g_level g_full a_tape a_hAt_89 a_hMany_90 a_tAt a_tMany a_least a_place a_to a_order a_fails a_sKeys a_sRow a_sSlots a_bKeys a_bRow a_bSlots a_easy a_wants a_wantedBy a_ring a_carried a_latest v_taped v_faultKind v_faultPlace v_x v_ordered v_sought v_lastSought (Int64.toInt32 (shrL p2 32)) v_hWithout v_tMoved v_tWithout v_places v_elsewhere v_sMany v_bMany v_year y_lies a_rsort a_rmany a_nums pl) H locs → lv_has ls 6 [(0, .ref (ad 4))] → W p l e rm_X4_lays_h s m args below meth c H locs 0 0 Q (F0 m 122 ls []) := by
        intro a_hAt_89 a_hMany_90 hxx H locs ls hH hl
        have hF := un2e (kk64_0 (a_hAt_89, a_hMany_90) hxx)
        refine lv_aload_n hx hb dX4_lays_122 rfl (lv_at hl 0 rfl) ?_
        obtain ⟨rfl, rfl, rfl⟩ := re3 hF
        exact hret _ _ _ _ _ rfl hH dX4_lays_123
      obtain ⟨nn64, en64⟩ := loopC_some ee64
      have l64 : ∀ (n : Nat) (x_78 : Int32) (a_hAt_79 : Nat → Int32) (a_hMany_80 : Nat → Int32), loopN (fun s => FX4_lays_b64 u p2 s.1 s.2.1 s.2.2) n (x_78, a_hAt_79, a_hMany_80) = some xx64 → ∀ (H : Heap) (locs : List Loc) (ls : Array Slot), MH D vwA A s.heap (cW ad cA sA ta ba na gi (some (tb 0)) rt g_sort g_size g_from g_to g_level g_full a_tape a_hAt_79 a_hMany_80 a_tAt a_tMany a_least a_place a_to a_order a_fails a_sKeys a_sRow a_sSlots a_bKeys a_bRow a_bSlots a_easy a_wants a_wantedBy a_ring a_carried a_latest v_taped v_faultKind v_faultPlace v_x v_ordered v_sought v_lastSought (Int64.toInt32 (shrL p2 32)) v_hWithout v_tMoved v_tWithout v_places v_elsewhere v_sMany v_bMany v_year y_lies a_rsort a_rmany a_nums pl) H locs → lv_has ls 6 [(0, .ref (ad 4)), (1, .ref (tb 0)), (2, .long p2), (4, .int x_78)] → W p l e rm_X4_lays_h s m args below meth c H locs 0 0 Q (F0 m 64 ls []) := by
        intro n
        induction n with
        | zero =>
          intro x_78 a_hAt_79 a_hMany_80 hN
          exact absurd hN loopN_zero
        | succ n ih =>
          intro x_78 a_hAt_79 a_hMany_80 hN H locs ls hH hl
          obtain ⟨yy64, hB64, hY64⟩ := loopN_succ hN
          have hF : FX4_lays_b64 u p2 x_78 a_hAt_79 a_hMany_80 = some yy64 := hB64
          delta FX4_lays_b64 at hF
          refine lv_iload hx hb dX4_lays_64 (lv_at hl 3 rfl) ?_
          refine lv_aload_n hx hb dX4_lays_66 rfl (lv_at hl 1 rfl) ?_
          refine cg_Y_Stacks_town_stones hU (fun _ h => cW_pl h) hX hK hNW hH dX4_lays_67 ?_
          refine mxV hX hK hEv hE0 hH (met_J2_size hE.1 hU.stones (fun _ h => cW_pl h)) (precv (fun _ h => cW_pl h) hK hH 17 rfl hU.stones.obj) gw_StoneYear_Stacks_39 hd_yJ2_size ⟨Nat.le_of_ble_eq_true rfl, Nat.le_of_ble_eq_true rfl⟩ rfl rfl hl (Nat.le_of_ble_eq_true rfl) dX4_lays_70 ⟨Nat.le_of_ble_eq_true rfl, Nat.le_of_ble_eq_true rfl⟩ (fun w2 H locs hw hH => ?_)
          subst hw
          refine lv_icmp_ge (tgt := 122) hx hb dX4_lays_73 rfl (fun c_81 => ?_) (fun c_81 => ?_)
          · have hF := itp c_81 hF
            obtain rfl := Option.some.inj hF
            exact k64_0 a_hAt_79 a_hMany_80 hY64 _ _ _ hH (lv_sub hl [0] rfl)
          · have hF := itn c_81 hF
            refine lv_lload_n hx hb dX4_lays_76 rfl (lv_at hl 2 rfl) ?_
            refine lv_iload hx hb dX4_lays_77 (lv_at hl 3 rfl) ?_
            obtain ⟨x_82, he, hF⟩ := bd1e hF
            refine mxSN hX hK hEv hE0 hH (met_X0_placeIn hE hPO he) (lw_meth q976) (hNW _ nw_q992) q129 q975 hd_yX0_placeIn ⟨Nat.le_of_ble_eq_true rfl, Nat.le_of_ble_eq_true rfl⟩ rfl rfl hl (Nat.le_of_ble_eq_true rfl) dX4_lays_79 ⟨Nat.le_of_ble_eq_true rfl, Nat.le_of_ble_eq_true rfl⟩ (fun w2 H locs hw hH => ?_)
            subst hw
            refine lv_istore (lv' := [(5, .int x_82), (0, .ref (ad 4)), (1, .ref (tb 0)), (2, .long p2), (4, .int x_78)]) hx hb dX4_lays_82 hl (by decide) rfl (fun ls hl => ?_)
            refine lv_iload hx hb dX4_lays_84 (lv_at hl 0 rfl) ?_
            refine lv_bipush (v := 15) hx hb dX4_lays_86 kyb_15 ?_
            have j116 : ∀ (a_hAt_87 : Nat → Int32) (a_hMany_88 : Nat → Int32), FX4_lays_j116 x_78 a_hAt_87 a_hMany_88 = some yy64 → ∀ (H : Heap) (locs : List Loc) (ls : Array Slot), MH D vwA A s.heap (cW ad cA sA ta ba na gi (some (tb 0)) rt g_sort g_size g_from g_to g_level g_full a_tape a_hAt_87 a_hMany_88 a_tAt a_tMany a_least a_place a_to a_order a_fails a_sKeys a_sRow a_sSlots a_bKeys a_bRow a_bSlots a_easy a_wants a_wantedBy a_ring a_carried a_latest v_taped v_faultKind v_faultPlace v_x v_ordered v_sought v_lastSought (Int64.toInt32 (shrL p2 32)) v_hWithout v_tMoved v_tWithout v_places v_elsewhere v_sMany v_bMany v_year y_lies a_rsort a_rmany a_nums pl) H locs → lv_has ls 6 [(0, .ref (ad 4)), (1, .ref (tb 0)), (2, .long p2), (4, .int x_78)] → W p l e rm_X4_lays_h s m args below meth c H locs 0 0 Q (F0 m 116 ls []) := by
              intro a_hAt_87 a_hMany_88 hF H locs ls hH hl
              delta FX4_lays_j116 at hF
              refine lv_iinc (v := (x_78 + 1)) (lv' := [(4, .int (x_78 + 1)), (0, .ref (ad 4)), (1, .ref (tb 0)), (2, .long p2)]) hx hb dX4_lays_116 hl (k := 3) rfl (syc kyi_1) (by decide) rfl (fun ls hl => ?_)
              refine lv_goto (tgt := 64) hx hb dX4_lays_119 rfl ?_
              obtain rfl := Option.some.inj hF
              exact ih (x_78 + 1) a_hAt_87 a_hMany_88 hY64 _ _ _ hH (lv_sub hl [1, 2, 3, 0] rfl)
            refine lv_icmp_ne (tgt := 94) hx hb dX4_lays_88 rfl (fun c_83 => ?_) (fun c_83 => ?_)
            · have hF := itn c_83 hF
              refine lv_aload_n hx hb dX4_lays_94 rfl (lv_at hl 1 rfl) ?_
              refine cg_Y_Stacks_stkh_at hX hK hNW hH dX4_lays_95 ?_
              refine lv_iload hx hb dX4_lays_98 (lv_at hl 0 rfl) ?_
              refine lv_iload hx hb dX4_lays_100 (lv_at hl 4 rfl) ?_
              obtain ⟨a_hAt_84, he, hF⟩ := bd1e hF
              refine cs_hAt hX hK hH he dX4_lays_102 (fun H locs hH => ?_)
              refine lv_aload_n hx hb dX4_lays_103 rfl (lv_at hl 1 rfl) ?_
              refine cg_Y_Stacks_stkh_many hX hK hNW hH dX4_lays_104 ?_
              refine lv_iload hx hb dX4_lays_107 (lv_at hl 0 rfl) ?_
              refine lv_iconst (v := 3) hx hb dX4_lays_109 kyi_3 ?_
              refine lv_idiv hx hb dX4_lays_110 (by decide) ?_
              refine lv_dup2_11 hx hb dX4_lays_111 rfl rfl ?_
              obtain ⟨x_85, he, hF⟩ := bd1e hF
              refine cl_hMany hX hK hH he dX4_lays_112 ?_
              refine lv_iconst (v := 1) hx hb dX4_lays_113 kyi_1 ?_
              refine lv_iadd hx hb dX4_lays_114 ?_
              obtain ⟨a_hMany_86, he, hF⟩ := bd1e hF
              refine cs_hMany hX hK hH he dX4_lays_115 (fun H locs hH => ?_)
              exact j116 a_hAt_84 a_hMany_86 hF _ _ _ hH (lv_sub hl [1, 2, 3, 4] rfl)
            · have hF := itp c_83 hF
              refine lv_goto (tgt := 116) hx hb dX4_lays_91 rfl ?_
              exact j116 a_hAt_79 a_hMany_80 hF _ _ _ hH (lv_sub hl [1, 2, 3, 4] rfl)
      exact l64 nn64 0 a_hAt_69 a_hMany_62 en64 _ _ _ hH (lv_sub hl [1, 2, 3, 0] rfl)
    obtain ⟨nn40, en40⟩ := loopC_some ee40
    have l40 : ∀ (n : Nat) (x_65 : Int32) (a_hAt_66 : Nat → Int32), loopN (fun s => FX4_lays_b40 s.1 s.2) n (x_65, a_hAt_66) = some xx40 → ∀ (H : Heap) (locs : List Loc) (ls : Array Slot), MH D vwA A s.heap (cW ad cA sA ta ba na gi (some (tb 0)) rt g_sort g_size g_from g_to g_level g_full a_tape a_hAt_66 a_hMany_62 a_tAt a_tMany a_least a_place a_to a_order a_fails a_sKeys a_sRow a_sSlots a_bKeys a_bRow a_bSlots a_easy a_wants a_wantedBy a_ring a_carried a_latest v_taped v_faultKind v_faultPlace v_x v_ordered v_sought v_lastSought (Int64.toInt32 (shrL p2 32)) v_hWithout v_tMoved v_tWithout v_places v_elsewhere v_sMany v_bMany v_year y_lies a_rsort a_rmany a_nums pl) H locs → lv_has ls 6 [(0, .ref (ad 4)), (1, .ref (tb 0)), (2, .long p2), (4, .int x_65)] → W p l e rm_X4_lays_h s m args below meth c H locs 0 0 Q (F0 m 40 ls []) := by
      intro n
      induction n with
      | zero =>
        intro x_65 a_hAt_66 hN
        exact absurd hN loopN_zero
      | succ n ih =>
        intro x_65 a_hAt_66 hN H locs ls hH hl
        obtain ⟨yy40, hB40, hY40⟩ := loopN_succ hN
        have hF : FX4_lays_b40 x_65 a_hAt_66 = some yy40 := hB40
        delta FX4_lays_b40 at hF
        refine lv_iload hx hb dX4_lays_40 (lv_at hl 3 rfl) ?_
        refine lv_bipush (v := 15) hx hb dX4_lays_42 kyb_15 ?_
        refine lv_icmp_ge (tgt := 61) hx hb dX4_lays_44 rfl (fun c_67 => ?_) (fun c_67 => ?_)
        · have hF := itp c_67 hF
          obtain rfl := Option.some.inj hF
          exact k40_0 a_hAt_66 hY40 _ _ _ hH (lv_sub hl [0, 1, 2] rfl)
        · have hF := itn c_67 hF
          refine lv_aload_n hx hb dX4_lays_47 rfl (lv_at hl 0 rfl) ?_
          refine cg_Y_Stacks_stkh_at hX hK hNW hH dX4_lays_48 ?_
          refine lv_iload hx hb dX4_lays_51 (lv_at hl 3 rfl) ?_
          refine lv_iconst (v := (-1)) hx hb dX4_lays_53 kyi_m1 ?_
          obtain ⟨a_hAt_68, he, hF⟩ := bd1e hF
          refine cs_hAt hX hK hH he dX4_lays_54 (fun H locs hH => ?_)
          refine lv_iinc (v := (x_65 + 1)) (lv' := [(4, .int (x_65 + 1)), (0, .ref (ad 4)), (1, .ref (tb 0)), (2, .long p2)]) hx hb dX4_lays_55 hl (k := 3) rfl (syc kyi_1) (by decide) rfl (fun ls hl => ?_)
          refine lv_goto (tgt := 40) hx hb dX4_lays_58 rfl ?_
          obtain rfl := Option.some.inj hF
          exact ih (x_65 + 1) a_hAt_68 hY40 _ _ _ hH (lv_sub hl [1, 2, 3, 0] rfl)
    exact l40 nn40 0 a_hAt en40 _ _ _ hH (lv_sub hl [1, 2, 3, 0] rfl)
  obtain ⟨nn17, en17⟩ := loopC_some ee17
  have l17 : ∀ (n : Nat) (x_58 : Int32) (a_hMany_59 : Nat → Int32), loopN (fun s => FX4_lays_b17 s.1 s.2) n (x_58, a_hMany_59) = some xx17 → ∀ (H : Heap) (locs : List Loc) (ls : Array Slot), MH D vwA A s.heap (cW ad cA sA ta ba na gi (some (tb 0)) rt g_sort g_size g_from g_to g_level g_full a_tape a_hAt a_hMany_59 a_tAt a_tMany a_least a_place a_to a_order a_fails a_sKeys a_sRow a_sSlots a_bKeys a_bRow a_bSlots a_easy a_wants a_wantedBy a_ring a_carried a_latest v_taped v_faultKind v_faultPlace v_x v_ordered v_sought v_lastSought (Int64.toInt32 (shrL p2 32)) v_hWithout v_tMoved v_tWithout v_places v_elsewhere v_sMany v_bMany v_year y_lies a_rsort a_rmany a_nums pl) H locs → lv_has ls 6 [(0, .ref (ad 4)), (1, .ref (tb 0)), (2, .long p2), (4, .int x_58)] → W p l e rm_X4_lays_h s m args below meth c H locs 0 0 Q (F0 m 17 ls []) := by
    intro n
    induction n with
    | zero =>
      intro x_58 a_hMany_59 hN
      exact absurd hN loopN_zero
    | succ n ih =>
      intro x_58 a_hMany_59 hN H locs ls hH hl
      obtain ⟨yy17, hB17, hY17⟩ := loopN_succ hN
      have hF : FX4_lays_b17 x_58 a_hMany_59 = some yy17 := hB17
      delta FX4_lays_b17 at hF
      refine lv_iload hx hb dX4_lays_17 (lv_at hl 3 rfl) ?_
      refine lv_iconst (v := 5) hx hb dX4_lays_19 kyi_5 ?_
      refine lv_icmp_ge (tgt := 37) hx hb dX4_lays_20 rfl (fun c_60 => ?_) (fun c_60 => ?_)
      · have hF := itp c_60 hF
        obtain rfl := Option.some.inj hF
        exact k17_0 a_hMany_59 hY17 _ _ _ hH (lv_sub hl [0, 1, 2] rfl)
      · have hF := itn c_60 hF
        refine lv_aload_n hx hb dX4_lays_23 rfl (lv_at hl 0 rfl) ?_
        refine cg_Y_Stacks_stkh_many hX hK hNW hH dX4_lays_24 ?_
        refine lv_iload hx hb dX4_lays_27 (lv_at hl 3 rfl) ?_
        refine lv_iconst (v := 0) hx hb dX4_lays_29 kyi_0 ?_
        obtain ⟨a_hMany_61, he, hF⟩ := bd1e hF
        refine cs_hMany hX hK hH he dX4_lays_30 (fun H locs hH => ?_)
        refine lv_iinc (v := (x_58 + 1)) (lv' := [(4, .int (x_58 + 1)), (0, .ref (ad 4)), (1, .ref (tb 0)), (2, .long p2)]) hx hb dX4_lays_31 hl (k := 3) rfl (syc kyi_1) (by decide) rfl (fun ls hl => ?_)
        refine lv_goto (tgt := 17) hx hb dX4_lays_34 rfl ?_
        obtain rfl := Option.some.inj hF
        exact ih (x_58 + 1) a_hMany_61 hY17 _ _ _ hH (lv_sub hl [1, 2, 3, 0] rfl)
  exact l17 nn17 0 a_hMany en17 _ _ _ hH (lv_sub hl [1, 2, 3, 0] rfl)
abbrev rm_X4_lays_t : Room := { frames := 1, cells := 0, slots := 0, locals := 22 }
set_option maxHeartbeats 4000000 in
theorem met_X4_lays_t {l : Launch} {D : va_G} {ad : Nat → Nat} {cA : Nat → ClassId} {sA ta ba na : Nat → Nat} {gi : Nat → Option Nat} {rh : Option Nat} {rt : Option Nat} {g_sort : Int32} {g_size : Int32} {g_from : Int32} {g_to : Int32} {g_level : Int32} {g_full : Int32} {a_tape : Nat → Int32} {a_hAt : Nat → Int32} {a_hMany : Nat → Int32} {a_tAt : Nat → Int32} {a_tMany : Nat → Int32} {a_least : Nat → Int32} {a_place : Nat → Int32} {a_to : Nat → Int32} {a_order : Nat → Int32} {a_fails : Nat → Int32} {a_sKeys : Nat → Int64} {a_sRow : Nat → Int64} {a_sSlots : Nat → Int32} {a_bKeys : Nat → Int64} {a_bRow : Nat → Int64} {a_bSlots : Nat → Int32} {a_easy : Nat → Int32} {a_wants : Nat → Int32} {a_wantedBy : Nat → Int32} {a_ring : Nat → Int32} {a_carried : Nat → Int32} {a_latest : Nat → Int32} {v_taped : Int32} {v_faultKind : Int32} {v_faultPlace : Int32} {v_x : Int32} {v_ordered : Int32} {v_sought : Int32} {v_lastSought : Int32} {v_hMoved : Int32} {v_hWithout : Int32} {v_tMoved : Int32} {v_tWithout : Int32} {v_places : Int32} {v_elsewhere : Int32} {v_sMany : Int32} {v_bMany : Int32} {v_year : Int32} {y_lies : Int64} {a_rsort : Nat → Int32} {a_rmany : Nat → Int32} {a_nums : Nat → Nat → Int64} {t : Nat → Int32} {nb : Int32} {bv : Nat → Int32 → Int32 → Int32 → Int32 → Int32 → Int32 → Bool} {pl : va_W} {tb : Nat → Nat} {u : Nat → Int32}  {p2 : Int64} {ra_tAt : Nat → Int32} {ra_tMany : Nat → Int32} {rv_tMoved : Int32} {E : EvT} (hE : EvN E) (hPO : PO cA pl ta ba t nb bv) (hU : TownAt cA pl tb u) (hF : FX4_lays u a_tAt a_tMany p2 = some (ra_tAt, ra_tMany, rv_tMoved)) : MX l yX4_lays (ws_ yX4_lays cX4_lays 6 (Option.some (Jvm.ClassFile.FieldType.object "StoneYear$Stacks"))) rm_X4_lays_t D vwA (cT cA) E [.ref (ad 7), .ref (tb 0), .long p2] (cW ad cA sA ta ba na gi rh rt g_sort g_size g_from g_to g_level g_full a_tape a_hAt a_hMany a_tAt a_tMany a_least a_place a_to a_order a_fails a_sKeys a_sRow a_sSlots a_bKeys a_bRow a_bSlots a_easy a_wants a_wantedBy a_ring a_carried a_latest v_taped v_faultKind v_faultPlace v_x v_ordered v_sought v_lastSought v_hMoved v_hWithout v_tMoved v_tWithout v_places v_elsewhere v_sMany v_bMany v_year y_lies a_rsort a_rmany a_nums pl) (fun z => z = (cW ad cA sA ta ba na gi rh (some (tb 0)) g_sort g_size g_from g_to g_level g_full a_tape a_hAt a_hMany ra_tAt ra_tMany a_least a_place a_to a_order a_fails a_sKeys a_sRow a_sSlots a_bKeys a_bRow a_bSlots a_easy a_wants a_wantedBy a_ring a_carried a_latest v_taped v_faultKind v_faultPlace v_x v_ordered v_sought v_lastSought v_hMoved v_hWithout rv_tMoved v_tWithout v_places v_elsewhere v_sMany v_bMany v_year y_lies a_rsort a_rmany a_nums pl)) (some (.ref (ad 7))) := by
  refine MX.ofR (Or.inl ⟨_, rfl⟩) (Or.inr ⟨_, rfl⟩) (by decide) (Nat.le_of_ble_eq_true rfl) ?_
  intro p e s m args below meth c Q A hX hK hE0 hname hret H locs ls hH hl
  have hX : CallFix p m c cX4_lays 6 s args lw_all RX4 := hX
  have hx := hX.1
  have hb := hX.2.1
  have hown := hX.2.2.2.1
  have hts := hX.2.2.2.2
  have hl : lv_has ls 6 [(0, .ref (ad 7)), (1, .ref (tb 0)), (2, .long p2)] := hl
  have hEv := hE.1
  have hNW := hE.2.1 _ _ _ hE0
  have hT := hPO.1
  have hB := hPO.2
  delta FX4_lays at hF
  refine lv_aload_n hx hb dX4_lays_0 rfl (lv_at hl 0 rfl) ?_
  refine lv_aload_n hx hb dX4_lays_1 rfl (lv_at hl 1 rfl) ?_
  refine cp_Y_Stacks_stkt_town hX hK hNW hH dX4_lays_2 (fun H locs hH => ?_)
  refine lv_aload_n hx hb dX4_lays_5 rfl (lv_at hl 0 rfl) ?_
  refine lv_lload_n hx hb dX4_lays_6 rfl (lv_at hl 2 rfl) ?_
  refine lv_bipush (v := 32) hx hb dX4_lays_7 kyb_32 ?_
  refine lv_lshr hx hb dX4_lays_9 rfl ?_
  refine lv_l2i (v := (Int64.toInt32 (shrL p2 32))) hx hb dX4_lays_10 rfl ?_
  refine cp_Y_Stacks_stkt_moved hX hK hNW hH dX4_lays_11 (fun H locs hH => ?_)
  refine lv_iconst (v := 0) hx hb dX4_lays_14 kyi_0 ?_
  refine lv_istore (lv' := [(4, .int 0), (0, .ref (ad 7)), (1, .ref (tb 0)), (2, .long p2)]) hx hb dX4_lays_15 hl (by decide) rfl (fun ls hl => ?_)
  obtain ⟨xx17, ee17, kk17_0⟩ := bd1L hF
  have k17_0 : ∀ (a_tMany_62 : Nat → Int32), xx17 = a_tMany_62 → ∀ (H : Heap) (locs : List Loc) (ls : Array Slot), MH D vwA A s.heap (cW ad cA sA ta ba na gi rh (some (tb 0)) g_sort g_size g_from g_to g_level g_full a_tape a_hAt a_hMany a_tAt a_tMany_62 a_least a_place a_to a_order a_fails a_sKeys a_sRow a_sSlots a_bKeys a_bRow a_bSlots a_easy a_wants a_wantedBy a_ring a_carried a_latest v_taped v_faultKind v_faultPlace v_x v_ordered v_sought v_lastSought v_hMoved v_hWithout (Int64.toInt32 (shrL p2 32)) v_tWithout v_places v_elsewhere v_sMany v_bMany v_year y_lies a_rsort a_rmany a_nums pl) H locs → lv_has ls 6 [(0, .ref (ad 7)), (1, .ref (tb 0)), (2, .long p2)] → W p l e rm_X4_lays_t s m args below meth c H locs 0 0 Q (F0 m 37 ls []) := by
    intro a_tMany_62 hxx H locs ls hH hl
    have hF := un1e (kk17_0 a_tMany_62 hxx)
    refine lv_iconst (v := 0) hx hb dX4_lays_37 kyi_0 ?_
    refine lv_istore (lv' := [(4, .int 0), (0, .ref (ad 7)), (1, .ref (tb 0)), (2, .long p2)]) hx hb dX4_lays_38 hl (by decide) rfl (fun ls hl => ?_)
    obtain ⟨xx40, ee40, kk40_0⟩ := bd1L hF
    have k40_0 : ∀ (a_tAt_69 : Nat → Int32), xx40 = a_tAt_69 → ∀ (H : Heap) (locs : List Loc) (ls : Array Slot), MH D vwA A s.heap (cW ad cA sA ta ba na gi rh (some (tb 0)) g_sort g_size g_from g_to g_level g_full a_tape a_hAt a_hMany a_tAt_69 a_tMany_62 a_least a_place a_to a_order a_fails a_sKeys a_sRow a_sSlots a_bKeys a_bRow a_bSlots a_easy a_wants a_wantedBy a_ring a_carried a_latest v_taped v_faultKind v_faultPlace v_x v_ordered v_sought v_lastSought v_hMoved v_hWithout (Int64.toInt32 (shrL p2 32)) v_tWithout v_places v_elsewhere v_sMany v_bMany v_year y_lies a_rsort a_rmany a_nums pl) H locs → lv_has ls 6 [(0, .ref (ad 7)), (1, .ref (tb 0)), (2, .long p2)] → W p l e rm_X4_lays_t s m args below meth c H locs 0 0 Q (F0 m 61 ls []) := by
      intro a_tAt_69 hxx H locs ls hH hl
      have hF := un1e (kk40_0 a_tAt_69 hxx)
      refine lv_iconst (v := 0) hx hb dX4_lays_61 kyi_0 ?_
      refine lv_istore (lv' := [(4, .int 0), (0, .ref (ad 7)), (1, .ref (tb 0)), (2, .long p2)]) hx hb dX4_lays_62 hl (by decide) rfl (fun ls hl => ?_)
      obtain ⟨xx64, ee64, kk64_0⟩ := bd2L hF
      have k64_0 : ∀ (a_tAt_89 : Nat → Int32) (a_tMany_90 : Nat → Int32), xx64 = (a_tAt_89, a_tMany_90) → ∀ (H : Heap) (locs : List Loc) (ls : Array Slot), MH D vwA A s.heap (cW ad cA sA ta ba na gi rh (some (tb 0)) g_sort g_size g_from g_to g_level g_full a_tape a_hAt a_hMany a_tAt_89 a_tMany_90 a_least a_place a_to a_order a_fails a_sKeys a_sRow a_sSlots a_bKeys a_bRow a_bSlots a_easy a_wants a_wantedBy a_ring a_carried a_latest v_taped v_faultKind v_faultPlace v_x v_ordered v_sought v_lastSought v_hMoved v_hWithout (Int64.toInt32 (shrL p2 32)) v_tWithout v_places v_elsewhere v_sMany v_bMany v_year y_lies a_rsort a_rmany a_nums pl) H locs → lv_has ls 6 [(0, .ref (ad 7))] → W p l e rm_X4_lays_t s m args below meth c H locs 0 0 Q (F0 m 122 ls []) := by
        intro a_tAt_89 a_tMany_90 hxx H locs ls hH hl
        have hF := un2e (kk64_0 (a_tAt_89, a_tMany_90) hxx)
        refine lv_aload_n hx hb dX4_lays_122 rfl (lv_at hl 0 rfl) ?_
        obtain ⟨rfl, rfl, rfl⟩ := re3 hF
        exact hret _ _ _ _ _ rfl hH dX4_lays_123
      obtain ⟨nn64, en64⟩ := loopC_some ee64
      have l64 : ∀ (n : Nat) (x_78 : Int32) (a_tAt_79 : Nat → Int32) (a_tMany_80 : Nat → Int32), loopN (fun s => FX4_lays_b64 u p2 s.1 s.2.1 s.2.2) n (x_78, a_tAt_79, a_tMany_80) = some xx64 → ∀ (H : Heap) (locs : List Loc) (ls : Array Slot), MH D vwA A s.heap (cW ad cA sA ta ba na gi rh (some (tb 0)) g_sort g_size g_from g_to g_level g_full a_tape a_hAt a_hMany a_tAt_79 a_tMany_80 a_least a_place a_to a_order a_fails a_sKeys a_sRow a_sSlots a_bKeys a_bRow a_bSlots a_easy a_wants a_wantedBy a_ring a_carried a_latest v_taped v_faultKind v_faultPlace v_x v_ordered v_sought v_lastSought v_hMoved v_hWithout (Int64.toInt32 (shrL p2 32)) v_tWithout v_places v_elsewhere v_sMany v_bMany v_year y_lies a_rsort a_rmany a_nums pl) H locs → lv_has ls 6 [(0, .ref (ad 7)), (1, .ref (tb 0)), (2, .long p2), (4, .int x_78)] → W p l e rm_X4_lays_t s m args below meth c H locs 0 0 Q (F0 m 64 ls []) := by
        intro n
        induction n with
        | zero =>
          intro x_78 a_tAt_79 a_tMany_80 hN
          exact absurd hN loopN_zero
        | succ n ih =>
          intro x_78 a_tAt_79 a_tMany_80 hN H locs ls hH hl
          obtain ⟨yy64, hB64, hY64⟩ := loopN_succ hN
          have hF : FX4_lays_b64 u p2 x_78 a_tAt_79 a_tMany_80 = some yy64 := hB64
          delta FX4_lays_b64 at hF
          refine lv_iload hx hb dX4_lays_64 (lv_at hl 3 rfl) ?_
          refine lv_aload_n hx hb dX4_lays_66 rfl (lv_at hl 1 rfl) ?_
          refine cg_Y_Stacks_town_stones hU (fun _ h => cW_pl h) hX hK hNW hH dX4_lays_67 ?_
          refine mxV hX hK hEv hE0 hH (met_J2_size hE.1 hU.stones (fun _ h => cW_pl h)) (precv (fun _ h => cW_pl h) hK hH 17 rfl hU.stones.obj) gw_StoneYear_Stacks_39 hd_yJ2_size ⟨Nat.le_of_ble_eq_true rfl, Nat.le_of_ble_eq_true rfl⟩ rfl rfl hl (Nat.le_of_ble_eq_true rfl) dX4_lays_70 ⟨Nat.le_of_ble_eq_true rfl, Nat.le_of_ble_eq_true rfl⟩ (fun w2 H locs hw hH => ?_)
          subst hw
          refine lv_icmp_ge (tgt := 122) hx hb dX4_lays_73 rfl (fun c_81 => ?_) (fun c_81 => ?_)
          · have hF := itp c_81 hF
            obtain rfl := Option.some.inj hF
            exact k64_0 a_tAt_79 a_tMany_80 hY64 _ _ _ hH (lv_sub hl [0] rfl)
          · have hF := itn c_81 hF
            refine lv_lload_n hx hb dX4_lays_76 rfl (lv_at hl 2 rfl) ?_
            refine lv_iload hx hb dX4_lays_77 (lv_at hl 3 rfl) ?_
            obtain ⟨x_82, he, hF⟩ := bd1e hF
            refine mxSN hX hK hEv hE0 hH (met_X0_placeIn hE hPO he) (lw_meth q976) (hNW _ nw_q992) q129 q975 hd_yX0_placeIn ⟨Nat.le_of_ble_eq_true rfl, Nat.le_of_ble_eq_true rfl⟩ rfl rfl hl (Nat.le_of_ble_eq_true rfl) dX4_lays_79 ⟨Nat.le_of_ble_eq_true rfl, Nat.le_of_ble_eq_true rfl⟩ (fun w2 H locs hw hH => ?_)
            subst hw
            refine lv_istore (lv' := [(5, .int x_82), (0, .ref (ad 7)), (1, .ref (tb 0)), (2, .long p2), (4, .int x_78)]) hx hb dX4_lays_82 hl (by decide) rfl (fun ls hl => ?_)
            refine lv_iload hx hb dX4_lays_84 (lv_at hl 0 rfl) ?_
            refine lv_bipush (v := 15) hx hb dX4_lays_86 kyb_15 ?_
            have j116 : ∀ (a_tAt_87 : Nat → Int32) (a_tMany_88 : Nat → Int32), FX4_lays_j116 x_78 a_tAt_87 a_tMany_88 = some yy64 → ∀ (H : Heap) (locs : List Loc) (ls : Array Slot), MH D vwA A s.heap (cW ad cA sA ta ba na gi rh (some (tb 0)) g_sort g_size g_from g_to g_level g_full a_tape a_hAt a_hMany a_tAt_87 a_tMany_88 a_least a_place a_to a_order a_fails a_sKeys a_sRow a_sSlots a_bKeys a_bRow a_bSlots a_easy a_wants a_wantedBy a_ring a_carried a_latest v_taped v_faultKind v_faultPlace v_x v_ordered v_sought v_lastSought v_hMoved v_hWithout (Int64.toInt32 (shrL p2 32)) v_tWithout v_places v_elsewhere v_sMany v_bMany v_year y_lies a_rsort a_rmany a_nums pl) H locs → lv_has ls 6 [(0, .ref (ad 7)), (1, .ref (tb 0)), (2, .long p2), (4, .int x_78)] → W p l e rm_X4_lays_t s m args below meth c H locs 0 0 Q (F0 m 116 ls []) := by
              intro a_tAt_87 a_tMany_88 hF H locs ls hH hl
              delta FX4_lays_j116 at hF
              refine lv_iinc (v := (x_78 + 1)) (lv' := [(4, .int (x_78 + 1)), (0, .ref (ad 7)), (1, .ref (tb 0)), (2, .long p2)]) hx hb dX4_lays_116 hl (k := 3) rfl (syc kyi_1) (by decide) rfl (fun ls hl => ?_)
              refine lv_goto (tgt := 64) hx hb dX4_lays_119 rfl ?_
              obtain rfl := Option.some.inj hF
              exact ih (x_78 + 1) a_tAt_87 a_tMany_88 hY64 _ _ _ hH (lv_sub hl [1, 2, 3, 0] rfl)
            refine lv_icmp_ne (tgt := 94) hx hb dX4_lays_88 rfl (fun c_83 => ?_) (fun c_83 => ?_)
            · have hF := itn c_83 hF
              refine lv_aload_n hx hb dX4_lays_94 rfl (lv_at hl 1 rfl) ?_
              refine cg_Y_Stacks_stkt_at hX hK hNW hH dX4_lays_95 ?_
              refine lv_iload hx hb dX4_lays_98 (lv_at hl 0 rfl) ?_
              refine lv_iload hx hb dX4_lays_100 (lv_at hl 4 rfl) ?_
              obtain ⟨a_tAt_84, he, hF⟩ := bd1e hF
              refine cs_tAt hX hK hH he dX4_lays_102 (fun H locs hH => ?_)
              refine lv_aload_n hx hb dX4_lays_103 rfl (lv_at hl 1 rfl) ?_
              refine cg_Y_Stacks_stkt_many hX hK hNW hH dX4_lays_104 ?_
              refine lv_iload hx hb dX4_lays_107 (lv_at hl 0 rfl) ?_
              refine lv_iconst (v := 3) hx hb dX4_lays_109 kyi_3 ?_
              refine lv_idiv hx hb dX4_lays_110 (by decide) ?_
              refine lv_dup2_11 hx hb dX4_lays_111 rfl rfl ?_
              obtain ⟨x_85, he, hF⟩ := bd1e hF
              refine cl_tMany hX hK hH he dX4_lays_112 ?_
              refine lv_iconst (v := 1) hx hb dX4_lays_113 kyi_1 ?_
              refine lv_iadd hx hb dX4_lays_114 ?_
              obtain ⟨a_tMany_86, he, hF⟩ := bd1e hF
              refine cs_tMany hX hK hH he dX4_lays_115 (fun H locs hH => ?_)
              exact j116 a_tAt_84 a_tMany_86 hF _ _ _ hH (lv_sub hl [1, 2, 3, 4] rfl)
            · have hF := itp c_83 hF
              refine lv_goto (tgt := 116) hx hb dX4_lays_91 rfl ?_
              exact j116 a_tAt_79 a_tMany_80 hF _ _ _ hH (lv_sub hl [1, 2, 3, 4] rfl)
      exact l64 nn64 0 a_tAt_69 a_tMany_62 en64 _ _ _ hH (lv_sub hl [1, 2, 3, 0] rfl)
    obtain ⟨nn40, en40⟩ := loopC_some ee40
    have l40 : ∀ (n : Nat) (x_65 : Int32) (a_tAt_66 : Nat → Int32), loopN (fun s => FX4_lays_b40 s.1 s.2) n (x_65, a_tAt_66) = some xx40 → ∀ (H : Heap) (locs : List Loc) (ls : Array Slot), MH D vwA A s.heap (cW ad cA sA ta ba na gi rh (some (tb 0)) g_sort g_size g_from g_to g_level g_full a_tape a_hAt a_hMany a_tAt_66 a_tMany_62 a_least a_place a_to a_order a_fails a_sKeys a_sRow a_sSlots a_bKeys a_bRow a_bSlots a_easy a_wants a_wantedBy a_ring a_carried a_latest v_taped v_faultKind v_faultPlace v_x v_ordered v_sought v_lastSought v_hMoved v_hWithout (Int64.toInt32 (shrL p2 32)) v_tWithout v_places v_elsewhere v_sMany v_bMany v_year y_lies a_rsort a_rmany a_nums pl) H locs → lv_has ls 6 [(0, .ref (ad 7)), (1, .ref (tb 0)), (2, .long p2), (4, .int x_65)] → W p l e rm_X4_lays_t s m args below meth c H locs 0 0 Q (F0 m 40 ls []) := by
      intro n
      induction n with
      | zero =>
        intro x_65 a_tAt_66 hN
        exact absurd hN loopN_zero
      | succ n ih =>
        intro x_65 a_tAt_66 hN H locs ls hH hl
        obtain ⟨yy40, hB40, hY40⟩ := loopN_succ hN
        have hF : FX4_lays_b40 x_65 a_tAt_66 = some yy40 := hB40
        delta FX4_lays_b40 at hF
        refine lv_iload hx hb dX4_lays_40 (lv_at hl 3 rfl) ?_
        refine lv_bipush (v := 15) hx hb dX4_lays_42 kyb_15 ?_
        refine lv_icmp_ge (tgt := 61) hx hb dX4_lays_44 rfl (fun c_67 => ?_) (fun c_67 => ?_)
        · have hF := itp c_67 hF
          obtain rfl := Option.some.inj hF
          exact k40_0 a_tAt_66 hY40 _ _ _ hH (lv_sub hl [0, 1, 2] rfl)
        · have hF := itn c_67 hF
          refine lv_aload_n hx hb dX4_lays_47 rfl (lv_at hl 0 rfl) ?_
          refine cg_Y_Stacks_stkt_at hX hK hNW hH dX4_lays_48 ?_
          refine lv_iload hx hb dX4_lays_51 (lv_at hl 3 rfl) ?_
          refine lv_iconst (v := (-1)) hx hb dX4_lays_53 kyi_m1 ?_
          obtain ⟨a_tAt_68, he, hF⟩ := bd1e hF
          refine cs_tAt hX hK hH he dX4_lays_54 (fun H locs hH => ?_)
          refine lv_iinc (v := (x_65 + 1)) (lv' := [(4, .int (x_65 + 1)), (0, .ref (ad 7)), (1, .ref (tb 0)), (2, .long p2)]) hx hb dX4_lays_55 hl (k := 3) rfl (syc kyi_1) (by decide) rfl (fun ls hl => ?_)
          refine lv_goto (tgt := 40) hx hb dX4_lays_58 rfl ?_
          obtain rfl := Option.some.inj hF
          exact ih (x_65 + 1) a_tAt_68 hY40 _ _ _ hH (lv_sub hl [1, 2, 3, 0] rfl)
    exact l40 nn40 0 a_tAt en40 _ _ _ hH (lv_sub hl [1, 2, 3, 0] rfl)
  obtain ⟨nn17, en17⟩ := loopC_some ee17
  have l17 : ∀ (n : Nat) (x_58 : Int32) (a_tMany_59 : Nat → Int32), loopN (fun s => FX4_lays_b17 s.1 s.2) n (x_58, a_tMany_59) = some xx17 → ∀ (H : Heap) (locs : List Loc) (ls : Array Slot), MH D vwA A s.heap (cW ad cA sA ta ba na gi rh (some (tb 0)) g_sort g_size g_from g_to g_level g_full a_tape a_hAt a_hMany a_tAt a_tMany_59 a_least a_place a_to a_order a_fails a_sKeys a_sRow a_sSlots a_bKeys a_bRow a_bSlots a_easy a_wants a_wantedBy a_ring a_carried a_latest v_taped v_faultKind v_faultPlace v_x v_ordered v_sought v_lastSought v_hMoved v_hWithout (Int64.toInt32 (shrL p2 32)) v_tWithout v_places v_elsewhere v_sMany v_bMany v_year y_lies a_rsort a_rmany a_nums pl) H locs → lv_has ls 6 [(0, .ref (ad 7)), (1, .ref (tb 0)), (2, .long p2), (4, .int x_58)] → W p l e rm_X4_lays_t s m args below meth c H locs 0 0 Q (F0 m 17 ls []) := by
    intro n
    induction n with
    | zero =>
      intro x_58 a_tMany_59 hN
      exact absurd hN loopN_zero
    | succ n ih =>
      intro x_58 a_tMany_59 hN H locs ls hH hl
      obtain ⟨yy17, hB17, hY17⟩ := loopN_succ hN
      have hF : FX4_lays_b17 x_58 a_tMany_59 = some yy17 := hB17
      delta FX4_lays_b17 at hF
      refine lv_iload hx hb dX4_lays_17 (lv_at hl 3 rfl) ?_
      refine lv_iconst (v := 5) hx hb dX4_lays_19 kyi_5 ?_
      refine lv_icmp_ge (tgt := 37) hx hb dX4_lays_20 rfl (fun c_60 => ?_) (fun c_60 => ?_)
      · have hF := itp c_60 hF
        obtain rfl := Option.some.inj hF
        exact k17_0 a_tMany_59 hY17 _ _ _ hH (lv_sub hl [0, 1, 2] rfl)
      · have hF := itn c_60 hF
        refine lv_aload_n hx hb dX4_lays_23 rfl (lv_at hl 0 rfl) ?_
        refine cg_Y_Stacks_stkt_many hX hK hNW hH dX4_lays_24 ?_
        refine lv_iload hx hb dX4_lays_27 (lv_at hl 3 rfl) ?_
        refine lv_iconst (v := 0) hx hb dX4_lays_29 kyi_0 ?_
        obtain ⟨a_tMany_61, he, hF⟩ := bd1e hF
        refine cs_tMany hX hK hH he dX4_lays_30 (fun H locs hH => ?_)
        refine lv_iinc (v := (x_58 + 1)) (lv' := [(4, .int (x_58 + 1)), (0, .ref (ad 7)), (1, .ref (tb 0)), (2, .long p2)]) hx hb dX4_lays_31 hl (k := 3) rfl (syc kyi_1) (by decide) rfl (fun ls hl => ?_)
        refine lv_goto (tgt := 17) hx hb dX4_lays_34 rfl ?_
        obtain rfl := Option.some.inj hF
        exact ih (x_58 + 1) a_tMany_61 hY17 _ _ _ hH (lv_sub hl [1, 2, 3, 0] rfl)
  exact l17 nn17 0 a_tMany en17 _ _ _ hH (lv_sub hl [1, 2, 3, 0] rfl)
abbrev rm_X0_here : Room := { frames := 2, cells := 0, slots := 0, locals := 47 }
set_option maxHeartbeats 4000000 in
theorem met_X0_here {l : Launch} {D : va_G} {ad : Nat → Nat} {cA : Nat → ClassId} {sA ta ba na : Nat → Nat} {gi : Nat → Option Nat} {rh : Option Nat} {rt : Option Nat} {g_sort : Int32} {g_size : Int32} {g_from : Int32} {g_to : Int32} {g_level : Int32} {g_full : Int32} {a_tape : Nat → Int32} {a_hAt : Nat → Int32} {a_hMany : Nat → Int32} {a_tAt : Nat → Int32} {a_tMany : Nat → Int32} {a_least : Nat → Int32} {a_place : Nat → Int32} {a_to : Nat → Int32} {a_order : Nat → Int32} {a_fails : Nat → Int32} {a_sKeys : Nat → Int64} {a_sRow : Nat → Int64} {a_sSlots : Nat → Int32} {a_bKeys : Nat → Int64} {a_bRow : Nat → Int64} {a_bSlots : Nat → Int32} {a_easy : Nat → Int32} {a_wants : Nat → Int32} {a_wantedBy : Nat → Int32} {a_ring : Nat → Int32} {a_carried : Nat → Int32} {a_latest : Nat → Int32} {v_taped : Int32} {v_faultKind : Int32} {v_faultPlace : Int32} {v_x : Int32} {v_ordered : Int32} {v_sought : Int32} {v_lastSought : Int32} {v_hMoved : Int32} {v_hWithout : Int32} {v_tMoved : Int32} {v_tWithout : Int32} {v_places : Int32} {v_elsewhere : Int32} {v_sMany : Int32} {v_bMany : Int32} {v_year : Int32} {y_lies : Int64} {a_rsort : Nat → Int32} {a_rmany : Nat → Int32} {a_nums : Nat → Nat → Int64} {t : Nat → Int32} {nb : Int32} {bv : Nat → Int32 → Int32 → Int32 → Int32 → Int32 → Int32 → Bool} {pl : va_W}   {ra_hAt : Nat → Int32} {ra_hMany : Nat → Int32} {rv_hMoved : Int32} {E : EvT} (hE : EvN E) (hPO : PO cA pl ta ba t nb bv) (hF : FX0_here a_hAt a_hMany y_lies t = some (ra_hAt, ra_hMany, rv_hMoved)) : MX l yX0_here (ws_ yX0_here cX0_here 1 (Option.some (Jvm.ClassFile.FieldType.object "StoneYear$Stacks"))) rm_X0_here D vwA (cT cA) E [.ref (ad 0)] (cW ad cA sA ta ba na gi rh rt g_sort g_size g_from g_to g_level g_full a_tape a_hAt a_hMany a_tAt a_tMany a_least a_place a_to a_order a_fails a_sKeys a_sRow a_sSlots a_bKeys a_bRow a_bSlots a_easy a_wants a_wantedBy a_ring a_carried a_latest v_taped v_faultKind v_faultPlace v_x v_ordered v_sought v_lastSought v_hMoved v_hWithout v_tMoved v_tWithout v_places v_elsewhere v_sMany v_bMany v_year y_lies a_rsort a_rmany a_nums pl) (fun z => z = (cW ad cA sA ta ba na gi (some (ta 0)) rt g_sort g_size g_from g_to g_level g_full a_tape ra_hAt ra_hMany a_tAt a_tMany a_least a_place a_to a_order a_fails a_sKeys a_sRow a_sSlots a_bKeys a_bRow a_bSlots a_easy a_wants a_wantedBy a_ring a_carried a_latest v_taped v_faultKind v_faultPlace v_x v_ordered v_sought v_lastSought rv_hMoved v_hWithout v_tMoved v_tWithout v_places v_elsewhere v_sMany v_bMany v_year y_lies a_rsort a_rmany a_nums pl)) (some (.ref (ad 4))) := by
  refine MX.ofR (Or.inl ⟨_, rfl⟩) (Or.inr ⟨_, rfl⟩) (by decide) (Nat.le_of_ble_eq_true rfl) ?_
  intro p e s m args below meth c Q A hX hK hE0 hname hret H locs ls hH hl
  have hX : CallFix p m c cX0_here 1 s args lw_all RX0 := hX
  have hx := hX.1
  have hb := hX.2.1
  have hown := hX.2.2.2.1
  have hts := hX.2.2.2.2
  have hl : lv_has ls 1 [(0, .ref (ad 0))] := hl
  have hEv := hE.1
  have hNW := hE.2.1 _ _ _ hE0
  have hT := hPO.1
  have hB := hPO.2
  delta FX0_here at hF
  refine lv_aload_n hx hb dX0_here_0 rfl (lv_at hl 0 rfl) ?_
  refine cg_Y_this_here hX hK hNW hH dX0_here_1 ?_
  refine lv_aload_n hx hb dX0_here_4 rfl (lv_at hl 0 rfl) ?_
  refine cg_Y_this_s hX hK hNW hH dX0_here_5 ?_
  refine cg_Y_state_town hX hK hNW hH dX0_here_8 ?_
  refine lv_aload_n hx hb dX0_here_11 rfl (lv_at hl 0 rfl) ?_
  refine cg_Y_this_s hX hK hNW hH dX0_here_12 ?_
  refine cg_Y_state_lies hX hK hNW hH dX0_here_15 ?_
  obtain ⟨a_hAt_54, a_hMany_55, v_hMoved_56, he, hF⟩ := bd3e hF
  refine mxV hX hK hEv hE0 hH (met_X4_lays_h hE hPO hT he) (crecv hK hH 4 4 rfl rfl) gw_StoneYear_151 hd_yX4_lays ⟨Nat.le_of_ble_eq_true rfl, Nat.le_of_ble_eq_true rfl⟩ rfl rfl hl (Nat.le_of_ble_eq_true rfl) dX0_here_18 ⟨Nat.le_of_ble_eq_true rfl, Nat.le_of_ble_eq_true rfl⟩ (fun w2 H locs hw hH => ?_)
  subst hw
  obtain ⟨rfl, rfl, rfl⟩ := re3 hF
  exact hret _ _ _ _ _ rfl hH dX0_here_21
abbrev rm_X0_lies : Room := { frames := 3, cells := 0, slots := 0, locals := 67 }
set_option maxHeartbeats 4000000 in
theorem met_X0_lies {l : Launch} {D : va_G} {ad : Nat → Nat} {cA : Nat → ClassId} {sA ta ba na : Nat → Nat} {gi : Nat → Option Nat} {rh : Option Nat} {rt : Option Nat} {g_sort : Int32} {g_size : Int32} {g_from : Int32} {g_to : Int32} {g_level : Int32} {g_full : Int32} {a_tape : Nat → Int32} {a_hAt : Nat → Int32} {a_hMany : Nat → Int32} {a_tAt : Nat → Int32} {a_tMany : Nat → Int32} {a_least : Nat → Int32} {a_place : Nat → Int32} {a_to : Nat → Int32} {a_order : Nat → Int32} {a_fails : Nat → Int32} {a_sKeys : Nat → Int64} {a_sRow : Nat → Int64} {a_sSlots : Nat → Int32} {a_bKeys : Nat → Int64} {a_bRow : Nat → Int64} {a_bSlots : Nat → Int32} {a_easy : Nat → Int32} {a_wants : Nat → Int32} {a_wantedBy : Nat → Int32} {a_ring : Nat → Int32} {a_carried : Nat → Int32} {a_latest : Nat → Int32} {v_taped : Int32} {v_faultKind : Int32} {v_faultPlace : Int32} {v_x : Int32} {v_ordered : Int32} {v_sought : Int32} {v_lastSought : Int32} {v_hMoved : Int32} {v_hWithout : Int32} {v_tMoved : Int32} {v_tWithout : Int32} {v_places : Int32} {v_elsewhere : Int32} {v_sMany : Int32} {v_bMany : Int32} {v_year : Int32} {y_lies : Int64} {a_rsort : Nat → Int32} {a_rmany : Nat → Int32} {a_nums : Nat → Nat → Int64} {t : Nat → Int32} {nb : Int32} {bv : Nat → Int32 → Int32 → Int32 → Int32 → Int32 → Int32 → Bool} {pl : va_W}  {p1 : Int32} {res : Int32} {ra_hAt : Nat → Int32} {ra_hMany : Nat → Int32} {rv_hMoved : Int32} {E : EvT} (hE : EvN E) (hPO : PO cA pl ta ba t nb bv) (hF : FX0_lies a_hAt a_hMany v_hMoved y_lies t p1 = some (res, ra_hAt, ra_hMany, rv_hMoved)) : MX l yX0_lies (ws_ yX0_lies cX0_lies 2 (Option.some Jvm.ClassFile.FieldType.int)) rm_X0_lies D vwA (cT cA) E [.ref (ad 0), .int p1] (cW ad cA sA ta ba na gi rh rt g_sort g_size g_from g_to g_level g_full a_tape a_hAt a_hMany a_tAt a_tMany a_least a_place a_to a_order a_fails a_sKeys a_sRow a_sSlots a_bKeys a_bRow a_bSlots a_easy a_wants a_wantedBy a_ring a_carried a_latest v_taped v_faultKind v_faultPlace v_x v_ordered v_sought v_lastSought v_hMoved v_hWithout v_tMoved v_tWithout v_places v_elsewhere v_sMany v_bMany v_year y_lies a_rsort a_rmany a_nums pl) (fun z => ∃ rh' : Option Nat, z = (cW ad cA sA ta ba na gi rh' rt g_sort g_size g_from g_to g_level g_full a_tape ra_hAt ra_hMany a_tAt a_tMany a_least a_place a_to a_order a_fails a_sKeys a_sRow a_sSlots a_bKeys a_bRow a_bSlots a_easy a_wants a_wantedBy a_ring a_carried a_latest v_taped v_faultKind v_faultPlace v_x v_ordered v_sought v_lastSought rv_hMoved v_hWithout v_tMoved v_tWithout v_places v_elsewhere v_sMany v_bMany v_year y_lies a_rsort a_rmany a_nums pl)) (some (.int res)) := by
  refine MX.ofI (by decide) (Nat.le_of_ble_eq_true rfl) ?_
  intro p e s m args below meth c Q A hX hK hE0 hname hret H locs ls hH hl
  have hX : CallFix p m c cX0_lies 2 s args lw_all RX0 := hX
  have hx := hX.1
  have hb := hX.2.1
  have hown := hX.2.2.2.1
  have hts := hX.2.2.2.2
  have hl : lv_has ls 2 [(0, .ref (ad 0)), (1, .int p1)] := hl
  have hEv := hE.1
  have hNW := hE.2.1 _ _ _ hE0
  have hT := hPO.1
  have hB := hPO.2
  delta FX0_lies at hF
  refine lv_iload_n hx hb dX0_lies_0 rfl (lv_at hl 1 rfl) ?_
  refine lv_i2l (v := (Int32.toInt64 p1)) hx hb dX0_lies_1 rfl ?_
  refine lv_lconst (v := 0) hx hb dX0_lies_2 rfl ?_
  refine lv_ldc2 (v := 14) hx hb hown (hts _ q982) dX0_lies_3 ?_
  obtain ⟨b_55, he, hF⟩ := bd1e hF
  refine mxS hX hK hEv hE0 hH (met_X0_in hE hPO he) gw_StoneYear_106 hd_yX0_in ⟨Nat.le_of_ble_eq_true rfl, Nat.le_of_ble_eq_true rfl⟩ rfl rfl hl (Nat.le_of_ble_eq_true rfl) dX0_lies_6 ⟨Nat.le_of_ble_eq_true rfl, Nat.le_of_ble_eq_true rfl⟩ (fun w2 H locs hw hH => ?_)
  subst hw
  refine lv_if_eq (tgt := 24) hx hb dX0_lies_9 rfl (fun c_56 => ?_) (fun c_56 => ?_)
  · have hF := itp c_56 hF
    refine lv_bipush (v := (-3)) hx hb dX0_lies_24 kyb_m3 ?_
    obtain ⟨rfl, rfl, rfl, rfl⟩ := re4 hF
    exact hret _ _ _ _ _ ⟨_, rfl⟩ hH dX0_lies_26
  · have hF := itn c_56 hF
    refine lv_aload_n hx hb dX0_lies_12 rfl (lv_at hl 0 rfl) ?_
    obtain ⟨a_hAt_57, a_hMany_58, v_hMoved_59, he, hF⟩ := bd3e hF
    refine mxV hX hK hEv hE0 hH (met_X0_here hE hPO he) (crecv hK hH 0 0 rfl rfl) gw_StoneYear_195 hd_yX0_here ⟨Nat.le_of_ble_eq_true rfl, Nat.le_of_ble_eq_true rfl⟩ rfl rfl hl (Nat.le_of_ble_eq_true rfl) dX0_lies_13 ⟨Nat.le_of_ble_eq_true rfl, Nat.le_of_ble_eq_true rfl⟩ (fun w2 H locs hw hH => ?_)
    subst hw
    refine cg_Y_stkh_at hX hK hNW hH dX0_lies_16 ?_
    refine lv_iload_n hx hb dX0_lies_19 rfl (lv_at hl 1 rfl) ?_
    obtain ⟨x_60, he, hF⟩ := bd1e hF
    refine cl_hAt hX hK hH he dX0_lies_20 ?_
    refine lv_goto (tgt := 26) hx hb dX0_lies_21 rfl ?_
    obtain ⟨rfl, rfl, rfl, rfl⟩ := re4 hF
    exact hret _ _ _ _ _ ⟨_, rfl⟩ hH dX0_lies_26
abbrev rm_X0_row : Room := { frames := 4, cells := 0, slots := 0, locals := 141 }
set_option maxHeartbeats 4000000 in
theorem met_X0_row {l : Launch} {D : va_G} {ad : Nat → Nat} {cA : Nat → ClassId} {sA ta ba na : Nat → Nat} {gi : Nat → Option Nat} {rh : Option Nat} {rt : Option Nat} {g_sort : Int32} {g_size : Int32} {g_from : Int32} {g_to : Int32} {g_level : Int32} {g_full : Int32} {a_tape : Nat → Int32} {a_hAt : Nat → Int32} {a_hMany : Nat → Int32} {a_tAt : Nat → Int32} {a_tMany : Nat → Int32} {a_least : Nat → Int32} {a_place : Nat → Int32} {a_to : Nat → Int32} {a_order : Nat → Int32} {a_fails : Nat → Int32} {a_sKeys : Nat → Int64} {a_sRow : Nat → Int64} {a_sSlots : Nat → Int32} {a_bKeys : Nat → Int64} {a_bRow : Nat → Int64} {a_bSlots : Nat → Int32} {a_easy : Nat → Int32} {a_wants : Nat → Int32} {a_wantedBy : Nat → Int32} {a_ring : Nat → Int32} {a_carried : Nat → Int32} {a_latest : Nat → Int32} {v_taped : Int32} {v_faultKind : Int32} {v_faultPlace : Int32} {v_x : Int32} {v_ordered : Int32} {v_sought : Int32} {v_lastSought : Int32} {v_hMoved : Int32} {v_hWithout : Int32} {v_tMoved : Int32} {v_tWithout : Int32} {v_places : Int32} {v_elsewhere : Int32} {v_sMany : Int32} {v_bMany : Int32} {v_year : Int32} {y_lies : Int64} {a_rsort : Nat → Int32} {a_rmany : Nat → Int32} {a_nums : Nat → Nat → Int64} {t : Nat → Int32} {nb : Int32} {bv : Nat → Int32 → Int32 → Int32 → Int32 → Int32 → Int32 → Bool} {pl : va_W}  {p1 : Int32} {p2 : Int32} {res : Int32} {ra_hAt : Nat → Int32} {ra_hMany : Nat → Int32} {rv_hMoved : Int32} {E : EvT} (hE : EvN E) (hPO : PO cA pl ta ba t nb bv) (hF : FX0_row a_hAt a_hMany v_hMoved y_lies t p1 p2 = some (res, ra_hAt, ra_hMany, rv_hMoved)) : MX l yX0_row (ws_ yX0_row cX0_row 4 (Option.some Jvm.ClassFile.FieldType.int)) rm_X0_row D vwA (cT cA) E [.ref (ad 0), .int p1, .int p2] (cW ad cA sA ta ba na gi rh rt g_sort g_size g_from g_to g_level g_full a_tape a_hAt a_hMany a_tAt a_tMany a_least a_place a_to a_order a_fails a_sKeys a_sRow a_sSlots a_bKeys a_bRow a_bSlots a_easy a_wants a_wantedBy a_ring a_carried a_latest v_taped v_faultKind v_faultPlace v_x v_ordered v_sought v_lastSought v_hMoved v_hWithout v_tMoved v_tWithout v_places v_elsewhere v_sMany v_bMany v_year y_lies a_rsort a_rmany a_nums pl) (fun z => ∃ rh' : Option Nat, z = (cW ad cA sA ta ba na gi rh' rt g_sort g_size g_from g_to g_level g_full a_tape ra_hAt ra_hMany a_tAt a_tMany a_least a_place a_to a_order a_fails a_sKeys a_sRow a_sSlots a_bKeys a_bRow a_bSlots a_easy a_wants a_wantedBy a_ring a_carried a_latest v_taped v_faultKind v_faultPlace v_x v_ordered v_sought v_lastSought rv_hMoved v_hWithout v_tMoved v_tWithout v_places v_elsewhere v_sMany v_bMany v_year y_lies a_rsort a_rmany a_nums pl)) (some (.int res)) := by
  refine MX.ofI (by decide) (Nat.le_of_ble_eq_true rfl) ?_
  intro p e s m args below meth c Q A hX hK hE0 hname hret H locs ls hH hl
  have hX : CallFix p m c cX0_row 4 s args lw_all RX0 := hX
  have hx := hX.1
  have hb := hX.2.1
  have hown := hX.2.2.2.1
  have hts := hX.2.2.2.2
  have hl : lv_has ls 4 [(0, .ref (ad 0)), (1, .int p1), (2, .int p2)] := hl
  have hEv := hE.1
  have hNW := hE.2.1 _ _ _ hE0
  have hT := hPO.1
  have hB := hPO.2
  delta FX0_row at hF
  refine lv_iload_n hx hb dX0_row_0 rfl (lv_at hl 1 rfl) ?_
  refine lv_i2l (v := (Int32.toInt64 p1)) hx hb dX0_row_1 rfl ?_
  refine lv_lconst (v := 0) hx hb dX0_row_2 rfl ?_
  refine lv_aload_n hx hb dX0_row_3 rfl (lv_at hl 0 rfl) ?_
  refine cg_Y_this_s hX hK hNW hH dX0_row_4 ?_
  refine cg_Y_state_town hX hK hNW hH dX0_row_7 ?_
  refine cg_Y_town_rows hT (fun _ h => cW_pl h) hX hK hNW hH dX0_row_10 ?_
  refine mxV hX hK hEv hE0 hH (met_J2_size hE.1 hT.rows (fun _ h => cW_pl h)) (precv (fun _ h => cW_pl h) hK hH 17 rfl hT.rows.obj) gw_StoneYear_133 hd_yJ2_size ⟨Nat.le_of_ble_eq_true rfl, Nat.le_of_ble_eq_true rfl⟩ rfl rfl hl (Nat.le_of_ble_eq_true rfl) dX0_row_13 ⟨Nat.le_of_ble_eq_true rfl, Nat.le_of_ble_eq_true rfl⟩ (fun w2 H locs hw hH => ?_)
  subst hw
  refine lv_iconst (v := 1) hx hb dX0_row_16 kyi_1 ?_
  refine lv_isub hx hb dX0_row_17 ?_
  refine lv_i2l (v := (Int32.toInt64 ((t 0) - 1))) hx hb dX0_row_18 rfl ?_
  obtain ⟨b_56, he, hF⟩ := bd1e hF
  refine mxS hX hK hEv hE0 hH (met_X0_in hE hPO he) gw_StoneYear_106 hd_yX0_in ⟨Nat.le_of_ble_eq_true rfl, Nat.le_of_ble_eq_true rfl⟩ rfl rfl hl (Nat.le_of_ble_eq_true rfl) dX0_row_19 ⟨Nat.le_of_ble_eq_true rfl, Nat.le_of_ble_eq_true rfl⟩ (fun w2 H locs hw hH => ?_)
  subst hw
  refine lv_if_eq (tgt := 37) hx hb dX0_row_22 rfl (fun c_57 => ?_) (fun c_57 => ?_)
  · have hF := itp c_57 hF
    refine lv_bipush (v := (-2)) hx hb dX0_row_37 kyb_m2 ?_
    obtain ⟨rfl, rfl, rfl, rfl⟩ := re4 hF
    exact hret _ _ _ _ _ ⟨_, rfl⟩ hH dX0_row_39
  · have hF := itn c_57 hF
    refine lv_iload_n hx hb dX0_row_25 rfl (lv_at hl 2 rfl) ?_
    refine lv_i2l (v := (Int32.toInt64 p2)) hx hb dX0_row_26 rfl ?_
    refine lv_lconst (v := 0) hx hb dX0_row_27 rfl ?_
    refine lv_ldc2 (v := 6) hx hb hown (hts _ q967) dX0_row_28 ?_
    obtain ⟨b_58, he, hF⟩ := bd1e hF
    refine mxS hX hK hEv hE0 hH (met_X0_in hE hPO he) gw_StoneYear_106 hd_yX0_in ⟨Nat.le_of_ble_eq_true rfl, Nat.le_of_ble_eq_true rfl⟩ rfl rfl hl (Nat.le_of_ble_eq_true rfl) dX0_row_31 ⟨Nat.le_of_ble_eq_true rfl, Nat.le_of_ble_eq_true rfl⟩ (fun w2 H locs hw hH => ?_)
    subst hw
    refine lv_if_ne (tgt := 40) hx hb dX0_row_34 rfl (fun c_59 => ?_) (fun c_59 => ?_)
    · have hF := itn c_59 hF
      refine lv_aload_n hx hb dX0_row_40 rfl (lv_at hl 0 rfl) ?_
      refine cg_Y_this_s hX hK hNW hH dX0_row_41 ?_
      refine cg_Y_state_town hX hK hNW hH dX0_row_44 ?_
      refine cg_Y_town_rows hT (fun _ h => cW_pl h) hX hK hNW hH dX0_row_47 ?_
      refine lv_iload_n hx hb dX0_row_50 rfl (lv_at hl 1 rfl) ?_
      obtain ⟨hg_60, hF⟩ := bd0e hF
      refine mxV hX hK hEv hE0 hH (met_J2_get hE.1 rfl hT.rows hg_60 (fun _ h => cW_pl h)) (precv (fun _ h => cW_pl h) hK hH 17 rfl hT.rows.obj) gw_StoneYear_170 hd_yJ2_get ⟨Nat.le_of_ble_eq_true rfl, Nat.le_of_ble_eq_true rfl⟩ rfl rfl hl (Nat.le_of_ble_eq_true rfl) dX0_row_51 ⟨Nat.le_of_ble_eq_true rfl, Nat.le_of_ble_eq_true rfl⟩ (fun w2 H locs hw hH => ?_)
      subst hw
      refine va_castE hx hb hown (hts _ q997) (precv (fun _ h => cW_pl h) hK hH 10 rfl ⟨_, hT.row (alg_lt hg_60)⟩) dX0_row_54 ?_
      refine lv_astore_n (lv' := [(3, .ref (ta (10 + p1.toNatClampNeg))), (0, .ref (ad 0)), (1, .int p1), (2, .int p2)]) hx hb dX0_row_57 rfl hl (by decide) rfl (fun ls hl => ?_)
      refine lv_iload_n hx hb dX0_row_58 rfl (lv_at hl 3 rfl) ?_
      refine lv_if_ne (tgt := 69) hx hb dX0_row_59 rfl (fun c_61 => ?_) (fun c_61 => ?_)
      · have hF := itn c_61 hF
        refine lv_iload_n hx hb dX0_row_69 rfl (lv_at hl 3 rfl) ?_
        refine lv_iconst (v := 1) hx hb dX0_row_70 kyi_1 ?_
        refine lv_icmp_ne (tgt := 86) hx hb dX0_row_71 rfl (fun c_62 => ?_) (fun c_62 => ?_)
        · have hF := itn c_62 hF
          refine lv_iload_n hx hb dX0_row_86 rfl (lv_at hl 3 rfl) ?_
          refine lv_iconst (v := 2) hx hb dX0_row_87 kyi_2 ?_
          refine lv_icmp_ne (tgt := 98) hx hb dX0_row_88 rfl (fun c_67 => ?_) (fun c_67 => ?_)
          · have hF := itn c_67 hF
            refine lv_iload_n hx hb dX0_row_98 rfl (lv_at hl 3 rfl) ?_
            refine lv_iconst (v := 3) hx hb dX0_row_99 kyi_3 ?_
            refine lv_icmp_ne (tgt := 110) hx hb dX0_row_100 rfl (fun c_68 => ?_) (fun c_68 => ?_)
            · have hF := itn c_68 hF
              refine lv_aload_n hx hb dX0_row_110 rfl (lv_at hl 0 rfl) ?_
              refine cg_Y_row_wish hT (alg_lt hg_60) (fun _ h => cW_pl h) hX hK hNW hH dX0_row_111 ?_
              refine lv_iload_n hx hb dX0_row_114 rfl (lv_at hl 3 rfl) ?_
              refine lv_iconst (v := 4) hx hb dX0_row_115 kyi_4 ?_
              refine lv_isub hx hb dX0_row_116 ?_
              obtain ⟨x_69, he, hF⟩ := bd1e hF
              refine cl_wish hT (alg_lt hg_60) (fun _ h => cW_pl h) rfl hX hK hH he dX0_row_117 ?_
              obtain ⟨rfl, rfl, rfl, rfl⟩ := re4 hF
              exact hret _ _ _ _ _ ⟨_, rfl⟩ hH dX0_row_118
            · have hF := itp c_68 hF
              refine lv_aload_n hx hb dX0_row_103 rfl (lv_at hl 0 rfl) ?_
              refine cg_Y_row_whose hT (alg_lt hg_60) (fun _ h => cW_pl h) hX hK hNW hH dX0_row_104 ?_
              refine lv_goto (tgt := 118) hx hb dX0_row_107 rfl ?_
              obtain ⟨rfl, rfl, rfl, rfl⟩ := re4 hF
              exact hret _ _ _ _ _ ⟨_, rfl⟩ hH dX0_row_118
          · have hF := itp c_67 hF
            refine lv_aload_n hx hb dX0_row_91 rfl (lv_at hl 0 rfl) ?_
            refine cg_Y_row_wished hT (alg_lt hg_60) (fun _ h => cW_pl h) hX hK hNW hH dX0_row_92 ?_
            refine lv_goto (tgt := 118) hx hb dX0_row_95 rfl ?_
            obtain ⟨rfl, rfl, rfl, rfl⟩ := re4 hF
            exact hret _ _ _ _ _ ⟨_, rfl⟩ hH dX0_row_118
        · have hF := itp c_62 hF
          refine lv_aload_n hx hb dX0_row_74 rfl (lv_at hl 1 rfl) ?_
          obtain ⟨a_hAt_63, a_hMany_64, v_hMoved_65, he, hF⟩ := bd3e hF
          refine mxV hX hK hEv hE0 hH (met_X0_here hE hPO he) (crecv hK hH 0 0 rfl rfl) gw_StoneYear_195 hd_yX0_here ⟨Nat.le_of_ble_eq_true rfl, Nat.le_of_ble_eq_true rfl⟩ rfl rfl hl (Nat.le_of_ble_eq_true rfl) dX0_row_75 ⟨Nat.le_of_ble_eq_true rfl, Nat.le_of_ble_eq_true rfl⟩ (fun w2 H locs hw hH => ?_)
          subst hw
          refine cg_Y_stkh_many hX hK hNW hH dX0_row_78 ?_
          refine lv_iload_n hx hb dX0_row_81 rfl (lv_at hl 2 rfl) ?_
          obtain ⟨x_66, he, hF⟩ := bd1e hF
          refine cl_hMany hX hK hH he dX0_row_82 ?_
          refine lv_goto (tgt := 118) hx hb dX0_row_83 rfl ?_
          obtain ⟨rfl, rfl, rfl, rfl⟩ := re4 hF
          exact hret _ _ _ _ _ ⟨_, rfl⟩ hH dX0_row_118
      · have hF := itp c_61 hF
        refine lv_aload_n hx hb dX0_row_62 rfl (lv_at hl 0 rfl) ?_
        refine cg_Y_row_high hT (alg_lt hg_60) (fun _ h => cW_pl h) hX hK hNW hH dX0_row_63 ?_
        refine lv_goto (tgt := 118) hx hb dX0_row_66 rfl ?_
        obtain ⟨rfl, rfl, rfl, rfl⟩ := re4 hF
        exact hret _ _ _ _ _ ⟨_, rfl⟩ hH dX0_row_118
    · have hF := itp c_59 hF
      refine lv_bipush (v := (-2)) hx hb dX0_row_37 kyb_m2 ?_
      obtain ⟨rfl, rfl, rfl, rfl⟩ := re4 hF
      exact hret _ _ _ _ _ ⟨_, rfl⟩ hH dX0_row_39
abbrev rm_X0_tooMuch : Room := { frames := 4, cells := 0, slots := 0, locals := 141 }
set_option maxHeartbeats 4000000 in
theorem met_X0_tooMuch {l : Launch} {D : va_G} {ad : Nat → Nat} {cA : Nat → ClassId} {sA ta ba na : Nat → Nat} {gi : Nat → Option Nat} {rh : Option Nat} {rt : Option Nat} {g_sort : Int32} {g_size : Int32} {g_from : Int32} {g_to : Int32} {g_level : Int32} {g_full : Int32} {a_tape : Nat → Int32} {a_hAt : Nat → Int32} {a_hMany : Nat → Int32} {a_tAt : Nat → Int32} {a_tMany : Nat → Int32} {a_least : Nat → Int32} {a_place : Nat → Int32} {a_to : Nat → Int32} {a_order : Nat → Int32} {a_fails : Nat → Int32} {a_sKeys : Nat → Int64} {a_sRow : Nat → Int64} {a_sSlots : Nat → Int32} {a_bKeys : Nat → Int64} {a_bRow : Nat → Int64} {a_bSlots : Nat → Int32} {a_easy : Nat → Int32} {a_wants : Nat → Int32} {a_wantedBy : Nat → Int32} {a_ring : Nat → Int32} {a_carried : Nat → Int32} {a_latest : Nat → Int32} {v_taped : Int32} {v_faultKind : Int32} {v_faultPlace : Int32} {v_x : Int32} {v_ordered : Int32} {v_sought : Int32} {v_lastSought : Int32} {v_hMoved : Int32} {v_hWithout : Int32} {v_tMoved : Int32} {v_tWithout : Int32} {v_places : Int32} {v_elsewhere : Int32} {v_sMany : Int32} {v_bMany : Int32} {v_year : Int32} {y_lies : Int64} {a_rsort : Nat → Int32} {a_rmany : Nat → Int32} {a_nums : Nat → Nat → Int64} {t : Nat → Int32} {nb : Int32} {bv : Nat → Int32 → Int32 → Int32 → Int32 → Int32 → Int32 → Bool} {pl : va_W}   {res : Int32} {ra_hAt : Nat → Int32} {ra_hMany : Nat → Int32} {rv_hMoved : Int32} {E : EvT} (hE : EvN E) (hPO : PO cA pl ta ba t nb bv) (hF : FX0_tooMuch a_hAt a_hMany y_lies t = some (res, ra_hAt, ra_hMany, rv_hMoved)) : MX l yX0_tooMuch (ws_ yX0_tooMuch cX0_tooMuch 7 (Option.some Jvm.ClassFile.FieldType.int)) rm_X0_tooMuch D vwA (cT cA) E [.ref (ad 0)] (cW ad cA sA ta ba na gi rh rt g_sort g_size g_from g_to g_level g_full a_tape a_hAt a_hMany a_tAt a_tMany a_least a_place a_to a_order a_fails a_sKeys a_sRow a_sSlots a_bKeys a_bRow a_bSlots a_easy a_wants a_wantedBy a_ring a_carried a_latest v_taped v_faultKind v_faultPlace v_x v_ordered v_sought v_lastSought v_hMoved v_hWithout v_tMoved v_tWithout v_places v_elsewhere v_sMany v_bMany v_year y_lies a_rsort a_rmany a_nums pl) (fun z => z = (cW ad cA sA ta ba na gi (some (ta 0)) rt g_sort g_size g_from g_to g_level g_full a_tape ra_hAt ra_hMany a_tAt a_tMany a_least a_place a_to a_order a_fails a_sKeys a_sRow a_sSlots a_bKeys a_bRow a_bSlots a_easy a_wants a_wantedBy a_ring a_carried a_latest v_taped v_faultKind v_faultPlace v_x v_ordered v_sought v_lastSought rv_hMoved v_hWithout v_tMoved v_tWithout v_places v_elsewhere v_sMany v_bMany v_year y_lies a_rsort a_rmany a_nums pl)) (some (.int res)) := by
  refine MX.ofI (by decide) (Nat.le_of_ble_eq_true rfl) ?_
  intro p e s m args below meth c Q A hX hK hE0 hname hret H locs ls hH hl
  have hX : CallFix p m c cX0_tooMuch 7 s args lw_all RX0 := hX
  have hx := hX.1
  have hb := hX.2.1
  have hown := hX.2.2.2.1
  have hts := hX.2.2.2.2
  have hl : lv_has ls 7 [(0, .ref (ad 0))] := hl
  have hEv := hE.1
  have hNW := hE.2.1 _ _ _ hE0
  have hT := hPO.1
  have hB := hPO.2
  delta FX0_tooMuch at hF
  refine lv_aload_n hx hb dX0_tooMuch_0 rfl (lv_at hl 0 rfl) ?_
  obtain ⟨a_hAt_54, a_hMany_55, v_hMoved_56, he, hF⟩ := bd3e hF
  refine mxV hX hK hEv hE0 hH (met_X0_here hE hPO he) (crecv hK hH 0 0 rfl rfl) gw_StoneYear_195 hd_yX0_here ⟨Nat.le_of_ble_eq_true rfl, Nat.le_of_ble_eq_true rfl⟩ rfl rfl hl (Nat.le_of_ble_eq_true rfl) dX0_tooMuch_1 ⟨Nat.le_of_ble_eq_true rfl, Nat.le_of_ble_eq_true rfl⟩ (fun w2 H locs hw hH => ?_)
  subst hw
  refine lv_astore_n (lv' := [(1, .ref (ad 4)), (0, .ref (ad 0))]) hx hb dX0_tooMuch_4 rfl hl (by decide) rfl (fun ls hl => ?_)
  refine lv_iconst (v := (-1)) hx hb dX0_tooMuch_5 kyi_m1 ?_
  refine lv_istore_n (lv' := [(2, .int (-1)), (1, .ref (ad 4)), (0, .ref (ad 0))]) hx hb dX0_tooMuch_6 rfl hl (by decide) rfl (fun ls hl => ?_)
  refine lv_iconst (v := 0) hx hb dX0_tooMuch_7 kyi_0 ?_
  refine lv_istore_n (lv' := [(3, .int 0), (2, .int (-1)), (1, .ref (ad 4)), (0, .ref (ad 0))]) hx hb dX0_tooMuch_8 rfl hl (by decide) rfl (fun ls hl => ?_)
  obtain ⟨xx9, ee9, kk9_0⟩ := bd1L hF
  have k9_0 : ∀ (x_103 : Int32), xx9 = x_103 → ∀ (H : Heap) (locs : List Loc) (ls : Array Slot), MH D vwA A s.heap (cW ad cA sA ta ba na gi (some (ta 0)) rt g_sort g_size g_from g_to g_level g_full a_tape a_hAt_54 a_hMany_55 a_tAt a_tMany a_least a_place a_to a_order a_fails a_sKeys a_sRow a_sSlots a_bKeys a_bRow a_bSlots a_easy a_wants a_wantedBy a_ring a_carried a_latest v_taped v_faultKind v_faultPlace v_x v_ordered v_sought v_lastSought v_hMoved_56 v_hWithout v_tMoved v_tWithout v_places v_elsewhere v_sMany v_bMany v_year y_lies a_rsort a_rmany a_nums pl) H locs → lv_has ls 7 [(2, .int x_103)] → W p l e rm_X0_tooMuch s m args below meth c H locs 0 0 Q (F0 m 135 ls []) := by
    intro x_103 hxx H locs ls hH hl
    have hF := un1e (kk9_0 x_103 hxx)
    refine lv_iload_n hx hb dX0_tooMuch_135 rfl (lv_at hl 0 rfl) ?_
    obtain ⟨rfl, rfl, rfl, rfl⟩ := re4 hF
    exact hret _ _ _ _ _ rfl hH dX0_tooMuch_136
  obtain ⟨nn9, en9⟩ := loopC_some ee9
  have l9 : ∀ (n : Nat) (x_79 : Int32) (x_80 : Int32), loopN (fun s => FX0_tooMuch_b9 t a_hAt_54 a_hMany_55 s.1 s.2) n (x_79, x_80) = some xx9 → ∀ (H : Heap) (locs : List Loc) (ls : Array Slot), MH D vwA A s.heap (cW ad cA sA ta ba na gi (some (ta 0)) rt g_sort g_size g_from g_to g_level g_full a_tape a_hAt_54 a_hMany_55 a_tAt a_tMany a_least a_place a_to a_order a_fails a_sKeys a_sRow a_sSlots a_bKeys a_bRow a_bSlots a_easy a_wants a_wantedBy a_ring a_carried a_latest v_taped v_faultKind v_faultPlace v_x v_ordered v_sought v_lastSought v_hMoved_56 v_hWithout v_tMoved v_tWithout v_places v_elsewhere v_sMany v_bMany v_year y_lies a_rsort a_rmany a_nums pl) H locs → lv_has ls 7 [(0, .ref (ad 0)), (1, .ref (ad 4)), (2, .int x_79), (3, .int x_80)] → W p l e rm_X0_tooMuch s m args below meth c H locs 0 0 Q (F0 m 9 ls []) := by
    intro n
    induction n with
    | zero =>
      intro x_79 x_80 hN
      exact absurd hN loopN_zero
    | succ n ih =>
      intro x_79 x_80 hN H locs ls hH hl
      obtain ⟨yy9, hB9, hY9⟩ := loopN_succ hN
      have hF : FX0_tooMuch_b9 t a_hAt_54 a_hMany_55 x_79 x_80 = some yy9 := hB9
      delta FX0_tooMuch_b9 at hF
      refine lv_iload_n hx hb dX0_tooMuch_9 rfl (lv_at hl 3 rfl) ?_
      refine lv_aload_n hx hb dX0_tooMuch_10 rfl (lv_at hl 0 rfl) ?_
      refine cg_Y_this_s hX hK hNW hH dX0_tooMuch_11 ?_
      refine cg_Y_state_town hX hK hNW hH dX0_tooMuch_14 ?_
      refine cg_Y_town_rows hT (fun _ h => cW_pl h) hX hK hNW hH dX0_tooMuch_17 ?_
      refine mxV hX hK hEv hE0 hH (met_J2_size hE.1 hT.rows (fun _ h => cW_pl h)) (precv (fun _ h => cW_pl h) hK hH 17 rfl hT.rows.obj) gw_StoneYear_133 hd_yJ2_size ⟨Nat.le_of_ble_eq_true rfl, Nat.le_of_ble_eq_true rfl⟩ rfl rfl hl (Nat.le_of_ble_eq_true rfl) dX0_tooMuch_20 ⟨Nat.le_of_ble_eq_true rfl, Nat.le_of_ble_eq_true rfl⟩ (fun w2 H locs hw hH => ?_)
      subst hw
      refine lv_icmp_ge (tgt := 135) hx hb dX0_tooMuch_23 rfl (fun c_81 => ?_) (fun c_81 => ?_)
      · have hF := itp c_81 hF
        obtain rfl := Option.some.inj hF
        exact k9_0 x_79 hY9 _ _ _ hH (lv_sub hl [2] rfl)
      · have hF := itn c_81 hF
        refine lv_iconst (v := 0) hx hb dX0_tooMuch_26 kyi_0 ?_
        refine lv_istore (lv' := [(4, .int 0), (0, .ref (ad 0)), (1, .ref (ad 4)), (2, .int x_79), (3, .int x_80)]) hx hb dX0_tooMuch_27 hl (by decide) rfl (fun ls hl => ?_)
        refine lv_aload_n hx hb dX0_tooMuch_29 rfl (lv_at hl 2 rfl) ?_
        refine cg_Y_stkh_many hX hK hNW hH dX0_tooMuch_30 ?_
        refine lv_iload_n hx hb dX0_tooMuch_33 rfl (lv_at hl 4 rfl) ?_
        obtain ⟨x_82, he, hF⟩ := bd1e hF
        refine cl_hMany hX hK hH he dX0_tooMuch_34 ?_
        refine lv_iconst (v := 1) hx hb dX0_tooMuch_35 kyi_1 ?_
        refine lv_isub hx hb dX0_tooMuch_36 ?_
        refine lv_istore (lv' := [(5, .int (x_82 - 1)), (4, .int 0), (0, .ref (ad 0)), (1, .ref (ad 4)), (2, .int x_79), (3, .int x_80)]) hx hb dX0_tooMuch_37 hl (by decide) rfl (fun ls hl => ?_)
        obtain ⟨xx39, ee39, kk39_0⟩ := bd1L hF
        have k39_0 : ∀ (x_102 : Int32), xx39 = x_102 → ∀ (H : Heap) (locs : List Loc) (ls : Array Slot), MH D vwA A s.heap (cW ad cA sA ta ba na gi (some (ta 0)) rt g_sort g_size g_from g_to g_level g_full a_tape a_hAt_54 a_hMany_55 a_tAt a_tMany a_least a_place a_to a_order a_fails a_sKeys a_sRow a_sSlots a_bKeys a_bRow a_bSlots a_easy a_wants a_wantedBy a_ring a_carried a_latest v_taped v_faultKind v_faultPlace v_x v_ordered v_sought v_lastSought v_hMoved_56 v_hWithout v_tMoved v_tWithout v_places v_elsewhere v_sMany v_bMany v_year y_lies a_rsort a_rmany a_nums pl) H locs → lv_has ls 7 [(0, .ref (ad 0)), (1, .ref (ad 4)), (2, .int x_102), (3, .int x_80)] → W p l e rm_X0_tooMuch s m args below meth c H locs 0 0 Q (F0 m 129 ls []) := by
          intro x_102 hxx H locs ls hH hl
          have hF := un1e (kk39_0 x_102 hxx)
          refine lv_iinc (v := (x_80 + 1)) (lv' := [(3, .int (x_80 + 1)), (0, .ref (ad 0)), (1, .ref (ad 4)), (2, .int x_102)]) hx hb dX0_tooMuch_129 hl (k := 3) rfl (syc kyi_1) (by decide) rfl (fun ls hl => ?_)
          refine lv_goto (tgt := 9) hx hb dX0_tooMuch_132 rfl ?_
          obtain rfl := Option.some.inj hF
          exact ih x_102 (x_80 + 1) hY9 _ _ _ hH (lv_sub hl [1, 2, 3, 0] rfl)
        obtain ⟨nn39, en39⟩ := loopC_some ee39
        have l39 : ∀ (n : Nat) (x_91 : Int32) (x_92 : Int32) (x_93 : Int32), loopN (fun s => FX0_tooMuch_b39 t a_hAt_54 x_80 s.1 s.2.1 s.2.2) n (x_91, x_92, x_93) = some xx39 → ∀ (H : Heap) (locs : List Loc) (ls : Array Slot), MH D vwA A s.heap (cW ad cA sA ta ba na gi (some (ta 0)) rt g_sort g_size g_from g_to g_level g_full a_tape a_hAt_54 a_hMany_55 a_tAt a_tMany a_least a_place a_to a_order a_fails a_sKeys a_sRow a_sSlots a_bKeys a_bRow a_bSlots a_easy a_wants a_wantedBy a_ring a_carried a_latest v_taped v_faultKind v_faultPlace v_x v_ordered v_sought v_lastSought v_hMoved_56 v_hWithout v_tMoved v_tWithout v_places v_elsewhere v_sMany v_bMany v_year y_lies a_rsort a_rmany a_nums pl) H locs → lv_has ls 7 [(0, .ref (ad 0)), (1, .ref (ad 4)), (2, .int x_91), (3, .int x_80), (4, .int x_92), (5, .int x_93)] → W p l e rm_X0_tooMuch s m args below meth c H locs 0 0 Q (F0 m 39 ls []) := by
          intro n
          induction n with
          | zero =>
            intro x_91 x_92 x_93 hN
            exact absurd hN loopN_zero
          | succ n ih =>
            intro x_91 x_92 x_93 hN H locs ls hH hl
            obtain ⟨yy39, hB39, hY39⟩ := loopN_succ hN
            have hF : FX0_tooMuch_b39 t a_hAt_54 x_80 x_91 x_92 x_93 = some yy39 := hB39
            delta FX0_tooMuch_b39 at hF
            refine lv_iload hx hb dX0_tooMuch_39 (lv_at hl 5 rfl) ?_
            refine lv_if_lt (tgt := 129) hx hb dX0_tooMuch_41 rfl (fun c_94 => ?_) (fun c_94 => ?_)
            · have hF := itp c_94 hF
              obtain rfl := Option.some.inj hF
              exact k39_0 x_91 hY39 _ _ _ hH (lv_sub hl [0, 1, 2, 3] rfl)
            · have hF := itn c_94 hF
              refine lv_aload_n hx hb dX0_tooMuch_44 rfl (lv_at hl 1 rfl) ?_
              refine cg_Y_stkh_at hX hK hNW hH dX0_tooMuch_45 ?_
              refine lv_iconst (v := 3) hx hb dX0_tooMuch_48 kyi_3 ?_
              refine lv_iload_n hx hb dX0_tooMuch_49 rfl (lv_at hl 3 rfl) ?_
              refine lv_imul hx hb dX0_tooMuch_50 ?_
              refine lv_iload hx hb dX0_tooMuch_51 (lv_at hl 5 rfl) ?_
              refine lv_iadd hx hb dX0_tooMuch_53 ?_
              obtain ⟨x_95, he, hF⟩ := bd1e hF
              refine cl_hAt hX hK hH he dX0_tooMuch_54 ?_
              refine lv_istore (lv' := [(6, .int x_95), (0, .ref (ad 0)), (1, .ref (ad 4)), (2, .int x_91), (3, .int x_80), (4, .int x_92), (5, .int x_93)]) hx hb dX0_tooMuch_55 hl (by decide) rfl (fun ls hl => ?_)
              refine lv_iload hx hb dX0_tooMuch_57 (lv_at hl 5 rfl) ?_
              refine lv_aload_n hx hb dX0_tooMuch_59 rfl (lv_at hl 1 rfl) ?_
              refine cg_Y_this_s hX hK hNW hH dX0_tooMuch_60 ?_
              refine cg_Y_state_town hX hK hNW hH dX0_tooMuch_63 ?_
              refine cg_Y_town_stones hT (fun _ h => cW_pl h) hX hK hNW hH dX0_tooMuch_66 ?_
              refine lv_iload hx hb dX0_tooMuch_69 (lv_at hl 0 rfl) ?_
              obtain ⟨hg_96, hF⟩ := bd0e hF
              refine mxV hX hK hEv hE0 hH (met_J2_get hE.1 rfl hT.stones hg_96 (fun _ h => cW_pl h)) (precv (fun _ h => cW_pl h) hK hH 17 rfl hT.stones.obj) gw_StoneYear_170 hd_yJ2_get ⟨Nat.le_of_ble_eq_true rfl, Nat.le_of_ble_eq_true rfl⟩ rfl rfl hl (Nat.le_of_ble_eq_true rfl) dX0_tooMuch_71 ⟨Nat.le_of_ble_eq_true rfl, Nat.le_of_ble_eq_true rfl⟩ (fun w2 H locs hw hH => ?_)
              subst hw
              refine va_castE hx hb hown (hts _ q969) (precv (fun _ h => cW_pl h) hK hH 11 rfl ⟨_, hT.stone (alg_lt hg_96)⟩) dX0_tooMuch_74 ?_
              refine cg_Y_stone_bears hT (alg_lt hg_96) (fun _ h => cW_pl h) hX hK hNW hH dX0_tooMuch_77 ?_
              have j97 : ∀ (x_100 : Int32), FX0_tooMuch_j97 t x_92 x_93 x_95 x_100 = some yy39 → ∀ (H : Heap) (locs : List Loc) (ls : Array Slot), MH D vwA A s.heap (cW ad cA sA ta ba na gi (some (ta 0)) rt g_sort g_size g_from g_to g_level g_full a_tape a_hAt_54 a_hMany_55 a_tAt a_tMany a_least a_place a_to a_order a_fails a_sKeys a_sRow a_sSlots a_bKeys a_bRow a_bSlots a_easy a_wants a_wantedBy a_ring a_carried a_latest v_taped v_faultKind v_faultPlace v_x v_ordered v_sought v_lastSought v_hMoved_56 v_hWithout v_tMoved v_tWithout v_places v_elsewhere v_sMany v_bMany v_year y_lies a_rsort a_rmany a_nums pl) H locs → lv_has ls 7 [(0, .ref (ad 0)), (1, .ref (ad 4)), (2, .int x_100), (3, .int x_80), (4, .int x_92), (5, .int x_93), (6, .int x_95)] → W p l e rm_X0_tooMuch s m args below meth c H locs 0 0 Q (F0 m 97 ls []) := by
                intro x_100 hF H locs ls hH hl
                delta FX0_tooMuch_j97 at hF
                refine lv_iload hx hb dX0_tooMuch_97 (lv_at hl 4 rfl) ?_
                refine lv_aload_n hx hb dX0_tooMuch_99 rfl (lv_at hl 0 rfl) ?_
                refine cg_Y_this_s hX hK hNW hH dX0_tooMuch_100 ?_
                refine cg_Y_state_town hX hK hNW hH dX0_tooMuch_103 ?_
                refine cg_Y_town_stones hT (fun _ h => cW_pl h) hX hK hNW hH dX0_tooMuch_106 ?_
                refine lv_iload hx hb dX0_tooMuch_109 (lv_at hl 6 rfl) ?_
                obtain ⟨hg_101, hF⟩ := bd0e hF
                refine mxV hX hK hEv hE0 hH (met_J2_get hE.1 rfl hT.stones hg_101 (fun _ h => cW_pl h)) (precv (fun _ h => cW_pl h) hK hH 17 rfl hT.stones.obj) gw_StoneYear_170 hd_yJ2_get ⟨Nat.le_of_ble_eq_true rfl, Nat.le_of_ble_eq_true rfl⟩ rfl rfl hl (Nat.le_of_ble_eq_true rfl) dX0_tooMuch_111 ⟨Nat.le_of_ble_eq_true rfl, Nat.le_of_ble_eq_true rfl⟩ (fun w2 H locs hw hH => ?_)
                subst hw
                refine va_castE hx hb hown (hts _ q969) (precv (fun _ h => cW_pl h) hK hH 11 rfl ⟨_, hT.stone (alg_lt hg_101)⟩) dX0_tooMuch_114 ?_
                refine cg_Y_stone_size hT (alg_lt hg_101) (fun _ h => cW_pl h) hX hK hNW hH dX0_tooMuch_117 ?_
                refine lv_iadd hx hb dX0_tooMuch_120 ?_
                refine lv_istore (lv' := [(4, .int (x_92 + (t (15 + x_95.toNatClampNeg)))), (0, .ref (ad 0)), (1, .ref (ad 4)), (2, .int x_100), (3, .int x_80), (5, .int x_93), (6, .int x_95)]) hx hb dX0_tooMuch_121 hl (by decide) rfl (fun ls hl => ?_)
                refine lv_iinc (v := (x_93 + (-1))) (lv' := [(5, .int (x_93 + (-1))), (4, .int (x_92 + (t (15 + x_95.toNatClampNeg)))), (0, .ref (ad 0)), (1, .ref (ad 4)), (2, .int x_100), (3, .int x_80), (6, .int x_95)]) hx hb dX0_tooMuch_123 hl (k := 5) rfl (syc kyi_m1) (by decide) rfl (fun ls hl => ?_)
                refine lv_goto (tgt := 39) hx hb dX0_tooMuch_126 rfl ?_
                obtain rfl := Option.some.inj hF
                exact ih x_100 (x_92 + (t (15 + x_95.toNatClampNeg))) (x_93 + (-1)) hY39 _ _ _ hH (lv_sub hl [2, 3, 4, 5, 1, 0] rfl)
              refine lv_icmp_le (tgt := 97) hx hb dX0_tooMuch_80 rfl (fun c_97 => ?_) (fun c_97 => ?_)
              · have hF := itp c_97 hF
                exact j97 x_91 hF _ _ _ hH (lv_sub hl [1, 2, 3, 4, 5, 6, 0] rfl)
              · have hF := itn c_97 hF
                refine lv_iload_n hx hb dX0_tooMuch_83 rfl (lv_at hl 3 rfl) ?_
                refine lv_iconst (v := (-1)) hx hb dX0_tooMuch_84 kyi_m1 ?_
                have j94 : FX0_tooMuch_j94 t x_92 x_93 x_95 = some yy39 → ∀ (H : Heap) (locs : List Loc) (ls : Array Slot), MH D vwA A s.heap (cW ad cA sA ta ba na gi (some (ta 0)) rt g_sort g_size g_from g_to g_level g_full a_tape a_hAt_54 a_hMany_55 a_tAt a_tMany a_least a_place a_to a_order a_fails a_sKeys a_sRow a_sSlots a_bKeys a_bRow a_bSlots a_easy a_wants a_wantedBy a_ring a_carried a_latest v_taped v_faultKind v_faultPlace v_x v_ordered v_sought v_lastSought v_hMoved_56 v_hWithout v_tMoved v_tWithout v_places v_elsewhere v_sMany v_bMany v_year y_lies a_rsort a_rmany a_nums pl) H locs → lv_has ls 7 [(0, .ref (ad 0)), (1, .ref (ad 4)), (3, .int x_80), (4, .int x_92), (5, .int x_93), (6, .int x_95)] → W p l e rm_X0_tooMuch s m args below meth c H locs 0 0 Q (F0 m 94 ls []) := by
                  intro hF H locs ls hH hl
                  delta FX0_tooMuch_j94 at hF
                  refine lv_iload hx hb dX0_tooMuch_94 (lv_at hl 5 rfl) ?_
                  refine lv_istore_n (lv' := [(2, .int x_95), (0, .ref (ad 0)), (1, .ref (ad 4)), (3, .int x_80), (4, .int x_92), (5, .int x_93), (6, .int x_95)]) hx hb dX0_tooMuch_96 rfl hl (by decide) rfl (fun ls hl => ?_)
                  exact j97 x_95 hF _ _ _ hH (lv_sub hl [1, 2, 0, 3, 4, 5, 6] rfl)
                refine lv_icmp_eq (tgt := 94) hx hb dX0_tooMuch_85 rfl (fun c_98 => ?_) (fun c_98 => ?_)
                · have hF := itp c_98 hF
                  exact j94 hF _ _ _ hH (lv_sub hl [1, 2, 4, 5, 6, 0] rfl)
                · have hF := itn c_98 hF
                  refine lv_iload hx hb dX0_tooMuch_88 (lv_at hl 0 rfl) ?_
                  refine lv_iload_n hx hb dX0_tooMuch_90 rfl (lv_at hl 3 rfl) ?_
                  refine lv_icmp_ge (tgt := 97) hx hb dX0_tooMuch_91 rfl (fun c_99 => ?_) (fun c_99 => ?_)
                  · have hF := itp c_99 hF
                    exact j97 x_91 hF _ _ _ hH (lv_sub hl [1, 2, 3, 4, 5, 6, 0] rfl)
                  · have hF := itn c_99 hF
                    exact j94 hF _ _ _ hH (lv_sub hl [1, 2, 4, 5, 6, 0] rfl)
        exact l39 nn39 x_79 0 (x_82 - 1) en39 _ _ _ hH (lv_sub hl [2, 3, 4, 5, 1, 0] rfl)
  exact l9 nn9 (-1) 0 en9 _ _ _ hH (lv_sub hl [3, 2, 1, 0] rfl)
abbrev rm_X4_broken_h : Room := { frames := 4, cells := 0, slots := 0, locals := 141 }
set_option maxHeartbeats 4000000 in
theorem met_X4_broken_h {l : Launch} {D : va_G} {ad : Nat → Nat} {cA : Nat → ClassId} {sA ta ba na : Nat → Nat} {gi : Nat → Option Nat} {rt : Option Nat} {g_sort : Int32} {g_size : Int32} {g_from : Int32} {g_to : Int32} {g_level : Int32} {g_full : Int32} {a_tape : Nat → Int32} {a_hAt : Nat → Int32} {a_hMany : Nat → Int32} {a_tAt : Nat → Int32} {a_tMany : Nat → Int32} {a_least : Nat → Int32} {a_place : Nat → Int32} {a_to : Nat → Int32} {a_order : Nat → Int32} {a_fails : Nat → Int32} {a_sKeys : Nat → Int64} {a_sRow : Nat → Int64} {a_sSlots : Nat → Int32} {a_bKeys : Nat → Int64} {a_bRow : Nat → Int64} {a_bSlots : Nat → Int32} {a_easy : Nat → Int32} {a_wants : Nat → Int32} {a_wantedBy : Nat → Int32} {a_ring : Nat → Int32} {a_carried : Nat → Int32} {a_latest : Nat → Int32} {v_taped : Int32} {v_faultKind : Int32} {v_faultPlace : Int32} {v_x : Int32} {v_ordered : Int32} {v_sought : Int32} {v_lastSought : Int32} {v_hMoved : Int32} {v_hWithout : Int32} {v_tMoved : Int32} {v_tWithout : Int32} {v_places : Int32} {v_elsewhere : Int32} {v_sMany : Int32} {v_bMany : Int32} {v_year : Int32} {y_lies : Int64} {a_rsort : Nat → Int32} {a_rmany : Nat → Int32} {a_nums : Nat → Nat → Int64} {t : Nat → Int32} {nb : Int32} {bv : Nat → Int32 → Int32 → Int32 → Int32 → Int32 → Int32 → Bool} {pl : va_W} {tb : Nat → Nat} {u : Nat → Int32}  {p1 : Int32} {p2 : Int32} {res : Int32} {E : EvT} (hE : EvN E) (hPO : PO cA pl ta ba t nb bv) (hU : TownAt cA pl tb u) (hF : FX4_broken u a_hMany v_hWithout p1 p2 = some res) : MX l yX4_broken (ws_ yX4_broken cX4_broken 5 (Option.some Jvm.ClassFile.FieldType.int)) rm_X4_broken_h D vwA (cT cA) E [.ref (ad 4), .int p1, .int p2] (cW ad cA sA ta ba na gi (some (tb 0)) rt g_sort g_size g_from g_to g_level g_full a_tape a_hAt a_hMany a_tAt a_tMany a_least a_place a_to a_order a_fails a_sKeys a_sRow a_sSlots a_bKeys a_bRow a_bSlots a_easy a_wants a_wantedBy a_ring a_carried a_latest v_taped v_faultKind v_faultPlace v_x v_ordered v_sought v_lastSought v_hMoved v_hWithout v_tMoved v_tWithout v_places v_elsewhere v_sMany v_bMany v_year y_lies a_rsort a_rmany a_nums pl) (fun z => z = (cW ad cA sA ta ba na gi (some (tb 0)) rt g_sort g_size g_from g_to g_level g_full a_tape a_hAt a_hMany a_tAt a_tMany a_least a_place a_to a_order a_fails a_sKeys a_sRow a_sSlots a_bKeys a_bRow a_bSlots a_easy a_wants a_wantedBy a_ring a_carried a_latest v_taped v_faultKind v_faultPlace v_x v_ordered v_sought v_lastSought v_hMoved v_hWithout v_tMoved v_tWithout v_places v_elsewhere v_sMany v_bMany v_year y_lies a_rsort a_rmany a_nums pl)) (some (.int res)) := by
  refine MX.ofI (by decide) (Nat.le_of_ble_eq_true rfl) ?_
  intro p e s m args below meth c Q A hX hK hE0 hname hret H locs ls hH hl
  have hX : CallFix p m c cX4_broken 5 s args lw_all RX4 := hX
  have hx := hX.1
  have hb := hX.2.1
  have hown := hX.2.2.2.1
  have hts := hX.2.2.2.2
  have hl : lv_has ls 5 [(0, .ref (ad 4)), (1, .int p1), (2, .int p2)] := hl
  have hEv := hE.1
  have hNW := hE.2.1 _ _ _ hE0
  have hT := hPO.1
  have hB := hPO.2
  delta FX4_broken at hF
  refine lv_iconst (v := 0) hx hb dX4_broken_0 kyi_0 ?_
  refine lv_istore_n (lv' := [(3, .int 0), (0, .ref (ad 4)), (1, .int p1), (2, .int p2)]) hx hb dX4_broken_1 rfl hl (by decide) rfl (fun ls hl => ?_)
  obtain ⟨xx2, ee2, kk2_0, kk2_1⟩ := bdS2e hF
  have k2_0 : ∀ (x_76 : Int32), xx2 = (.inl x_76) → ∀ (H : Heap) (locs : List Loc) (ls : Array Slot), MH D vwA A s.heap (cW ad cA sA ta ba na gi (some (tb 0)) rt g_sort g_size g_from g_to g_level g_full a_tape a_hAt a_hMany a_tAt a_tMany a_least a_place a_to a_order a_fails a_sKeys a_sRow a_sSlots a_bKeys a_bRow a_bSlots a_easy a_wants a_wantedBy a_ring a_carried a_latest v_taped v_faultKind v_faultPlace v_x v_ordered v_sought v_lastSought v_hMoved v_hWithout v_tMoved v_tWithout v_places v_elsewhere v_sMany v_bMany v_year y_lies a_rsort a_rmany a_nums pl) H locs → lv_has ls 5 [(3, .int x_76)] → W p l e rm_X4_broken_h s m args below meth c H locs 0 0 Q (F0 m 88 ls []) := by
    intro x_76 hxx H locs ls hH hl
    have hF := un1e (kk2_0 x_76 hxx)
    refine lv_iload_n hx hb dX4_broken_88 rfl (lv_at hl 0 rfl) ?_
    obtain rfl := Option.some.inj hF
    exact hret _ _ _ _ _ rfl hH dX4_broken_89
  have k2_1 : xx2 = (.inr ()) → ∀ (H : Heap) (locs : List Loc) (ls : Array Slot), MH D vwA A s.heap (cW ad cA sA ta ba na gi (some (tb 0)) rt g_sort g_size g_from g_to g_level g_full a_tape a_hAt a_hMany a_tAt a_tMany a_least a_place a_to a_order a_fails a_sKeys a_sRow a_sSlots a_bKeys a_bRow a_bSlots a_easy a_wants a_wantedBy a_ring a_carried a_latest v_taped v_faultKind v_faultPlace v_x v_ordered v_sought v_lastSought v_hMoved v_hWithout v_tMoved v_tWithout v_places v_elsewhere v_sMany v_bMany v_year y_lies a_rsort a_rmany a_nums pl) H locs → lv_has ls 5 [] → W p l e rm_X4_broken_h s m args below meth c H locs 0 0 Q (F0 m 96 ls []) := by
    intro hxx H locs ls hH hl
    have hF := un0e (kk2_1 () hxx)
    refine lv_iconst (v := (-1)) hx hb dX4_broken_96 kyi_m1 ?_
    obtain rfl := Option.some.inj hF
    exact hret _ _ _ _ _ rfl hH dX4_broken_97
  obtain ⟨nn2, en2⟩ := loopC_some ee2
  have l2 : ∀ (n : Nat) (x_66 : Int32), loopN (fun s => FX4_broken_b2 a_hMany v_hWithout u p1 p2 s) n x_66 = some xx2 → ∀ (H : Heap) (locs : List Loc) (ls : Array Slot), MH D vwA A s.heap (cW ad cA sA ta ba na gi (some (tb 0)) rt g_sort g_size g_from g_to g_level g_full a_tape a_hAt a_hMany a_tAt a_tMany a_least a_place a_to a_order a_fails a_sKeys a_sRow a_sSlots a_bKeys a_bRow a_bSlots a_easy a_wants a_wantedBy a_ring a_carried a_latest v_taped v_faultKind v_faultPlace v_x v_ordered v_sought v_lastSought v_hMoved v_hWithout v_tMoved v_tWithout v_places v_elsewhere v_sMany v_bMany v_year y_lies a_rsort a_rmany a_nums pl) H locs → lv_has ls 5 [(0, .ref (ad 4)), (1, .int p1), (2, .int p2), (3, .int x_66)] → W p l e rm_X4_broken_h s m args below meth c H locs 0 0 Q (F0 m 2 ls []) := by
    intro n
    induction n with
    | zero =>
      intro x_66 hN
      exact absurd hN loopN_zero
    | succ n ih =>
      intro x_66 hN H locs ls hH hl
      obtain ⟨yy2, hB2, hY2⟩ := loopN_succ hN
      have hF : FX4_broken_b2 a_hMany v_hWithout u p1 p2 x_66 = some yy2 := hB2
      delta FX4_broken_b2 at hF
      refine lv_iload_n hx hb dX4_broken_2 rfl (lv_at hl 3 rfl) ?_
      refine lv_aload_n hx hb dX4_broken_3 rfl (lv_at hl 0 rfl) ?_
      refine cg_Y_Stacks_stkh_town hX hK hNW hH dX4_broken_4 ?_
      refine cg_Y_Stacks_town_musts hU (fun _ h => cW_pl h) hX hK hNW hH dX4_broken_7 ?_
      refine mxV hX hK hEv hE0 hH (met_J2_size hE.1 hU.musts (fun _ h => cW_pl h)) (precv (fun _ h => cW_pl h) hK hH 17 rfl hU.musts.obj) gw_StoneYear_Stacks_39 hd_yJ2_size ⟨Nat.le_of_ble_eq_true rfl, Nat.le_of_ble_eq_true rfl⟩ rfl rfl hl (Nat.le_of_ble_eq_true rfl) dX4_broken_10 ⟨Nat.le_of_ble_eq_true rfl, Nat.le_of_ble_eq_true rfl⟩ (fun w2 H locs hw hH => ?_)
      subst hw
      refine lv_icmp_ge (tgt := 96) hx hb dX4_broken_13 rfl (fun c_67 => ?_) (fun c_67 => ?_)
      · have hF := itp c_67 hF
        obtain rfl := Option.some.inj hF
        exact k2_1 hY2 _ _ _ hH (lv_sub hl [] rfl)
      · have hF := itn c_67 hF
        refine lv_aload_n hx hb dX4_broken_16 rfl (lv_at hl 0 rfl) ?_
        refine cg_Y_Stacks_stkh_town hX hK hNW hH dX4_broken_17 ?_
        refine cg_Y_Stacks_town_musts hU (fun _ h => cW_pl h) hX hK hNW hH dX4_broken_20 ?_
        refine lv_iload_n hx hb dX4_broken_23 rfl (lv_at hl 3 rfl) ?_
        obtain ⟨hg_68, hF⟩ := bd0e hF
        refine mxV hX hK hEv hE0 hH (met_J2_get hE.1 rfl hU.musts hg_68 (fun _ h => cW_pl h)) (precv (fun _ h => cW_pl h) hK hH 17 rfl hU.musts.obj) gw_StoneYear_Stacks_56 hd_yJ2_get ⟨Nat.le_of_ble_eq_true rfl, Nat.le_of_ble_eq_true rfl⟩ rfl rfl hl (Nat.le_of_ble_eq_true rfl) dX4_broken_24 ⟨Nat.le_of_ble_eq_true rfl, Nat.le_of_ble_eq_true rfl⟩ (fun w2 H locs hw hH => ?_)
        subst hw
        refine cc_must hU (alg_lt hg_68) (fun _ h => cW_pl h) hX hK hNW hH (hts _ q1011) dX4_broken_27 ?_
        refine lv_astore (lv' := [(4, .ref (tb (40 + x_66.toNatClampNeg))), (0, .ref (ad 4)), (1, .int p1), (2, .int p2), (3, .int x_66)]) hx hb dX4_broken_30 hl (by decide) rfl (fun ls hl => ?_)
        refine lv_iload_n hx hb dX4_broken_32 rfl (lv_at hl 4 rfl) ?_
        refine lv_aload_n hx hb dX4_broken_33 rfl (lv_at hl 1 rfl) ?_
        refine cg_Y_Stacks_stkh_without hX hK hNW hH dX4_broken_34 ?_
        have j90 : FX4_broken_j90 x_66 = some yy2 → ∀ (H : Heap) (locs : List Loc) (ls : Array Slot), MH D vwA A s.heap (cW ad cA sA ta ba na gi (some (tb 0)) rt g_sort g_size g_from g_to g_level g_full a_tape a_hAt a_hMany a_tAt a_tMany a_least a_place a_to a_order a_fails a_sKeys a_sRow a_sSlots a_bKeys a_bRow a_bSlots a_easy a_wants a_wantedBy a_ring a_carried a_latest v_taped v_faultKind v_faultPlace v_x v_ordered v_sought v_lastSought v_hMoved v_hWithout v_tMoved v_tWithout v_places v_elsewhere v_sMany v_bMany v_year y_lies a_rsort a_rmany a_nums pl) H locs → lv_has ls 5 [(0, .ref (ad 4)), (1, .int p1), (2, .int p2), (3, .int x_66)] → W p l e rm_X4_broken_h s m args below meth c H locs 0 0 Q (F0 m 90 ls []) := by
          intro hF H locs ls hH hl
          delta FX4_broken_j90 at hF
          refine lv_iinc (v := (x_66 + 1)) (lv' := [(3, .int (x_66 + 1)), (0, .ref (ad 4)), (1, .int p1), (2, .int p2)]) hx hb dX4_broken_90 hl (k := 3) rfl (syc kyi_1) (by decide) rfl (fun ls hl => ?_)
          refine lv_goto (tgt := 2) hx hb dX4_broken_93 rfl ?_
          obtain rfl := Option.some.inj hF
          exact ih (x_66 + 1) hY2 _ _ _ hH (lv_sub hl [1, 2, 3, 0] rfl)
        refine lv_icmp_eq (tgt := 90) hx hb dX4_broken_37 rfl (fun c_69 => ?_) (fun c_69 => ?_)
        · have hF := itp c_69 hF
          exact j90 hF _ _ _ hH (lv_sub hl [1, 2, 3, 4] rfl)
        · have hF := itn c_69 hF
          refine lv_aload hx hb dX4_broken_40 (lv_at hl 0 rfl) ?_
          refine lv_aload_n hx hb dX4_broken_42 rfl (lv_at hl 1 rfl) ?_
          refine cg_Y_Stacks_stkh_many hX hK hNW hH dX4_broken_43 ?_
          refine lv_aload hx hb dX4_broken_46 (lv_at hl 0 rfl) ?_
          refine cg_must_row hU (alg_lt hg_68) (fun _ h => cW_pl h) hX hK hH (hts _ q849) dX4_broken_48 ?_
          obtain ⟨x_70, he, hF⟩ := bd1e hF
          refine cl_hMany hX hK hH he dX4_broken_51 ?_
          refine lv_aload hx hb dX4_broken_52 (lv_at hl 0 rfl) ?_
          refine cg_must_row hU (alg_lt hg_68) (fun _ h => cW_pl h) hX hK hH (hts _ q849) dX4_broken_54 ?_
          refine lv_iload_n hx hb dX4_broken_57 rfl (lv_at hl 2 rfl) ?_
          have j66 : ∀ (x_72 : Int32), FX4_broken_j66 u p2 x_66 x_70 x_72 = some yy2 → ∀ (H : Heap) (locs : List Loc) (ls : Array Slot), MH D vwA A s.heap (cW ad cA sA ta ba na gi (some (tb 0)) rt g_sort g_size g_from g_to g_level g_full a_tape a_hAt a_hMany a_tAt a_tMany a_least a_place a_to a_order a_fails a_sKeys a_sRow a_sSlots a_bKeys a_bRow a_bSlots a_easy a_wants a_wantedBy a_ring a_carried a_latest v_taped v_faultKind v_faultPlace v_x v_ordered v_sought v_lastSought v_hMoved v_hWithout v_tMoved v_tWithout v_places v_elsewhere v_sMany v_bMany v_year y_lies a_rsort a_rmany a_nums pl) H locs → lv_has ls 5 [(0, .ref (ad 4)), (1, .int p1), (2, .int p2), (3, .int x_66), (4, .ref (tb (40 + x_66.toNatClampNeg)))] → W p l e rm_X4_broken_h s m args below meth c H locs 0 0 Q (F0 m 66 ls [.int x_72, .int x_70, .ref (tb (40 + x_66.toNatClampNeg))]) := by
            intro x_72 hF H locs ls hH hl
            delta FX4_broken_j66 at hF
            refine lv_iadd hx hb dX4_broken_66 ?_
            refine lv_aload hx hb dX4_broken_67 (lv_at hl 4 rfl) ?_
            refine cg_must_row hU (alg_lt hg_68) (fun _ h => cW_pl h) hX hK hH (hts _ q849) dX4_broken_69 ?_
            refine lv_iload_n hx hb dX4_broken_72 rfl (lv_at hl 2 rfl) ?_
            have j81 : ∀ (x_74 : Int32), FX4_broken_j81 u x_66 x_70 x_72 x_74 = some yy2 → ∀ (H : Heap) (locs : List Loc) (ls : Array Slot), MH D vwA A s.heap (cW ad cA sA ta ba na gi (some (tb 0)) rt g_sort g_size g_from g_to g_level g_full a_tape a_hAt a_hMany a_tAt a_tMany a_least a_place a_to a_order a_fails a_sKeys a_sRow a_sSlots a_bKeys a_bRow a_bSlots a_easy a_wants a_wantedBy a_ring a_carried a_latest v_taped v_faultKind v_faultPlace v_x v_ordered v_sought v_lastSought v_hMoved v_hWithout v_tMoved v_tWithout v_places v_elsewhere v_sMany v_bMany v_year y_lies a_rsort a_rmany a_nums pl) H locs → lv_has ls 5 [(0, .ref (ad 4)), (1, .int p1), (2, .int p2), (3, .int x_66)] → W p l e rm_X4_broken_h s m args below meth c H locs 0 0 Q (F0 m 81 ls [.int x_74, .int (x_70 + x_72), .ref (tb (40 + x_66.toNatClampNeg))]) := by
              intro x_74 hF H locs ls hH hl
              delta FX4_broken_j81 at hF
              refine lv_isub hx hb dX4_broken_81 ?_
              refine ck_kept hPO hU (alg_lt hg_68) hX hK hE hE0 hNW hH q1012 hl ⟨Nat.le_of_ble_eq_true rfl, Nat.le_of_ble_eq_true rfl⟩ ⟨Nat.le_of_ble_eq_true rfl, Nat.le_of_ble_eq_true rfl⟩ (Nat.le_of_ble_eq_true rfl) dX4_broken_82 (fun H locs hH => ?_)
              refine lv_if_ne (tgt := 90) hx hb dX4_broken_85 rfl (fun c_75 => ?_) (fun c_75 => ?_)
              · have hF := itn c_75 hF
                exact j90 hF _ _ _ hH (lv_sub hl [0, 1, 2, 3] rfl)
              · have hF := itp c_75 hF
                obtain rfl := Option.some.inj hF
                exact k2_0 x_66 hY2 _ _ _ hH (lv_sub hl [3] rfl)
            refine lv_icmp_ne (tgt := 80) hx hb dX4_broken_73 rfl (fun c_73 => ?_) (fun c_73 => ?_)
            · have hF := itn c_73 hF
              refine lv_iconst (v := 0) hx hb dX4_broken_80 kyi_0 ?_
              exact j81 0 hF _ _ _ hH (lv_sub hl [0, 1, 2, 3] rfl)
            · have hF := itp c_73 hF
              refine lv_iconst (v := 1) hx hb dX4_broken_76 kyi_1 ?_
              refine lv_goto (tgt := 81) hx hb dX4_broken_77 rfl ?_
              exact j81 1 hF _ _ _ hH (lv_sub hl [0, 1, 2, 3] rfl)
          refine lv_icmp_ne (tgt := 65) hx hb dX4_broken_58 rfl (fun c_71 => ?_) (fun c_71 => ?_)
          · have hF := itn c_71 hF
            refine lv_iconst (v := 0) hx hb dX4_broken_65 kyi_0 ?_
            exact j66 0 hF _ _ _ hH (lv_sub hl [1, 2, 3, 4, 0] rfl)
          · have hF := itp c_71 hF
            refine lv_iconst (v := 1) hx hb dX4_broken_61 kyi_1 ?_
            refine lv_goto (tgt := 66) hx hb dX4_broken_62 rfl ?_
            exact j66 1 hF _ _ _ hH (lv_sub hl [1, 2, 3, 4, 0] rfl)
  exact l2 nn2 0 en2 _ _ _ hH (lv_sub hl [1, 2, 3, 0] rfl)
abbrev rm_X4_broken_t : Room := { frames := 4, cells := 0, slots := 0, locals := 141 }
set_option maxHeartbeats 4000000 in
theorem met_X4_broken_t {l : Launch} {D : va_G} {ad : Nat → Nat} {cA : Nat → ClassId} {sA ta ba na : Nat → Nat} {gi : Nat → Option Nat} {rh : Option Nat} {g_sort : Int32} {g_size : Int32} {g_from : Int32} {g_to : Int32} {g_level : Int32} {g_full : Int32} {a_tape : Nat → Int32} {a_hAt : Nat → Int32} {a_hMany : Nat → Int32} {a_tAt : Nat → Int32} {a_tMany : Nat → Int32} {a_least : Nat → Int32} {a_place : Nat → Int32} {a_to : Nat → Int32} {a_order : Nat → Int32} {a_fails : Nat → Int32} {a_sKeys : Nat → Int64} {a_sRow : Nat → Int64} {a_sSlots : Nat → Int32} {a_bKeys : Nat → Int64} {a_bRow : Nat → Int64} {a_bSlots : Nat → Int32} {a_easy : Nat → Int32} {a_wants : Nat → Int32} {a_wantedBy : Nat → Int32} {a_ring : Nat → Int32} {a_carried : Nat → Int32} {a_latest : Nat → Int32} {v_taped : Int32} {v_faultKind : Int32} {v_faultPlace : Int32} {v_x : Int32} {v_ordered : Int32} {v_sought : Int32} {v_lastSought : Int32} {v_hMoved : Int32} {v_hWithout : Int32} {v_tMoved : Int32} {v_tWithout : Int32} {v_places : Int32} {v_elsewhere : Int32} {v_sMany : Int32} {v_bMany : Int32} {v_year : Int32} {y_lies : Int64} {a_rsort : Nat → Int32} {a_rmany : Nat → Int32} {a_nums : Nat → Nat → Int64} {t : Nat → Int32} {nb : Int32} {bv : Nat → Int32 → Int32 → Int32 → Int32 → Int32 → Int32 → Bool} {pl : va_W} {tb : Nat → Nat} {u : Nat → Int32}  {p1 : Int32} {p2 : Int32} {res : Int32} {E : EvT} (hE : EvN E) (hPO : PO cA pl ta ba t nb bv) (hU : TownAt cA pl tb u) (hF : FX4_broken u a_tMany v_tWithout p1 p2 = some res) : MX l yX4_broken (ws_ yX4_broken cX4_broken 5 (Option.some Jvm.ClassFile.FieldType.int)) rm_X4_broken_t D vwA (cT cA) E [.ref (ad 7), .int p1, .int p2] (cW ad cA sA ta ba na gi rh (some (tb 0)) g_sort g_size g_from g_to g_level g_full a_tape a_hAt a_hMany a_tAt a_tMany a_least a_place a_to a_order a_fails a_sKeys a_sRow a_sSlots a_bKeys a_bRow a_bSlots a_easy a_wants a_wantedBy a_ring a_carried a_latest v_taped v_faultKind v_faultPlace v_x v_ordered v_sought v_lastSought v_hMoved v_hWithout v_tMoved v_tWithout v_places v_elsewhere v_sMany v_bMany v_year y_lies a_rsort a_rmany a_nums pl) (fun z => z = (cW ad cA sA ta ba na gi rh (some (tb 0)) g_sort g_size g_from g_to g_level g_full a_tape a_hAt a_hMany a_tAt a_tMany a_least a_place a_to a_order a_fails a_sKeys a_sRow a_sSlots a_bKeys a_bRow a_bSlots a_easy a_wants a_wantedBy a_ring a_carried a_latest v_taped v_faultKind v_faultPlace v_x v_ordered v_sought v_lastSought v_hMoved v_hWithout v_tMoved v_tWithout v_places v_elsewhere v_sMany v_bMany v_year y_lies a_rsort a_rmany a_nums pl)) (some (.int res)) := by
  refine MX.ofI (by decide) (Nat.le_of_ble_eq_true rfl) ?_
  intro p e s m args below meth c Q A hX hK hE0 hname hret H locs ls hH hl
  have hX : CallFix p m c cX4_broken 5 s args lw_all RX4 := hX
  have hx := hX.1
  have hb := hX.2.1
  have hown := hX.2.2.2.1
  have hts := hX.2.2.2.2
  have hl : lv_has ls 5 [(0, .ref (ad 7)), (1, .int p1), (2, .int p2)] := hl
  have hEv := hE.1
  have hNW := hE.2.1 _ _ _ hE0
  have hT := hPO.1
  have hB := hPO.2
  delta FX4_broken at hF
  refine lv_iconst (v := 0) hx hb dX4_broken_0 kyi_0 ?_
  refine lv_istore_n (lv' := [(3, .int 0), (0, .ref (ad 7)), (1, .int p1), (2, .int p2)]) hx hb dX4_broken_1 rfl hl (by decide) rfl (fun ls hl => ?_)
  obtain ⟨xx2, ee2, kk2_0, kk2_1⟩ := bdS2e hF
  have k2_0 : ∀ (x_76 : Int32), xx2 = (.inl x_76) → ∀ (H : Heap) (locs : List Loc) (ls : Array Slot), MH D vwA A s.heap (cW ad cA sA ta ba na gi rh (some (tb 0)) g_sort g_size g_from g_to g_level g_full a_tape a_hAt a_hMany a_tAt a_tMany a_least a_place a_to a_order a_fails a_sKeys a_sRow a_sSlots a_bKeys a_bRow a_bSlots a_easy a_wants a_wantedBy a_ring a_carried a_latest v_taped v_faultKind v_faultPlace v_x v_ordered v_sought v_lastSought v_hMoved v_hWithout v_tMoved v_tWithout v_places v_elsewhere v_sMany v_bMany v_year y_lies a_rsort a_rmany a_nums pl) H locs → lv_has ls 5 [(3, .int x_76)] → W p l e rm_X4_broken_t s m args below meth c H locs 0 0 Q (F0 m 88 ls []) := by
    intro x_76 hxx H locs ls hH hl
    have hF := un1e (kk2_0 x_76 hxx)
    refine lv_iload_n hx hb dX4_broken_88 rfl (lv_at hl 0 rfl) ?_
    obtain rfl := Option.some.inj hF
    exact hret _ _ _ _ _ rfl hH dX4_broken_89
  have k2_1 : xx2 = (.inr ()) → ∀ (H : Heap) (locs : List Loc) (ls : Array Slot), MH D vwA A s.heap (cW ad cA sA ta ba na gi rh (some (tb 0)) g_sort g_size g_from g_to g_level g_full a_tape a_hAt a_hMany a_tAt a_tMany a_least a_place a_to a_order a_fails a_sKeys a_sRow a_sSlots a_bKeys a_bRow a_bSlots a_easy a_wants a_wantedBy a_ring a_carried a_latest v_taped v_faultKind v_faultPlace v_x v_ordered v_sought v_lastSought v_hMoved v_hWithout v_tMoved v_tWithout v_places v_elsewhere v_sMany v_bMany v_year y_lies a_rsort a_rmany a_nums pl) H locs → lv_has ls 5 [] → W p l e rm_X4_broken_t s m args below meth c H locs 0 0 Q (F0 m 96 ls []) := by
    intro hxx H locs ls hH hl
    have hF := un0e (kk2_1 () hxx)
    refine lv_iconst (v := (-1)) hx hb dX4_broken_96 kyi_m1 ?_
    obtain rfl := Option.some.inj hF
    exact hret _ _ _ _ _ rfl hH dX4_broken_97
  obtain ⟨nn2, en2⟩ := loopC_some ee2
  have l2 : ∀ (n : Nat) (x_66 : Int32), loopN (fun s => FX4_broken_b2 a_tMany v_tWithout u p1 p2 s) n x_66 = some xx2 → ∀ (H : Heap) (locs : List Loc) (ls : Array Slot), MH D vwA A s.heap (cW ad cA sA ta ba na gi rh (some (tb 0)) g_sort g_size g_from g_to g_level g_full a_tape a_hAt a_hMany a_tAt a_tMany a_least a_place a_to a_order a_fails a_sKeys a_sRow a_sSlots a_bKeys a_bRow a_bSlots a_easy a_wants a_wantedBy a_ring a_carried a_latest v_taped v_faultKind v_faultPlace v_x v_ordered v_sought v_lastSought v_hMoved v_hWithout v_tMoved v_tWithout v_places v_elsewhere v_sMany v_bMany v_year y_lies a_rsort a_rmany a_nums pl) H locs → lv_has ls 5 [(0, .ref (ad 7)), (1, .int p1), (2, .int p2), (3, .int x_66)] → W p l e rm_X4_broken_t s m args below meth c H locs 0 0 Q (F0 m 2 ls []) := by
    intro n
    induction n with
    | zero =>
      intro x_66 hN
      exact absurd hN loopN_zero
    | succ n ih =>
      intro x_66 hN H locs ls hH hl
      obtain ⟨yy2, hB2, hY2⟩ := loopN_succ hN
      have hF : FX4_broken_b2 a_tMany v_tWithout u p1 p2 x_66 = some yy2 := hB2
      delta FX4_broken_b2 at hF
      refine lv_iload_n hx hb dX4_broken_2 rfl (lv_at hl 3 rfl) ?_
      refine lv_aload_n hx hb dX4_broken_3 rfl (lv_at hl 0 rfl) ?_
      refine cg_Y_Stacks_stkt_town hX hK hNW hH dX4_broken_4 ?_
      refine cg_Y_Stacks_town_musts hU (fun _ h => cW_pl h) hX hK hNW hH dX4_broken_7 ?_
      refine mxV hX hK hEv hE0 hH (met_J2_size hE.1 hU.musts (fun _ h => cW_pl h)) (precv (fun _ h => cW_pl h) hK hH 17 rfl hU.musts.obj) gw_StoneYear_Stacks_39 hd_yJ2_size ⟨Nat.le_of_ble_eq_true rfl, Nat.le_of_ble_eq_true rfl⟩ rfl rfl hl (Nat.le_of_ble_eq_true rfl) dX4_broken_10 ⟨Nat.le_of_ble_eq_true rfl, Nat.le_of_ble_eq_true rfl⟩ (fun w2 H locs hw hH => ?_)
      subst hw
      refine lv_icmp_ge (tgt := 96) hx hb dX4_broken_13 rfl (fun c_67 => ?_) (fun c_67 => ?_)
      · have hF := itp c_67 hF
        obtain rfl := Option.some.inj hF
        exact k2_1 hY2 _ _ _ hH (lv_sub hl [] rfl)
      · have hF := itn c_67 hF
        refine lv_aload_n hx hb dX4_broken_16 rfl (lv_at hl 0 rfl) ?_
        refine cg_Y_Stacks_stkt_town hX hK hNW hH dX4_broken_17 ?_
        refine cg_Y_Stacks_town_musts hU (fun _ h => cW_pl h) hX hK hNW hH dX4_broken_20 ?_
        refine lv_iload_n hx hb dX4_broken_23 rfl (lv_at hl 3 rfl) ?_
        obtain ⟨hg_68, hF⟩ := bd0e hF
        refine mxV hX hK hEv hE0 hH (met_J2_get hE.1 rfl hU.musts hg_68 (fun _ h => cW_pl h)) (precv (fun _ h => cW_pl h) hK hH 17 rfl hU.musts.obj) gw_StoneYear_Stacks_56 hd_yJ2_get ⟨Nat.le_of_ble_eq_true rfl, Nat.le_of_ble_eq_true rfl⟩ rfl rfl hl (Nat.le_of_ble_eq_true rfl) dX4_broken_24 ⟨Nat.le_of_ble_eq_true rfl, Nat.le_of_ble_eq_true rfl⟩ (fun w2 H locs hw hH => ?_)
        subst hw
        refine cc_must hU (alg_lt hg_68) (fun _ h => cW_pl h) hX hK hNW hH (hts _ q1011) dX4_broken_27 ?_
        refine lv_astore (lv' := [(4, .ref (tb (40 + x_66.toNatClampNeg))), (0, .ref (ad 7)), (1, .int p1), (2, .int p2), (3, .int x_66)]) hx hb dX4_broken_30 hl (by decide) rfl (fun ls hl => ?_)
        refine lv_iload_n hx hb dX4_broken_32 rfl (lv_at hl 4 rfl) ?_
        refine lv_aload_n hx hb dX4_broken_33 rfl (lv_at hl 1 rfl) ?_
        refine cg_Y_Stacks_stkt_without hX hK hNW hH dX4_broken_34 ?_
        have j90 : FX4_broken_j90 x_66 = some yy2 → ∀ (H : Heap) (locs : List Loc) (ls : Array Slot), MH D vwA A s.heap (cW ad cA sA ta ba na gi rh (some (tb 0)) g_sort g_size g_from g_to g_level g_full a_tape a_hAt a_hMany a_tAt a_tMany a_least a_place a_to a_order a_fails a_sKeys a_sRow a_sSlots a_bKeys a_bRow a_bSlots a_easy a_wants a_wantedBy a_ring a_carried a_latest v_taped v_faultKind v_faultPlace v_x v_ordered v_sought v_lastSought v_hMoved v_hWithout v_tMoved v_tWithout v_places v_elsewhere v_sMany v_bMany v_year y_lies a_rsort a_rmany a_nums pl) H locs → lv_has ls 5 [(0, .ref (ad 7)), (1, .int p1), (2, .int p2), (3, .int x_66)] → W p l e rm_X4_broken_t s m args below meth c H locs 0 0 Q (F0 m 90 ls []) := by
          intro hF H locs ls hH hl
          delta FX4_broken_j90 at hF
          refine lv_iinc (v := (x_66 + 1)) (lv' := [(3, .int (x_66 + 1)), (0, .ref (ad 7)), (1, .int p1), (2, .int p2)]) hx hb dX4_broken_90 hl (k := 3) rfl (syc kyi_1) (by decide) rfl (fun ls hl => ?_)
          refine lv_goto (tgt := 2) hx hb dX4_broken_93 rfl ?_
          obtain rfl := Option.some.inj hF
          exact ih (x_66 + 1) hY2 _ _ _ hH (lv_sub hl [1, 2, 3, 0] rfl)
        refine lv_icmp_eq (tgt := 90) hx hb dX4_broken_37 rfl (fun c_69 => ?_) (fun c_69 => ?_)
        · have hF := itp c_69 hF
          exact j90 hF _ _ _ hH (lv_sub hl [1, 2, 3, 4] rfl)
        · have hF := itn c_69 hF
          refine lv_aload hx hb dX4_broken_40 (lv_at hl 0 rfl) ?_
          refine lv_aload_n hx hb dX4_broken_42 rfl (lv_at hl 1 rfl) ?_
          refine cg_Y_Stacks_stkt_many hX hK hNW hH dX4_broken_43 ?_
          refine lv_aload hx hb dX4_broken_46 (lv_at hl 0 rfl) ?_
          refine cg_must_row hU (alg_lt hg_68) (fun _ h => cW_pl h) hX hK hH (hts _ q849) dX4_broken_48 ?_
          obtain ⟨x_70, he, hF⟩ := bd1e hF
          refine cl_tMany hX hK hH he dX4_broken_51 ?_
          refine lv_aload hx hb dX4_broken_52 (lv_at hl 0 rfl) ?_
          refine cg_must_row hU (alg_lt hg_68) (fun _ h => cW_pl h) hX hK hH (hts _ q849) dX4_broken_54 ?_
          refine lv_iload_n hx hb dX4_broken_57 rfl (lv_at hl 2 rfl) ?_
          have j66 : ∀ (x_72 : Int32), FX4_broken_j66 u p2 x_66 x_70 x_72 = some yy2 → ∀ (H : Heap) (locs : List Loc) (ls : Array Slot), MH D vwA A s.heap (cW ad cA sA ta ba na gi rh (some (tb 0)) g_sort g_size g_from g_to g_level g_full a_tape a_hAt a_hMany a_tAt a_tMany a_least a_place a_to a_order a_fails a_sKeys a_sRow a_sSlots a_bKeys a_bRow a_bSlots a_easy a_wants a_wantedBy a_ring a_carried a_latest v_taped v_faultKind v_faultPlace v_x v_ordered v_sought v_lastSought v_hMoved v_hWithout v_tMoved v_tWithout v_places v_elsewhere v_sMany v_bMany v_year y_lies a_rsort a_rmany a_nums pl) H locs → lv_has ls 5 [(0, .ref (ad 7)), (1, .int p1), (2, .int p2), (3, .int x_66), (4, .ref (tb (40 + x_66.toNatClampNeg)))] → W p l e rm_X4_broken_t s m args below meth c H locs 0 0 Q (F0 m 66 ls [.int x_72, .int x_70, .ref (tb (40 + x_66.toNatClampNeg))]) := by
            intro x_72 hF H locs ls hH hl
            delta FX4_broken_j66 at hF
            refine lv_iadd hx hb dX4_broken_66 ?_
            refine lv_aload hx hb dX4_broken_67 (lv_at hl 4 rfl) ?_
            refine cg_must_row hU (alg_lt hg_68) (fun _ h => cW_pl h) hX hK hH (hts _ q849) dX4_broken_69 ?_
            refine lv_iload_n hx hb dX4_broken_72 rfl (lv_at hl 2 rfl) ?_
            have j81 : ∀ (x_74 : Int32), FX4_broken_j81 u x_66 x_70 x_72 x_74 = some yy2 → ∀ (H : Heap) (locs : List Loc) (ls : Array Slot), MH D vwA A s.heap (cW ad cA sA ta ba na gi rh (some (tb 0)) g_sort g_size g_from g_to g_level g_full a_tape a_hAt a_hMany a_tAt a_tMany a_least a_place a_to a_order a_fails a_sKeys a_sRow a_sSlots a_bKeys a_bRow a_bSlots a_easy a_wants a_wantedBy a_ring a_carried a_latest v_taped v_faultKind v_faultPlace v_x v_ordered v_sought v_lastSought v_hMoved v_hWithout v_tMoved v_tWithout v_places v_elsewhere v_sMany v_bMany v_year y_lies a_rsort a_rmany a_nums pl) H locs → lv_has ls 5 [(0, .ref (ad 7)), (1, .int p1), (2, .int p2), (3, .int x_66)] → W p l e rm_X4_broken_t s m args below meth c H locs 0 0 Q (F0 m 81 ls [.int x_74, .int (x_70 + x_72), .ref (tb (40 + x_66.toNatClampNeg))]) := by
              intro x_74 hF H locs ls hH hl
              delta FX4_broken_j81 at hF
              refine lv_isub hx hb dX4_broken_81 ?_
              refine ck_kept hPO hU (alg_lt hg_68) hX hK hE hE0 hNW hH q1012 hl ⟨Nat.le_of_ble_eq_true rfl, Nat.le_of_ble_eq_true rfl⟩ ⟨Nat.le_of_ble_eq_true rfl, Nat.le_of_ble_eq_true rfl⟩ (Nat.le_of_ble_eq_true rfl) dX4_broken_82 (fun H locs hH => ?_)
              refine lv_if_ne (tgt := 90) hx hb dX4_broken_85 rfl (fun c_75 => ?_) (fun c_75 => ?_)
              · have hF := itn c_75 hF
                exact j90 hF _ _ _ hH (lv_sub hl [0, 1, 2, 3] rfl)
              · have hF := itp c_75 hF
                obtain rfl := Option.some.inj hF
                exact k2_0 x_66 hY2 _ _ _ hH (lv_sub hl [3] rfl)
            refine lv_icmp_ne (tgt := 80) hx hb dX4_broken_73 rfl (fun c_73 => ?_) (fun c_73 => ?_)
            · have hF := itn c_73 hF
              refine lv_iconst (v := 0) hx hb dX4_broken_80 kyi_0 ?_
              exact j81 0 hF _ _ _ hH (lv_sub hl [0, 1, 2, 3] rfl)
            · have hF := itp c_73 hF
              refine lv_iconst (v := 1) hx hb dX4_broken_76 kyi_1 ?_
              refine lv_goto (tgt := 81) hx hb dX4_broken_77 rfl ?_
              exact j81 1 hF _ _ _ hH (lv_sub hl [0, 1, 2, 3] rfl)
          refine lv_icmp_ne (tgt := 65) hx hb dX4_broken_58 rfl (fun c_71 => ?_) (fun c_71 => ?_)
          · have hF := itn c_71 hF
            refine lv_iconst (v := 0) hx hb dX4_broken_65 kyi_0 ?_
            exact j66 0 hF _ _ _ hH (lv_sub hl [1, 2, 3, 4, 0] rfl)
          · have hF := itp c_71 hF
            refine lv_iconst (v := 1) hx hb dX4_broken_61 kyi_1 ?_
            refine lv_goto (tgt := 66) hx hb dX4_broken_62 rfl ?_
            exact j66 1 hF _ _ _ hH (lv_sub hl [1, 2, 3, 4, 0] rfl)
  exact l2 nn2 0 en2 _ _ _ hH (lv_sub hl [1, 2, 3, 0] rfl)
abbrev rm_X0_rests : Room := { frames := 5, cells := 0, slots := 0, locals := 167 }
set_option maxHeartbeats 4000000 in
theorem met_X0_rests {l : Launch} {D : va_G} {ad : Nat → Nat} {cA : Nat → ClassId} {sA ta ba na : Nat → Nat} {gi : Nat → Option Nat} {rh : Option Nat} {rt : Option Nat} {g_sort : Int32} {g_size : Int32} {g_from : Int32} {g_to : Int32} {g_level : Int32} {g_full : Int32} {a_tape : Nat → Int32} {a_hAt : Nat → Int32} {a_hMany : Nat → Int32} {a_tAt : Nat → Int32} {a_tMany : Nat → Int32} {a_least : Nat → Int32} {a_place : Nat → Int32} {a_to : Nat → Int32} {a_order : Nat → Int32} {a_fails : Nat → Int32} {a_sKeys : Nat → Int64} {a_sRow : Nat → Int64} {a_sSlots : Nat → Int32} {a_bKeys : Nat → Int64} {a_bRow : Nat → Int64} {a_bSlots : Nat → Int32} {a_easy : Nat → Int32} {a_wants : Nat → Int32} {a_wantedBy : Nat → Int32} {a_ring : Nat → Int32} {a_carried : Nat → Int32} {a_latest : Nat → Int32} {v_taped : Int32} {v_faultKind : Int32} {v_faultPlace : Int32} {v_x : Int32} {v_ordered : Int32} {v_sought : Int32} {v_lastSought : Int32} {v_hMoved : Int32} {v_hWithout : Int32} {v_tMoved : Int32} {v_tWithout : Int32} {v_places : Int32} {v_elsewhere : Int32} {v_sMany : Int32} {v_bMany : Int32} {v_year : Int32} {y_lies : Int64} {a_rsort : Nat → Int32} {a_rmany : Nat → Int32} {a_nums : Nat → Nat → Int64} {t : Nat → Int32} {nb : Int32} {bv : Nat → Int32 → Int32 → Int32 → Int32 → Int32 → Int32 → Bool} {pl : va_W}  {p1 : Int32} {res : Int32} {ra_hAt : Nat → Int32} {ra_hMany : Nat → Int32} {rv_hMoved : Int32} {E : EvT} (hE : EvN E) (hPO : PO cA pl ta ba t nb bv) (hF : FX0_rests a_hAt a_hMany v_hMoved v_hWithout y_lies t p1 = some (res, ra_hAt, ra_hMany, rv_hMoved)) : MX l yX0_rests (ws_ yX0_rests cX0_rests 2 (Option.some Jvm.ClassFile.FieldType.int)) rm_X0_rests D vwA (cT cA) E [.ref (ad 0), .int p1] (cW ad cA sA ta ba na gi rh rt g_sort g_size g_from g_to g_level g_full a_tape a_hAt a_hMany a_tAt a_tMany a_least a_place a_to a_order a_fails a_sKeys a_sRow a_sSlots a_bKeys a_bRow a_bSlots a_easy a_wants a_wantedBy a_ring a_carried a_latest v_taped v_faultKind v_faultPlace v_x v_ordered v_sought v_lastSought v_hMoved v_hWithout v_tMoved v_tWithout v_places v_elsewhere v_sMany v_bMany v_year y_lies a_rsort a_rmany a_nums pl) (fun z => ∃ rh' : Option Nat, z = (cW ad cA sA ta ba na gi rh' rt g_sort g_size g_from g_to g_level g_full a_tape ra_hAt ra_hMany a_tAt a_tMany a_least a_place a_to a_order a_fails a_sKeys a_sRow a_sSlots a_bKeys a_bRow a_bSlots a_easy a_wants a_wantedBy a_ring a_carried a_latest v_taped v_faultKind v_faultPlace v_x v_ordered v_sought v_lastSought rv_hMoved v_hWithout v_tMoved v_tWithout v_places v_elsewhere v_sMany v_bMany v_year y_lies a_rsort a_rmany a_nums pl)) (some (.int res)) := by
  refine MX.ofI (by decide) (Nat.le_of_ble_eq_true rfl) ?_
  intro p e s m args below meth c Q A hX hK hE0 hname hret H locs ls hH hl
  have hX : CallFix p m c cX0_rests 2 s args lw_all RX0 := hX
  have hx := hX.1
  have hb := hX.2.1
  have hown := hX.2.2.2.1
  have hts := hX.2.2.2.2
  have hl : lv_has ls 2 [(0, .ref (ad 0)), (1, .int p1)] := hl
  have hEv := hE.1
  have hNW := hE.2.1 _ _ _ hE0
  have hT := hPO.1
  have hB := hPO.2
  delta FX0_rests at hF
  refine lv_iload_n hx hb dX0_rests_0 rfl (lv_at hl 1 rfl) ?_
  refine lv_i2l (v := (Int32.toInt64 p1)) hx hb dX0_rests_1 rfl ?_
  refine lv_lconst (v := 0) hx hb dX0_rests_2 rfl ?_
  refine lv_lconst (v := 1) hx hb dX0_rests_3 rfl ?_
  obtain ⟨b_55, he, hF⟩ := bd1e hF
  refine mxS hX hK hEv hE0 hH (met_X0_in hE hPO he) gw_StoneYear_106 hd_yX0_in ⟨Nat.le_of_ble_eq_true rfl, Nat.le_of_ble_eq_true rfl⟩ rfl rfl hl (Nat.le_of_ble_eq_true rfl) dX0_rests_4 ⟨Nat.le_of_ble_eq_true rfl, Nat.le_of_ble_eq_true rfl⟩ (fun w2 H locs hw hH => ?_)
  subst hw
  refine lv_if_ne (tgt := 13) hx hb dX0_rests_7 rfl (fun c_56 => ?_) (fun c_56 => ?_)
  · have hF := itn c_56 hF
    refine lv_iload_n hx hb dX0_rests_13 rfl (lv_at hl 1 rfl) ?_
    refine lv_if_ne (tgt := 24) hx hb dX0_rests_14 rfl (fun c_57 => ?_) (fun c_57 => ?_)
    · have hF := itn c_57 hF
      refine lv_aload_n hx hb dX0_rests_24 rfl (lv_at hl 0 rfl) ?_
      obtain ⟨a_hAt_62, a_hMany_63, v_hMoved_64, he, hF⟩ := bd3e hF
      refine mxV hX hK hEv hE0 hH (met_X0_here hE hPO he) (crecv hK hH 0 0 rfl rfl) gw_StoneYear_195 hd_yX0_here ⟨Nat.le_of_ble_eq_true rfl, Nat.le_of_ble_eq_true rfl⟩ rfl rfl hl (Nat.le_of_ble_eq_true rfl) dX0_rests_25 ⟨Nat.le_of_ble_eq_true rfl, Nat.le_of_ble_eq_true rfl⟩ (fun w2 H locs hw hH => ?_)
      subst hw
      refine lv_iconst (v := (-1)) hx hb dX0_rests_28 kyi_m1 ?_
      refine lv_iconst (v := (-1)) hx hb dX0_rests_29 kyi_m1 ?_
      obtain ⟨x_65, he, hF⟩ := bd1e hF
      refine mxVN hX hK hEv hE0 hH (met_X4_broken_h hE hPO hT he) (crecv hK hH 4 4 rfl rfl) (lw_meth q1009) (hNW _ nw_q1006) q136 q1008 qs30 hd_yX4_broken.2 ⟨Nat.le_of_ble_eq_true rfl, Nat.le_of_ble_eq_true rfl⟩ rfl rfl hl (Nat.le_of_ble_eq_true rfl) dX0_rests_30 ⟨Nat.le_of_ble_eq_true rfl, Nat.le_of_ble_eq_true rfl⟩ (fun w2 H locs hw hH => ?_)
      subst hw
      obtain ⟨rfl, rfl, rfl, rfl⟩ := re4 hF
      exact hret _ _ _ _ _ ⟨_, rfl⟩ hH dX0_rests_33
    · have hF := itp c_57 hF
      refine lv_aload_n hx hb dX0_rests_17 rfl (lv_at hl 0 rfl) ?_
      obtain ⟨x_58, a_hAt_59, a_hMany_60, v_hMoved_61, he, hF⟩ := bd4e hF
      refine mxV hX hK hEv hE0 hH (met_X0_tooMuch hE hPO he) (crecv hK hH 0 0 rfl rfl) gw_StoneYear_220 hd_yX0_tooMuch ⟨Nat.le_of_ble_eq_true rfl, Nat.le_of_ble_eq_true rfl⟩ rfl rfl hl (Nat.le_of_ble_eq_true rfl) dX0_rests_18 ⟨Nat.le_of_ble_eq_true rfl, Nat.le_of_ble_eq_true rfl⟩ (fun w2 H locs hw hH => ?_)
      subst hw
      refine lv_goto (tgt := 33) hx hb dX0_rests_21 rfl ?_
      obtain ⟨rfl, rfl, rfl, rfl⟩ := re4 hF
      exact hret _ _ _ _ _ ⟨_, rfl⟩ hH dX0_rests_33
  · have hF := itp c_56 hF
    refine lv_bipush (v := (-2)) hx hb dX0_rests_10 kyb_m2 ?_
    obtain ⟨rfl, rfl, rfl, rfl⟩ := re4 hF
    exact hret _ _ _ _ _ ⟨_, rfl⟩ hH dX0_rests_12
abbrev rm_X0_has : Room := { frames := 0, cells := 0, slots := 0, locals := 0 }
set_option maxHeartbeats 4000000 in
theorem met_X0_has {l : Launch} {D : va_G} {ad : Nat → Nat} {cA : Nat → ClassId} {sA ta ba na : Nat → Nat} {gi : Nat → Option Nat} {rh : Option Nat} {rt : Option Nat} {g_sort : Int32} {g_size : Int32} {g_from : Int32} {g_to : Int32} {g_level : Int32} {g_full : Int32} {a_tape : Nat → Int32} {a_hAt : Nat → Int32} {a_hMany : Nat → Int32} {a_tAt : Nat → Int32} {a_tMany : Nat → Int32} {a_least : Nat → Int32} {a_place : Nat → Int32} {a_to : Nat → Int32} {a_order : Nat → Int32} {a_fails : Nat → Int32} {a_sKeys : Nat → Int64} {a_sRow : Nat → Int64} {a_sSlots : Nat → Int32} {a_bKeys : Nat → Int64} {a_bRow : Nat → Int64} {a_bSlots : Nat → Int32} {a_easy : Nat → Int32} {a_wants : Nat → Int32} {a_wantedBy : Nat → Int32} {a_ring : Nat → Int32} {a_carried : Nat → Int32} {a_latest : Nat → Int32} {v_taped : Int32} {v_faultKind : Int32} {v_faultPlace : Int32} {v_x : Int32} {v_ordered : Int32} {v_sought : Int32} {v_lastSought : Int32} {v_hMoved : Int32} {v_hWithout : Int32} {v_tMoved : Int32} {v_tWithout : Int32} {v_places : Int32} {v_elsewhere : Int32} {v_sMany : Int32} {v_bMany : Int32} {v_year : Int32} {y_lies : Int64} {a_rsort : Nat → Int32} {a_rmany : Nat → Int32} {a_nums : Nat → Nat → Int64} {t : Nat → Int32} {nb : Int32} {bv : Nat → Int32 → Int32 → Int32 → Int32 → Int32 → Int32 → Bool} {pl : va_W}  {p0 : Int32} {p1 : Int32} {res : Bool} {E : EvT} (hE : EvN E) (hPO : PO cA pl ta ba t nb bv) (hF : FX0_has p0 p1 = some res) : MX l yX0_has (ws_ yX0_has cX0_has 2 (Option.some Jvm.ClassFile.FieldType.boolean)) rm_X0_has D vwA (cT cA) E [.int p0, .int p1] (cW ad cA sA ta ba na gi rh rt g_sort g_size g_from g_to g_level g_full a_tape a_hAt a_hMany a_tAt a_tMany a_least a_place a_to a_order a_fails a_sKeys a_sRow a_sSlots a_bKeys a_bRow a_bSlots a_easy a_wants a_wantedBy a_ring a_carried a_latest v_taped v_faultKind v_faultPlace v_x v_ordered v_sought v_lastSought v_hMoved v_hWithout v_tMoved v_tWithout v_places v_elsewhere v_sMany v_bMany v_year y_lies a_rsort a_rmany a_nums pl) (fun z => z = (cW ad cA sA ta ba na gi rh rt g_sort g_size g_from g_to g_level g_full a_tape a_hAt a_hMany a_tAt a_tMany a_least a_place a_to a_order a_fails a_sKeys a_sRow a_sSlots a_bKeys a_bRow a_bSlots a_easy a_wants a_wantedBy a_ring a_carried a_latest v_taped v_faultKind v_faultPlace v_x v_ordered v_sought v_lastSought v_hMoved v_hWithout v_tMoved v_tWithout v_places v_elsewhere v_sMany v_bMany v_year y_lies a_rsort a_rmany a_nums pl)) (some (.int (b2i res))) := by
  refine MX.ofZ (by decide) (Nat.le_of_ble_eq_true rfl) ?_
  intro p e s m args below meth c Q A hX hK hE0 hname hret H locs ls hH hl
  have hX : CallFix p m c cX0_has 2 s args lw_all RX0 := hX
  have hx := hX.1
  have hb := hX.2.1
  have hown := hX.2.2.2.1
  have hts := hX.2.2.2.2
  have hl : lv_has ls 2 [(0, .int p0), (1, .int p1)] := hl
  have hEv := hE.1
  have hNW := hE.2.1 _ _ _ hE0
  have hT := hPO.1
  have hB := hPO.2
  delta FX0_has at hF
  refine lv_iload_n hx hb dX0_has_0 rfl (lv_at hl 0 rfl) ?_
  refine lv_iload_n hx hb dX0_has_1 rfl (lv_at hl 1 rfl) ?_
  refine lv_ishr hx hb dX0_has_2 ?_
  refine lv_iconst (v := 1) hx hb dX0_has_3 kyi_1 ?_
  refine lv_iand hx hb dX0_has_4 ?_
  refine lv_iconst (v := 1) hx hb dX0_has_5 kyi_1 ?_
  refine lv_icmp_ne (tgt := 13) hx hb dX0_has_6 rfl (fun c_56 => ?_) (fun c_56 => ?_)
  · have hF := itn c_56 hF
    refine lv_iconst (v := 0) hx hb dX0_has_13 kyi_0 ?_
    obtain rfl := Option.some.inj hF
    exact hret _ _ _ _ _ rfl hH dX0_has_14
  · have hF := itp c_56 hF
    refine lv_iconst (v := 1) hx hb dX0_has_9 kyi_1 ?_
    refine lv_goto (tgt := 14) hx hb dX0_has_10 rfl ?_
    obtain rfl := Option.some.inj hF
    exact hret _ _ _ _ _ rfl hH dX0_has_14
abbrev rm_X4_size_h : Room := { frames := 4, cells := 0, slots := 0, locals := 141 }
set_option maxHeartbeats 4000000 in
theorem met_X4_size_h {l : Launch} {D : va_G} {ad : Nat → Nat} {cA : Nat → ClassId} {sA ta ba na : Nat → Nat} {gi : Nat → Option Nat} {rt : Option Nat} {g_sort : Int32} {g_size : Int32} {g_from : Int32} {g_to : Int32} {g_level : Int32} {g_full : Int32} {a_tape : Nat → Int32} {a_hAt : Nat → Int32} {a_hMany : Nat → Int32} {a_tAt : Nat → Int32} {a_tMany : Nat → Int32} {a_least : Nat → Int32} {a_place : Nat → Int32} {a_to : Nat → Int32} {a_order : Nat → Int32} {a_fails : Nat → Int32} {a_sKeys : Nat → Int64} {a_sRow : Nat → Int64} {a_sSlots : Nat → Int32} {a_bKeys : Nat → Int64} {a_bRow : Nat → Int64} {a_bSlots : Nat → Int32} {a_easy : Nat → Int32} {a_wants : Nat → Int32} {a_wantedBy : Nat → Int32} {a_ring : Nat → Int32} {a_carried : Nat → Int32} {a_latest : Nat → Int32} {v_taped : Int32} {v_faultKind : Int32} {v_faultPlace : Int32} {v_x : Int32} {v_ordered : Int32} {v_sought : Int32} {v_lastSought : Int32} {v_hMoved : Int32} {v_hWithout : Int32} {v_tMoved : Int32} {v_tWithout : Int32} {v_places : Int32} {v_elsewhere : Int32} {v_sMany : Int32} {v_bMany : Int32} {v_year : Int32} {y_lies : Int64} {a_rsort : Nat → Int32} {a_rmany : Nat → Int32} {a_nums : Nat → Nat → Int64} {t : Nat → Int32} {nb : Int32} {bv : Nat → Int32 → Int32 → Int32 → Int32 → Int32 → Int32 → Bool} {pl : va_W} {tb : Nat → Nat} {u : Nat → Int32}  {p1 : Int32} {res : Int32} {E : EvT} (hE : EvN E) (hPO : PO cA pl ta ba t nb bv) (hU : TownAt cA pl tb u) (hF : FX4_size u p1 = some res) : MX l yX4_size (ws_ yX4_size cX4_size 2 (Option.some Jvm.ClassFile.FieldType.int)) rm_X4_size_h D vwA (cT cA) E [.ref (ad 4), .int p1] (cW ad cA sA ta ba na gi (some (tb 0)) rt g_sort g_size g_from g_to g_level g_full a_tape a_hAt a_hMany a_tAt a_tMany a_least a_place a_to a_order a_fails a_sKeys a_sRow a_sSlots a_bKeys a_bRow a_bSlots a_easy a_wants a_wantedBy a_ring a_carried a_latest v_taped v_faultKind v_faultPlace v_x v_ordered v_sought v_lastSought v_hMoved v_hWithout v_tMoved v_tWithout v_places v_elsewhere v_sMany v_bMany v_year y_lies a_rsort a_rmany a_nums pl) (fun z => z = (cW ad cA sA ta ba na gi (some (tb 0)) rt g_sort g_size g_from g_to g_level g_full a_tape a_hAt a_hMany a_tAt a_tMany a_least a_place a_to a_order a_fails a_sKeys a_sRow a_sSlots a_bKeys a_bRow a_bSlots a_easy a_wants a_wantedBy a_ring a_carried a_latest v_taped v_faultKind v_faultPlace v_x v_ordered v_sought v_lastSought v_hMoved v_hWithout v_tMoved v_tWithout v_places v_elsewhere v_sMany v_bMany v_year y_lies a_rsort a_rmany a_nums pl)) (some (.int res)) := by
  refine MX.ofI (by decide) (Nat.le_of_ble_eq_true rfl) ?_
  intro p e s m args below meth c Q A hX hK hE0 hname hret H locs ls hH hl
  have hX : CallFix p m c cX4_size 2 s args lw_all RX4 := hX
  have hx := hX.1
  have hb := hX.2.1
  have hown := hX.2.2.2.1
  have hts := hX.2.2.2.2
  have hl : lv_has ls 2 [(0, .ref (ad 4)), (1, .int p1)] := hl
  have hEv := hE.1
  have hNW := hE.2.1 _ _ _ hE0
  have hT := hPO.1
  have hB := hPO.2
  delta FX4_size at hF
  refine lv_aload_n hx hb dX4_size_0 rfl (lv_at hl 0 rfl) ?_
  refine cg_Y_Stacks_stkh_town hX hK hNW hH dX4_size_1 ?_
  refine cg_Y_Stacks_town_stones hU (fun _ h => cW_pl h) hX hK hNW hH dX4_size_4 ?_
  refine lv_iload_n hx hb dX4_size_7 rfl (lv_at hl 1 rfl) ?_
  obtain ⟨hg_56, hF⟩ := bd0e hF
  refine mxV hX hK hEv hE0 hH (met_J2_get hE.1 rfl hU.stones hg_56 (fun _ h => cW_pl h)) (precv (fun _ h => cW_pl h) hK hH 17 rfl hU.stones.obj) gw_StoneYear_Stacks_56 hd_yJ2_get ⟨Nat.le_of_ble_eq_true rfl, Nat.le_of_ble_eq_true rfl⟩ rfl rfl hl (Nat.le_of_ble_eq_true rfl) dX4_size_8 ⟨Nat.le_of_ble_eq_true rfl, Nat.le_of_ble_eq_true rfl⟩ (fun w2 H locs hw hH => ?_)
  subst hw
  refine va_castE hx hb hown (hts _ q1057) (precv (fun _ h => cW_pl h) hK hH 11 rfl ⟨_, hU.stone (alg_lt hg_56)⟩) dX4_size_11 ?_
  refine cg_Y_Stacks_stone_size hU (alg_lt hg_56) (fun _ h => cW_pl h) hX hK hNW hH dX4_size_14 ?_
  obtain rfl := Option.some.inj hF
  exact hret _ _ _ _ _ rfl hH dX4_size_17
abbrev rm_X4_size_t : Room := { frames := 4, cells := 0, slots := 0, locals := 141 }
set_option maxHeartbeats 4000000 in
theorem met_X4_size_t {l : Launch} {D : va_G} {ad : Nat → Nat} {cA : Nat → ClassId} {sA ta ba na : Nat → Nat} {gi : Nat → Option Nat} {rh : Option Nat} {g_sort : Int32} {g_size : Int32} {g_from : Int32} {g_to : Int32} {g_level : Int32} {g_full : Int32} {a_tape : Nat → Int32} {a_hAt : Nat → Int32} {a_hMany : Nat → Int32} {a_tAt : Nat → Int32} {a_tMany : Nat → Int32} {a_least : Nat → Int32} {a_place : Nat → Int32} {a_to : Nat → Int32} {a_order : Nat → Int32} {a_fails : Nat → Int32} {a_sKeys : Nat → Int64} {a_sRow : Nat → Int64} {a_sSlots : Nat → Int32} {a_bKeys : Nat → Int64} {a_bRow : Nat → Int64} {a_bSlots : Nat → Int32} {a_easy : Nat → Int32} {a_wants : Nat → Int32} {a_wantedBy : Nat → Int32} {a_ring : Nat → Int32} {a_carried : Nat → Int32} {a_latest : Nat → Int32} {v_taped : Int32} {v_faultKind : Int32} {v_faultPlace : Int32} {v_x : Int32} {v_ordered : Int32} {v_sought : Int32} {v_lastSought : Int32} {v_hMoved : Int32} {v_hWithout : Int32} {v_tMoved : Int32} {v_tWithout : Int32} {v_places : Int32} {v_elsewhere : Int32} {v_sMany : Int32} {v_bMany : Int32} {v_year : Int32} {y_lies : Int64} {a_rsort : Nat → Int32} {a_rmany : Nat → Int32} {a_nums : Nat → Nat → Int64} {t : Nat → Int32} {nb : Int32} {bv : Nat → Int32 → Int32 → Int32 → Int32 → Int32 → Int32 → Bool} {pl : va_W} {tb : Nat → Nat} {u : Nat → Int32}  {p1 : Int32} {res : Int32} {E : EvT} (hE : EvN E) (hPO : PO cA pl ta ba t nb bv) (hU : TownAt cA pl tb u) (hF : FX4_size u p1 = some res) : MX l yX4_size (ws_ yX4_size cX4_size 2 (Option.some Jvm.ClassFile.FieldType.int)) rm_X4_size_t D vwA (cT cA) E [.ref (ad 7), .int p1] (cW ad cA sA ta ba na gi rh (some (tb 0)) g_sort g_size g_from g_to g_level g_full a_tape a_hAt a_hMany a_tAt a_tMany a_least a_place a_to a_order a_fails a_sKeys a_sRow a_sSlots a_bKeys a_bRow a_bSlots a_easy a_wants a_wantedBy a_ring a_carried a_latest v_taped v_faultKind v_faultPlace v_x v_ordered v_sought v_lastSought v_hMoved v_hWithout v_tMoved v_tWithout v_places v_elsewhere v_sMany v_bMany v_year y_lies a_rsort a_rmany a_nums pl) (fun z => z = (cW ad cA sA ta ba na gi rh (some (tb 0)) g_sort g_size g_from g_to g_level g_full a_tape a_hAt a_hMany a_tAt a_tMany a_least a_place a_to a_order a_fails a_sKeys a_sRow a_sSlots a_bKeys a_bRow a_bSlots a_easy a_wants a_wantedBy a_ring a_carried a_latest v_taped v_faultKind v_faultPlace v_x v_ordered v_sought v_lastSought v_hMoved v_hWithout v_tMoved v_tWithout v_places v_elsewhere v_sMany v_bMany v_year y_lies a_rsort a_rmany a_nums pl)) (some (.int res)) := by
  refine MX.ofI (by decide) (Nat.le_of_ble_eq_true rfl) ?_
  intro p e s m args below meth c Q A hX hK hE0 hname hret H locs ls hH hl
  have hX : CallFix p m c cX4_size 2 s args lw_all RX4 := hX
  have hx := hX.1
  have hb := hX.2.1
  have hown := hX.2.2.2.1
  have hts := hX.2.2.2.2
  have hl : lv_has ls 2 [(0, .ref (ad 7)), (1, .int p1)] := hl
  have hEv := hE.1
  have hNW := hE.2.1 _ _ _ hE0
  have hT := hPO.1
  have hB := hPO.2
  delta FX4_size at hF
  refine lv_aload_n hx hb dX4_size_0 rfl (lv_at hl 0 rfl) ?_
  refine cg_Y_Stacks_stkt_town hX hK hNW hH dX4_size_1 ?_
  refine cg_Y_Stacks_town_stones hU (fun _ h => cW_pl h) hX hK hNW hH dX4_size_4 ?_
  refine lv_iload_n hx hb dX4_size_7 rfl (lv_at hl 1 rfl) ?_
  obtain ⟨hg_56, hF⟩ := bd0e hF
  refine mxV hX hK hEv hE0 hH (met_J2_get hE.1 rfl hU.stones hg_56 (fun _ h => cW_pl h)) (precv (fun _ h => cW_pl h) hK hH 17 rfl hU.stones.obj) gw_StoneYear_Stacks_56 hd_yJ2_get ⟨Nat.le_of_ble_eq_true rfl, Nat.le_of_ble_eq_true rfl⟩ rfl rfl hl (Nat.le_of_ble_eq_true rfl) dX4_size_8 ⟨Nat.le_of_ble_eq_true rfl, Nat.le_of_ble_eq_true rfl⟩ (fun w2 H locs hw hH => ?_)
  subst hw
  refine va_castE hx hb hown (hts _ q1057) (precv (fun _ h => cW_pl h) hK hH 11 rfl ⟨_, hU.stone (alg_lt hg_56)⟩) dX4_size_11 ?_
  refine cg_Y_Stacks_stone_size hU (alg_lt hg_56) (fun _ h => cW_pl h) hX hK hNW hH dX4_size_14 ?_
  obtain rfl := Option.some.inj hF
  exact hret _ _ _ _ _ rfl hH dX4_size_17
abbrev rm_X4_bears_h : Room := { frames := 5, cells := 0, slots := 0, locals := 162 }
set_option maxHeartbeats 4000000 in
theorem met_X4_bears_h {l : Launch} {D : va_G} {ad : Nat → Nat} {cA : Nat → ClassId} {sA ta ba na : Nat → Nat} {gi : Nat → Option Nat} {rt : Option Nat} {g_sort : Int32} {g_size : Int32} {g_from : Int32} {g_to : Int32} {g_level : Int32} {g_full : Int32} {a_tape : Nat → Int32} {a_hAt : Nat → Int32} {a_hMany : Nat → Int32} {a_tAt : Nat → Int32} {a_tMany : Nat → Int32} {a_least : Nat → Int32} {a_place : Nat → Int32} {a_to : Nat → Int32} {a_order : Nat → Int32} {a_fails : Nat → Int32} {a_sKeys : Nat → Int64} {a_sRow : Nat → Int64} {a_sSlots : Nat → Int32} {a_bKeys : Nat → Int64} {a_bRow : Nat → Int64} {a_bSlots : Nat → Int32} {a_easy : Nat → Int32} {a_wants : Nat → Int32} {a_wantedBy : Nat → Int32} {a_ring : Nat → Int32} {a_carried : Nat → Int32} {a_latest : Nat → Int32} {v_taped : Int32} {v_faultKind : Int32} {v_faultPlace : Int32} {v_x : Int32} {v_ordered : Int32} {v_sought : Int32} {v_lastSought : Int32} {v_hMoved : Int32} {v_hWithout : Int32} {v_tMoved : Int32} {v_tWithout : Int32} {v_places : Int32} {v_elsewhere : Int32} {v_sMany : Int32} {v_bMany : Int32} {v_year : Int32} {y_lies : Int64} {a_rsort : Nat → Int32} {a_rmany : Nat → Int32} {a_nums : Nat → Nat → Int64} {t : Nat → Int32} {nb : Int32} {bv : Nat → Int32 → Int32 → Int32 → Int32 → Int32 → Int32 → Bool} {pl : va_W} {tb : Nat → Nat} {u : Nat → Int32}  {p1 : Int32} {p2 : Int32} {p3 : Int32} {res : Bool} {E : EvT} (hE : EvN E) (hPO : PO cA pl ta ba t nb bv) (hU : TownAt cA pl tb u) (hF : FX4_bears u a_hAt p1 p2 p3 = some res) : MX l yX4_bears (ws_ yX4_bears cX4_bears 7 (Option.some Jvm.ClassFile.FieldType.boolean)) rm_X4_bears_h D vwA (cT cA) E [.ref (ad 4), .int p1, .int p2, .int p3] (cW ad cA sA ta ba na gi (some (tb 0)) rt g_sort g_size g_from g_to g_level g_full a_tape a_hAt a_hMany a_tAt a_tMany a_least a_place a_to a_order a_fails a_sKeys a_sRow a_sSlots a_bKeys a_bRow a_bSlots a_easy a_wants a_wantedBy a_ring a_carried a_latest v_taped v_faultKind v_faultPlace v_x v_ordered v_sought v_lastSought v_hMoved v_hWithout v_tMoved v_tWithout v_places v_elsewhere v_sMany v_bMany v_year y_lies a_rsort a_rmany a_nums pl) (fun z => z = (cW ad cA sA ta ba na gi (some (tb 0)) rt g_sort g_size g_from g_to g_level g_full a_tape a_hAt a_hMany a_tAt a_tMany a_least a_place a_to a_order a_fails a_sKeys a_sRow a_sSlots a_bKeys a_bRow a_bSlots a_easy a_wants a_wantedBy a_ring a_carried a_latest v_taped v_faultKind v_faultPlace v_x v_ordered v_sought v_lastSought v_hMoved v_hWithout v_tMoved v_tWithout v_places v_elsewhere v_sMany v_bMany v_year y_lies a_rsort a_rmany a_nums pl)) (some (.int (b2i res))) := by
  refine MX.ofZ (by decide) (Nat.le_of_ble_eq_true rfl) ?_
  intro p e s m args below meth c Q A hX hK hE0 hname hret H locs ls hH hl
  have hX : CallFix p m c cX4_bears 7 s args lw_all RX4 := hX
  have hx := hX.1
  have hb := hX.2.1
  have hown := hX.2.2.2.1
  have hts := hX.2.2.2.2
  have hl : lv_has ls 7 [(0, .ref (ad 4)), (1, .int p1), (2, .int p2), (3, .int p3)] := hl
  have hEv := hE.1
  have hNW := hE.2.1 _ _ _ hE0
  have hT := hPO.1
  have hB := hPO.2
  delta FX4_bears at hF
  refine lv_iload_n hx hb dX4_bears_0 rfl (lv_at hl 3 rfl) ?_
  refine lv_istore (lv' := [(4, .int p3), (0, .ref (ad 4)), (1, .int p1), (2, .int p2), (3, .int p3)]) hx hb dX4_bears_1 hl (by decide) rfl (fun ls hl => ?_)
  refine lv_iload_n hx hb dX4_bears_3 rfl (lv_at hl 3 rfl) ?_
  refine lv_iconst (v := 1) hx hb dX4_bears_4 kyi_1 ?_
  refine lv_isub hx hb dX4_bears_5 ?_
  refine lv_istore (lv' := [(5, .int (p2 - 1)), (4, .int p3), (0, .ref (ad 4)), (1, .int p1), (2, .int p2), (3, .int p3)]) hx hb dX4_bears_6 hl (by decide) rfl (fun ls hl => ?_)
  obtain ⟨xx8, ee8, kk8_0, kk8_1⟩ := bdS2e hF
  have k8_0 : xx8 = (.inl ()) → ∀ (H : Heap) (locs : List Loc) (ls : Array Slot), MH D vwA A s.heap (cW ad cA sA ta ba na gi (some (tb 0)) rt g_sort g_size g_from g_to g_level g_full a_tape a_hAt a_hMany a_tAt a_tMany a_least a_place a_to a_order a_fails a_sKeys a_sRow a_sSlots a_bKeys a_bRow a_bSlots a_easy a_wants a_wantedBy a_ring a_carried a_latest v_taped v_faultKind v_faultPlace v_x v_ordered v_sought v_lastSought v_hMoved v_hWithout v_tMoved v_tWithout v_places v_elsewhere v_sMany v_bMany v_year y_lies a_rsort a_rmany a_nums pl) H locs → lv_has ls 7 [] → W p l e rm_X4_bears_h s m args below meth c H locs 0 0 Q (F0 m 49 ls []) := by
    intro hxx H locs ls hH hl
    have hF := un0e (kk8_0 () hxx)
    refine lv_iconst (v := 0) hx hb dX4_bears_49 kyi_0 ?_
    obtain rfl := Option.some.inj hF
    exact hret _ _ _ _ _ rfl hH dX4_bears_50
  have k8_1 : xx8 = (.inr ()) → ∀ (H : Heap) (locs : List Loc) (ls : Array Slot), MH D vwA A s.heap (cW ad cA sA ta ba na gi (some (tb 0)) rt g_sort g_size g_from g_to g_level g_full a_tape a_hAt a_hMany a_tAt a_tMany a_least a_place a_to a_order a_fails a_sKeys a_sRow a_sSlots a_bKeys a_bRow a_bSlots a_easy a_wants a_wantedBy a_ring a_carried a_latest v_taped v_faultKind v_faultPlace v_x v_ordered v_sought v_lastSought v_hMoved v_hWithout v_tMoved v_tWithout v_places v_elsewhere v_sMany v_bMany v_year y_lies a_rsort a_rmany a_nums pl) H locs → lv_has ls 7 [] → W p l e rm_X4_bears_h s m args below meth c H locs 0 0 Q (F0 m 68 ls []) := by
    intro hxx H locs ls hH hl
    have hF := un0e (kk8_1 () hxx)
    refine lv_iconst (v := 1) hx hb dX4_bears_68 kyi_1 ?_
    obtain rfl := Option.some.inj hF
    exact hret _ _ _ _ _ rfl hH dX4_bears_69
  obtain ⟨nn8, en8⟩ := loopC_some ee8
  have l8 : ∀ (n : Nat) (x_63 : Int32) (x_64 : Int32), loopN (fun s => FX4_bears_b8 a_hAt u p1 s.1 s.2) n (x_63, x_64) = some xx8 → ∀ (H : Heap) (locs : List Loc) (ls : Array Slot), MH D vwA A s.heap (cW ad cA sA ta ba na gi (some (tb 0)) rt g_sort g_size g_from g_to g_level g_full a_tape a_hAt a_hMany a_tAt a_tMany a_least a_place a_to a_order a_fails a_sKeys a_sRow a_sSlots a_bKeys a_bRow a_bSlots a_easy a_wants a_wantedBy a_ring a_carried a_latest v_taped v_faultKind v_faultPlace v_x v_ordered v_sought v_lastSought v_hMoved v_hWithout v_tMoved v_tWithout v_places v_elsewhere v_sMany v_bMany v_year y_lies a_rsort a_rmany a_nums pl) H locs → lv_has ls 7 [(0, .ref (ad 4)), (1, .int p1), (4, .int x_63), (5, .int x_64)] → W p l e rm_X4_bears_h s m args below meth c H locs 0 0 Q (F0 m 8 ls []) := by
    intro n
    induction n with
    | zero =>
      intro x_63 x_64 hN
      exact absurd hN loopN_zero
    | succ n ih =>
      intro x_63 x_64 hN H locs ls hH hl
      obtain ⟨yy8, hB8, hY8⟩ := loopN_succ hN
      have hF : FX4_bears_b8 a_hAt u p1 x_63 x_64 = some yy8 := hB8
      delta FX4_bears_b8 at hF
      refine lv_iload hx hb dX4_bears_8 (lv_at hl 3 rfl) ?_
      refine lv_if_lt (tgt := 68) hx hb dX4_bears_10 rfl (fun c_65 => ?_) (fun c_65 => ?_)
      · have hF := itp c_65 hF
        obtain rfl := Option.some.inj hF
        exact k8_1 hY8 _ _ _ hH (lv_sub hl [] rfl)
      · have hF := itn c_65 hF
        refine lv_aload_n hx hb dX4_bears_13 rfl (lv_at hl 0 rfl) ?_
        refine cg_Y_Stacks_stkh_at hX hK hNW hH dX4_bears_14 ?_
        refine lv_iconst (v := 3) hx hb dX4_bears_17 kyi_3 ?_
        refine lv_iload_n hx hb dX4_bears_18 rfl (lv_at hl 1 rfl) ?_
        refine lv_imul hx hb dX4_bears_19 ?_
        refine lv_iload hx hb dX4_bears_20 (lv_at hl 3 rfl) ?_
        refine lv_iadd hx hb dX4_bears_22 ?_
        obtain ⟨x_66, he, hF⟩ := bd1e hF
        refine cl_hAt hX hK hH he dX4_bears_23 ?_
        refine lv_istore (lv' := [(6, .int x_66), (0, .ref (ad 4)), (1, .int p1), (4, .int x_63), (5, .int x_64)]) hx hb dX4_bears_24 hl (by decide) rfl (fun ls hl => ?_)
        refine lv_iload hx hb dX4_bears_26 (lv_at hl 3 rfl) ?_
        refine lv_aload_n hx hb dX4_bears_28 rfl (lv_at hl 1 rfl) ?_
        refine cg_Y_Stacks_stkh_town hX hK hNW hH dX4_bears_29 ?_
        refine cg_Y_Stacks_town_stones hU (fun _ h => cW_pl h) hX hK hNW hH dX4_bears_32 ?_
        refine lv_iload hx hb dX4_bears_35 (lv_at hl 0 rfl) ?_
        obtain ⟨hg_67, hF⟩ := bd0e hF
        refine mxV hX hK hEv hE0 hH (met_J2_get hE.1 rfl hU.stones hg_67 (fun _ h => cW_pl h)) (precv (fun _ h => cW_pl h) hK hH 17 rfl hU.stones.obj) gw_StoneYear_Stacks_56 hd_yJ2_get ⟨Nat.le_of_ble_eq_true rfl, Nat.le_of_ble_eq_true rfl⟩ rfl rfl hl (Nat.le_of_ble_eq_true rfl) dX4_bears_37 ⟨Nat.le_of_ble_eq_true rfl, Nat.le_of_ble_eq_true rfl⟩ (fun w2 H locs hw hH => ?_)
        subst hw
        refine va_castE hx hb hown (hts _ q1057) (precv (fun _ h => cW_pl h) hK hH 11 rfl ⟨_, hU.stone (alg_lt hg_67)⟩) dX4_bears_40 ?_
        refine cg_Y_Stacks_stone_bears hU (alg_lt hg_67) (fun _ h => cW_pl h) hX hK hNW hH dX4_bears_43 ?_
        refine lv_icmp_le (tgt := 51) hx hb dX4_bears_46 rfl (fun c_68 => ?_) (fun c_68 => ?_)
        · have hF := itp c_68 hF
          refine lv_iload hx hb dX4_bears_51 (lv_at hl 3 rfl) ?_
          refine lv_aload_n hx hb dX4_bears_53 rfl (lv_at hl 1 rfl) ?_
          refine lv_iload hx hb dX4_bears_54 (lv_at hl 0 rfl) ?_
          obtain ⟨x_69, he, hF⟩ := bd1e hF
          refine mxV hX hK hEv hE0 hH (met_X4_size_h hE hPO hU he) (crecv hK hH 4 4 rfl rfl) gw_StoneYear_Stacks_67 hd_yX4_size ⟨Nat.le_of_ble_eq_true rfl, Nat.le_of_ble_eq_true rfl⟩ rfl rfl hl (Nat.le_of_ble_eq_true rfl) dX4_bears_56 ⟨Nat.le_of_ble_eq_true rfl, Nat.le_of_ble_eq_true rfl⟩ (fun w2 H locs hw hH => ?_)
          subst hw
          refine lv_iadd hx hb dX4_bears_59 ?_
          refine lv_istore (lv' := [(4, .int (x_63 + x_69)), (6, .int x_66), (0, .ref (ad 4)), (1, .int p1), (5, .int x_64)]) hx hb dX4_bears_60 hl (by decide) rfl (fun ls hl => ?_)
          refine lv_iinc (v := (x_64 + (-1))) (lv' := [(5, .int (x_64 + (-1))), (4, .int (x_63 + x_69)), (6, .int x_66), (0, .ref (ad 4)), (1, .int p1)]) hx hb dX4_bears_62 hl (k := 4) rfl (syc kyi_m1) (by decide) rfl (fun ls hl => ?_)
          refine lv_goto (tgt := 8) hx hb dX4_bears_65 rfl ?_
          obtain rfl := Option.some.inj hF
          exact ih (x_63 + x_69) (x_64 + (-1)) hY8 _ _ _ hH (lv_sub hl [3, 4, 1, 0] rfl)
        · have hF := itn c_68 hF
          obtain rfl := Option.some.inj hF
          exact k8_0 hY8 _ _ _ hH (lv_sub hl [] rfl)
  exact l8 nn8 p3 (p2 - 1) en8 _ _ _ hH (lv_sub hl [2, 3, 1, 0] rfl)
abbrev rm_X4_bears_t : Room := { frames := 5, cells := 0, slots := 0, locals := 162 }
set_option maxHeartbeats 4000000 in
theorem met_X4_bears_t {l : Launch} {D : va_G} {ad : Nat → Nat} {cA : Nat → ClassId} {sA ta ba na : Nat → Nat} {gi : Nat → Option Nat} {rh : Option Nat} {g_sort : Int32} {g_size : Int32} {g_from : Int32} {g_to : Int32} {g_level : Int32} {g_full : Int32} {a_tape : Nat → Int32} {a_hAt : Nat → Int32} {a_hMany : Nat → Int32} {a_tAt : Nat → Int32} {a_tMany : Nat → Int32} {a_least : Nat → Int32} {a_place : Nat → Int32} {a_to : Nat → Int32} {a_order : Nat → Int32} {a_fails : Nat → Int32} {a_sKeys : Nat → Int64} {a_sRow : Nat → Int64} {a_sSlots : Nat → Int32} {a_bKeys : Nat → Int64} {a_bRow : Nat → Int64} {a_bSlots : Nat → Int32} {a_easy : Nat → Int32} {a_wants : Nat → Int32} {a_wantedBy : Nat → Int32} {a_ring : Nat → Int32} {a_carried : Nat → Int32} {a_latest : Nat → Int32} {v_taped : Int32} {v_faultKind : Int32} {v_faultPlace : Int32} {v_x : Int32} {v_ordered : Int32} {v_sought : Int32} {v_lastSought : Int32} {v_hMoved : Int32} {v_hWithout : Int32} {v_tMoved : Int32} {v_tWithout : Int32} {v_places : Int32} {v_elsewhere : Int32} {v_sMany : Int32} {v_bMany : Int32} {v_year : Int32} {y_lies : Int64} {a_rsort : Nat → Int32} {a_rmany : Nat → Int32} {a_nums : Nat → Nat → Int64} {t : Nat → Int32} {nb : Int32} {bv : Nat → Int32 → Int32 → Int32 → Int32 → Int32 → Int32 → Bool} {pl : va_W} {tb : Nat → Nat} {u : Nat → Int32}  {p1 : Int32} {p2 : Int32} {p3 : Int32} {res : Bool} {E : EvT} (hE : EvN E) (hPO : PO cA pl ta ba t nb bv) (hU : TownAt cA pl tb u) (hF : FX4_bears u a_tAt p1 p2 p3 = some res) : MX l yX4_bears (ws_ yX4_bears cX4_bears 7 (Option.some Jvm.ClassFile.FieldType.boolean)) rm_X4_bears_t D vwA (cT cA) E [.ref (ad 7), .int p1, .int p2, .int p3] (cW ad cA sA ta ba na gi rh (some (tb 0)) g_sort g_size g_from g_to g_level g_full a_tape a_hAt a_hMany a_tAt a_tMany a_least a_place a_to a_order a_fails a_sKeys a_sRow a_sSlots a_bKeys a_bRow a_bSlots a_easy a_wants a_wantedBy a_ring a_carried a_latest v_taped v_faultKind v_faultPlace v_x v_ordered v_sought v_lastSought v_hMoved v_hWithout v_tMoved v_tWithout v_places v_elsewhere v_sMany v_bMany v_year y_lies a_rsort a_rmany a_nums pl) (fun z => z = (cW ad cA sA ta ba na gi rh (some (tb 0)) g_sort g_size g_from g_to g_level g_full a_tape a_hAt a_hMany a_tAt a_tMany a_least a_place a_to a_order a_fails a_sKeys a_sRow a_sSlots a_bKeys a_bRow a_bSlots a_easy a_wants a_wantedBy a_ring a_carried a_latest v_taped v_faultKind v_faultPlace v_x v_ordered v_sought v_lastSought v_hMoved v_hWithout v_tMoved v_tWithout v_places v_elsewhere v_sMany v_bMany v_year y_lies a_rsort a_rmany a_nums pl)) (some (.int (b2i res))) := by
  refine MX.ofZ (by decide) (Nat.le_of_ble_eq_true rfl) ?_
  intro p e s m args below meth c Q A hX hK hE0 hname hret H locs ls hH hl
  have hX : CallFix p m c cX4_bears 7 s args lw_all RX4 := hX
  have hx := hX.1
  have hb := hX.2.1
  have hown := hX.2.2.2.1
  have hts := hX.2.2.2.2
  have hl : lv_has ls 7 [(0, .ref (ad 7)), (1, .int p1), (2, .int p2), (3, .int p3)] := hl
  have hEv := hE.1
  have hNW := hE.2.1 _ _ _ hE0
  have hT := hPO.1
  have hB := hPO.2
  delta FX4_bears at hF
  refine lv_iload_n hx hb dX4_bears_0 rfl (lv_at hl 3 rfl) ?_
  refine lv_istore (lv' := [(4, .int p3), (0, .ref (ad 7)), (1, .int p1), (2, .int p2), (3, .int p3)]) hx hb dX4_bears_1 hl (by decide) rfl (fun ls hl => ?_)
  refine lv_iload_n hx hb dX4_bears_3 rfl (lv_at hl 3 rfl) ?_
  refine lv_iconst (v := 1) hx hb dX4_bears_4 kyi_1 ?_
  refine lv_isub hx hb dX4_bears_5 ?_
  refine lv_istore (lv' := [(5, .int (p2 - 1)), (4, .int p3), (0, .ref (ad 7)), (1, .int p1), (2, .int p2), (3, .int p3)]) hx hb dX4_bears_6 hl (by decide) rfl (fun ls hl => ?_)
  obtain ⟨xx8, ee8, kk8_0, kk8_1⟩ := bdS2e hF
  have k8_0 : xx8 = (.inl ()) → ∀ (H : Heap) (locs : List Loc) (ls : Array Slot), MH D vwA A s.heap (cW ad cA sA ta ba na gi rh (some (tb 0)) g_sort g_size g_from g_to g_level g_full a_tape a_hAt a_hMany a_tAt a_tMany a_least a_place a_to a_order a_fails a_sKeys a_sRow a_sSlots a_bKeys a_bRow a_bSlots a_easy a_wants a_wantedBy a_ring a_carried a_latest v_taped v_faultKind v_faultPlace v_x v_ordered v_sought v_lastSought v_hMoved v_hWithout v_tMoved v_tWithout v_places v_elsewhere v_sMany v_bMany v_year y_lies a_rsort a_rmany a_nums pl) H locs → lv_has ls 7 [] → W p l e rm_X4_bears_t s m args below meth c H locs 0 0 Q (F0 m 49 ls []) := by
    intro hxx H locs ls hH hl
    have hF := un0e (kk8_0 () hxx)
    refine lv_iconst (v := 0) hx hb dX4_bears_49 kyi_0 ?_
    obtain rfl := Option.some.inj hF
    exact hret _ _ _ _ _ rfl hH dX4_bears_50
  have k8_1 : xx8 = (.inr ()) → ∀ (H : Heap) (locs : List Loc) (ls : Array Slot), MH D vwA A s.heap (cW ad cA sA ta ba na gi rh (some (tb 0)) g_sort g_size g_from g_to g_level g_full a_tape a_hAt a_hMany a_tAt a_tMany a_least a_place a_to a_order a_fails a_sKeys a_sRow a_sSlots a_bKeys a_bRow a_bSlots a_easy a_wants a_wantedBy a_ring a_carried a_latest v_taped v_faultKind v_faultPlace v_x v_ordered v_sought v_lastSought v_hMoved v_hWithout v_tMoved v_tWithout v_places v_elsewhere v_sMany v_bMany v_year y_lies a_rsort a_rmany a_nums pl) H locs → lv_has ls 7 [] → W p l e rm_X4_bears_t s m args below meth c H locs 0 0 Q (F0 m 68 ls []) := by
    intro hxx H locs ls hH hl
    have hF := un0e (kk8_1 () hxx)
    refine lv_iconst (v := 1) hx hb dX4_bears_68 kyi_1 ?_
    obtain rfl := Option.some.inj hF
    exact hret _ _ _ _ _ rfl hH dX4_bears_69
  obtain ⟨nn8, en8⟩ := loopC_some ee8
  have l8 : ∀ (n : Nat) (x_63 : Int32) (x_64 : Int32), loopN (fun s => FX4_bears_b8 a_tAt u p1 s.1 s.2) n (x_63, x_64) = some xx8 → ∀ (H : Heap) (locs : List Loc) (ls : Array Slot), MH D vwA A s.heap (cW ad cA sA ta ba na gi rh (some (tb 0)) g_sort g_size g_from g_to g_level g_full a_tape a_hAt a_hMany a_tAt a_tMany a_least a_place a_to a_order a_fails a_sKeys a_sRow a_sSlots a_bKeys a_bRow a_bSlots a_easy a_wants a_wantedBy a_ring a_carried a_latest v_taped v_faultKind v_faultPlace v_x v_ordered v_sought v_lastSought v_hMoved v_hWithout v_tMoved v_tWithout v_places v_elsewhere v_sMany v_bMany v_year y_lies a_rsort a_rmany a_nums pl) H locs → lv_has ls 7 [(0, .ref (ad 7)), (1, .int p1), (4, .int x_63), (5, .int x_64)] → W p l e rm_X4_bears_t s m args below meth c H locs 0 0 Q (F0 m 8 ls []) := by
    intro n
    induction n with
    | zero =>
      intro x_63 x_64 hN
      exact absurd hN loopN_zero
    | succ n ih =>
      intro x_63 x_64 hN H locs ls hH hl
      obtain ⟨yy8, hB8, hY8⟩ := loopN_succ hN
      have hF : FX4_bears_b8 a_tAt u p1 x_63 x_64 = some yy8 := hB8
      delta FX4_bears_b8 at hF
      refine lv_iload hx hb dX4_bears_8 (lv_at hl 3 rfl) ?_
      refine lv_if_lt (tgt := 68) hx hb dX4_bears_10 rfl (fun c_65 => ?_) (fun c_65 => ?_)
      · have hF := itp c_65 hF
        obtain rfl := Option.some.inj hF
        exact k8_1 hY8 _ _ _ hH (lv_sub hl [] rfl)
      · have hF := itn c_65 hF
        refine lv_aload_n hx hb dX4_bears_13 rfl (lv_at hl 0 rfl) ?_
        refine cg_Y_Stacks_stkt_at hX hK hNW hH dX4_bears_14 ?_
        refine lv_iconst (v := 3) hx hb dX4_bears_17 kyi_3 ?_
        refine lv_iload_n hx hb dX4_bears_18 rfl (lv_at hl 1 rfl) ?_
        refine lv_imul hx hb dX4_bears_19 ?_
        refine lv_iload hx hb dX4_bears_20 (lv_at hl 3 rfl) ?_
        refine lv_iadd hx hb dX4_bears_22 ?_
        obtain ⟨x_66, he, hF⟩ := bd1e hF
        refine cl_tAt hX hK hH he dX4_bears_23 ?_
        refine lv_istore (lv' := [(6, .int x_66), (0, .ref (ad 7)), (1, .int p1), (4, .int x_63), (5, .int x_64)]) hx hb dX4_bears_24 hl (by decide) rfl (fun ls hl => ?_)
        refine lv_iload hx hb dX4_bears_26 (lv_at hl 3 rfl) ?_
        refine lv_aload_n hx hb dX4_bears_28 rfl (lv_at hl 1 rfl) ?_
        refine cg_Y_Stacks_stkt_town hX hK hNW hH dX4_bears_29 ?_
        refine cg_Y_Stacks_town_stones hU (fun _ h => cW_pl h) hX hK hNW hH dX4_bears_32 ?_
        refine lv_iload hx hb dX4_bears_35 (lv_at hl 0 rfl) ?_
        obtain ⟨hg_67, hF⟩ := bd0e hF
        refine mxV hX hK hEv hE0 hH (met_J2_get hE.1 rfl hU.stones hg_67 (fun _ h => cW_pl h)) (precv (fun _ h => cW_pl h) hK hH 17 rfl hU.stones.obj) gw_StoneYear_Stacks_56 hd_yJ2_get ⟨Nat.le_of_ble_eq_true rfl, Nat.le_of_ble_eq_true rfl⟩ rfl rfl hl (Nat.le_of_ble_eq_true rfl) dX4_bears_37 ⟨Nat.le_of_ble_eq_true rfl, Nat.le_of_ble_eq_true rfl⟩ (fun w2 H locs hw hH => ?_)
        subst hw
        refine va_castE hx hb hown (hts _ q1057) (precv (fun _ h => cW_pl h) hK hH 11 rfl ⟨_, hU.stone (alg_lt hg_67)⟩) dX4_bears_40 ?_
        refine cg_Y_Stacks_stone_bears hU (alg_lt hg_67) (fun _ h => cW_pl h) hX hK hNW hH dX4_bears_43 ?_
        refine lv_icmp_le (tgt := 51) hx hb dX4_bears_46 rfl (fun c_68 => ?_) (fun c_68 => ?_)
        · have hF := itp c_68 hF
          refine lv_iload hx hb dX4_bears_51 (lv_at hl 3 rfl) ?_
          refine lv_aload_n hx hb dX4_bears_53 rfl (lv_at hl 1 rfl) ?_
          refine lv_iload hx hb dX4_bears_54 (lv_at hl 0 rfl) ?_
          obtain ⟨x_69, he, hF⟩ := bd1e hF
          refine mxV hX hK hEv hE0 hH (met_X4_size_t hE hPO hU he) (crecv hK hH 7 4 rfl rfl) gw_StoneYear_Stacks_67 hd_yX4_size ⟨Nat.le_of_ble_eq_true rfl, Nat.le_of_ble_eq_true rfl⟩ rfl rfl hl (Nat.le_of_ble_eq_true rfl) dX4_bears_56 ⟨Nat.le_of_ble_eq_true rfl, Nat.le_of_ble_eq_true rfl⟩ (fun w2 H locs hw hH => ?_)
          subst hw
          refine lv_iadd hx hb dX4_bears_59 ?_
          refine lv_istore (lv' := [(4, .int (x_63 + x_69)), (6, .int x_66), (0, .ref (ad 7)), (1, .int p1), (5, .int x_64)]) hx hb dX4_bears_60 hl (by decide) rfl (fun ls hl => ?_)
          refine lv_iinc (v := (x_64 + (-1))) (lv' := [(5, .int (x_64 + (-1))), (4, .int (x_63 + x_69)), (6, .int x_66), (0, .ref (ad 7)), (1, .int p1)]) hx hb dX4_bears_62 hl (k := 4) rfl (syc kyi_m1) (by decide) rfl (fun ls hl => ?_)
          refine lv_goto (tgt := 8) hx hb dX4_bears_65 rfl ?_
          obtain rfl := Option.some.inj hF
          exact ih (x_63 + x_69) (x_64 + (-1)) hY8 _ _ _ hH (lv_sub hl [3, 4, 1, 0] rfl)
        · have hF := itn c_68 hF
          obtain rfl := Option.some.inj hF
          exact k8_0 hY8 _ _ _ hH (lv_sub hl [] rfl)
  exact l8 nn8 p3 (p2 - 1) en8 _ _ _ hH (lv_sub hl [2, 3, 1, 0] rfl)
abbrev rm_X4_top_h : Room := { frames := 0, cells := 0, slots := 0, locals := 0 }
set_option maxHeartbeats 4000000 in
theorem met_X4_top_h {l : Launch} {D : va_G} {ad : Nat → Nat} {cA : Nat → ClassId} {sA ta ba na : Nat → Nat} {gi : Nat → Option Nat} {rt : Option Nat} {g_sort : Int32} {g_size : Int32} {g_from : Int32} {g_to : Int32} {g_level : Int32} {g_full : Int32} {a_tape : Nat → Int32} {a_hAt : Nat → Int32} {a_hMany : Nat → Int32} {a_tAt : Nat → Int32} {a_tMany : Nat → Int32} {a_least : Nat → Int32} {a_place : Nat → Int32} {a_to : Nat → Int32} {a_order : Nat → Int32} {a_fails : Nat → Int32} {a_sKeys : Nat → Int64} {a_sRow : Nat → Int64} {a_sSlots : Nat → Int32} {a_bKeys : Nat → Int64} {a_bRow : Nat → Int64} {a_bSlots : Nat → Int32} {a_easy : Nat → Int32} {a_wants : Nat → Int32} {a_wantedBy : Nat → Int32} {a_ring : Nat → Int32} {a_carried : Nat → Int32} {a_latest : Nat → Int32} {v_taped : Int32} {v_faultKind : Int32} {v_faultPlace : Int32} {v_x : Int32} {v_ordered : Int32} {v_sought : Int32} {v_lastSought : Int32} {v_hMoved : Int32} {v_hWithout : Int32} {v_tMoved : Int32} {v_tWithout : Int32} {v_places : Int32} {v_elsewhere : Int32} {v_sMany : Int32} {v_bMany : Int32} {v_year : Int32} {y_lies : Int64} {a_rsort : Nat → Int32} {a_rmany : Nat → Int32} {a_nums : Nat → Nat → Int64} {t : Nat → Int32} {nb : Int32} {bv : Nat → Int32 → Int32 → Int32 → Int32 → Int32 → Int32 → Bool} {pl : va_W} {tb : Nat → Nat} {u : Nat → Int32}  {p1 : Int32} {res : Int32} {E : EvT} (hE : EvN E) (hPO : PO cA pl ta ba t nb bv) (hU : TownAt cA pl tb u) (hF : FX4_top a_hAt a_hMany p1 = some res) : MX l yX4_top (ws_ yX4_top cX4_top 2 (Option.some Jvm.ClassFile.FieldType.int)) rm_X4_top_h D vwA (cT cA) E [.ref (ad 4), .int p1] (cW ad cA sA ta ba na gi (some (tb 0)) rt g_sort g_size g_from g_to g_level g_full a_tape a_hAt a_hMany a_tAt a_tMany a_least a_place a_to a_order a_fails a_sKeys a_sRow a_sSlots a_bKeys a_bRow a_bSlots a_easy a_wants a_wantedBy a_ring a_carried a_latest v_taped v_faultKind v_faultPlace v_x v_ordered v_sought v_lastSought v_hMoved v_hWithout v_tMoved v_tWithout v_places v_elsewhere v_sMany v_bMany v_year y_lies a_rsort a_rmany a_nums pl) (fun z => z = (cW ad cA sA ta ba na gi (some (tb 0)) rt g_sort g_size g_from g_to g_level g_full a_tape a_hAt a_hMany a_tAt a_tMany a_least a_place a_to a_order a_fails a_sKeys a_sRow a_sSlots a_bKeys a_bRow a_bSlots a_easy a_wants a_wantedBy a_ring a_carried a_latest v_taped v_faultKind v_faultPlace v_x v_ordered v_sought v_lastSought v_hMoved v_hWithout v_tMoved v_tWithout v_places v_elsewhere v_sMany v_bMany v_year y_lies a_rsort a_rmany a_nums pl)) (some (.int res)) := by
  refine MX.ofI (by decide) (Nat.le_of_ble_eq_true rfl) ?_
  intro p e s m args below meth c Q A hX hK hE0 hname hret H locs ls hH hl
  have hX : CallFix p m c cX4_top 2 s args lw_all RX4 := hX
  have hx := hX.1
  have hb := hX.2.1
  have hown := hX.2.2.2.1
  have hts := hX.2.2.2.2
  have hl : lv_has ls 2 [(0, .ref (ad 4)), (1, .int p1)] := hl
  have hEv := hE.1
  have hNW := hE.2.1 _ _ _ hE0
  have hT := hPO.1
  have hB := hPO.2
  delta FX4_top at hF
  refine lv_aload_n hx hb dX4_top_0 rfl (lv_at hl 0 rfl) ?_
  refine cg_Y_Stacks_stkh_at hX hK hNW hH dX4_top_1 ?_
  refine lv_iconst (v := 3) hx hb dX4_top_4 kyi_3 ?_
  refine lv_iload_n hx hb dX4_top_5 rfl (lv_at hl 1 rfl) ?_
  refine lv_imul hx hb dX4_top_6 ?_
  refine lv_aload_n hx hb dX4_top_7 rfl (lv_at hl 0 rfl) ?_
  refine cg_Y_Stacks_stkh_many hX hK hNW hH dX4_top_8 ?_
  refine lv_iload_n hx hb dX4_top_11 rfl (lv_at hl 1 rfl) ?_
  obtain ⟨x_56, he, hF⟩ := bd1e hF
  refine cl_hMany hX hK hH he dX4_top_12 ?_
  refine lv_iadd hx hb dX4_top_13 ?_
  refine lv_iconst (v := 1) hx hb dX4_top_14 kyi_1 ?_
  refine lv_isub hx hb dX4_top_15 ?_
  obtain ⟨x_57, he, hF⟩ := bd1e hF
  refine cl_hAt hX hK hH he dX4_top_16 ?_
  obtain rfl := Option.some.inj hF
  exact hret _ _ _ _ _ rfl hH dX4_top_17
abbrev rm_X4_top_t : Room := { frames := 0, cells := 0, slots := 0, locals := 0 }
set_option maxHeartbeats 4000000 in
theorem met_X4_top_t {l : Launch} {D : va_G} {ad : Nat → Nat} {cA : Nat → ClassId} {sA ta ba na : Nat → Nat} {gi : Nat → Option Nat} {rh : Option Nat} {g_sort : Int32} {g_size : Int32} {g_from : Int32} {g_to : Int32} {g_level : Int32} {g_full : Int32} {a_tape : Nat → Int32} {a_hAt : Nat → Int32} {a_hMany : Nat → Int32} {a_tAt : Nat → Int32} {a_tMany : Nat → Int32} {a_least : Nat → Int32} {a_place : Nat → Int32} {a_to : Nat → Int32} {a_order : Nat → Int32} {a_fails : Nat → Int32} {a_sKeys : Nat → Int64} {a_sRow : Nat → Int64} {a_sSlots : Nat → Int32} {a_bKeys : Nat → Int64} {a_bRow : Nat → Int64} {a_bSlots : Nat → Int32} {a_easy : Nat → Int32} {a_wants : Nat → Int32} {a_wantedBy : Nat → Int32} {a_ring : Nat → Int32} {a_carried : Nat → Int32} {a_latest : Nat → Int32} {v_taped : Int32} {v_faultKind : Int32} {v_faultPlace : Int32} {v_x : Int32} {v_ordered : Int32} {v_sought : Int32} {v_lastSought : Int32} {v_hMoved : Int32} {v_hWithout : Int32} {v_tMoved : Int32} {v_tWithout : Int32} {v_places : Int32} {v_elsewhere : Int32} {v_sMany : Int32} {v_bMany : Int32} {v_year : Int32} {y_lies : Int64} {a_rsort : Nat → Int32} {a_rmany : Nat → Int32} {a_nums : Nat → Nat → Int64} {t : Nat → Int32} {nb : Int32} {bv : Nat → Int32 → Int32 → Int32 → Int32 → Int32 → Int32 → Bool} {pl : va_W} {tb : Nat → Nat} {u : Nat → Int32}  {p1 : Int32} {res : Int32} {E : EvT} (hE : EvN E) (hPO : PO cA pl ta ba t nb bv) (hU : TownAt cA pl tb u) (hF : FX4_top a_tAt a_tMany p1 = some res) : MX l yX4_top (ws_ yX4_top cX4_top 2 (Option.some Jvm.ClassFile.FieldType.int)) rm_X4_top_t D vwA (cT cA) E [.ref (ad 7), .int p1] (cW ad cA sA ta ba na gi rh (some (tb 0)) g_sort g_size g_from g_to g_level g_full a_tape a_hAt a_hMany a_tAt a_tMany a_least a_place a_to a_order a_fails a_sKeys a_sRow a_sSlots a_bKeys a_bRow a_bSlots a_easy a_wants a_wantedBy a_ring a_carried a_latest v_taped v_faultKind v_faultPlace v_x v_ordered v_sought v_lastSought v_hMoved v_hWithout v_tMoved v_tWithout v_places v_elsewhere v_sMany v_bMany v_year y_lies a_rsort a_rmany a_nums pl) (fun z => z = (cW ad cA sA ta ba na gi rh (some (tb 0)) g_sort g_size g_from g_to g_level g_full a_tape a_hAt a_hMany a_tAt a_tMany a_least a_place a_to a_order a_fails a_sKeys a_sRow a_sSlots a_bKeys a_bRow a_bSlots a_easy a_wants a_wantedBy a_ring a_carried a_latest v_taped v_faultKind v_faultPlace v_x v_ordered v_sought v_lastSought v_hMoved v_hWithout v_tMoved v_tWithout v_places v_elsewhere v_sMany v_bMany v_year y_lies a_rsort a_rmany a_nums pl)) (some (.int res)) := by
  refine MX.ofI (by decide) (Nat.le_of_ble_eq_true rfl) ?_
  intro p e s m args below meth c Q A hX hK hE0 hname hret H locs ls hH hl
  have hX : CallFix p m c cX4_top 2 s args lw_all RX4 := hX
  have hx := hX.1
  have hb := hX.2.1
  have hown := hX.2.2.2.1
  have hts := hX.2.2.2.2
  have hl : lv_has ls 2 [(0, .ref (ad 7)), (1, .int p1)] := hl
  have hEv := hE.1
  have hNW := hE.2.1 _ _ _ hE0
  have hT := hPO.1
  have hB := hPO.2
  delta FX4_top at hF
  refine lv_aload_n hx hb dX4_top_0 rfl (lv_at hl 0 rfl) ?_
  refine cg_Y_Stacks_stkt_at hX hK hNW hH dX4_top_1 ?_
  refine lv_iconst (v := 3) hx hb dX4_top_4 kyi_3 ?_
  refine lv_iload_n hx hb dX4_top_5 rfl (lv_at hl 1 rfl) ?_
  refine lv_imul hx hb dX4_top_6 ?_
  refine lv_aload_n hx hb dX4_top_7 rfl (lv_at hl 0 rfl) ?_
  refine cg_Y_Stacks_stkt_many hX hK hNW hH dX4_top_8 ?_
  refine lv_iload_n hx hb dX4_top_11 rfl (lv_at hl 1 rfl) ?_
  obtain ⟨x_56, he, hF⟩ := bd1e hF
  refine cl_tMany hX hK hH he dX4_top_12 ?_
  refine lv_iadd hx hb dX4_top_13 ?_
  refine lv_iconst (v := 1) hx hb dX4_top_14 kyi_1 ?_
  refine lv_isub hx hb dX4_top_15 ?_
  obtain ⟨x_57, he, hF⟩ := bd1e hF
  refine cl_tAt hX hK hH he dX4_top_16 ?_
  obtain rfl := Option.some.inj hF
  exact hret _ _ _ _ _ rfl hH dX4_top_17
abbrev rm_X4_isBarred_h : Room := { frames := 260, cells := 0, slots := 0, locals := 6000 }
set_option maxHeartbeats 4000000 in
theorem met_X4_isBarred_h {l : Launch} {D : va_G} {ad : Nat → Nat} {cA : Nat → ClassId} {sA ta ba na : Nat → Nat} {gi : Nat → Option Nat} {rt : Option Nat} {g_sort : Int32} {g_size : Int32} {g_from : Int32} {g_to : Int32} {g_level : Int32} {g_full : Int32} {a_tape : Nat → Int32} {a_hAt : Nat → Int32} {a_hMany : Nat → Int32} {a_tAt : Nat → Int32} {a_tMany : Nat → Int32} {a_least : Nat → Int32} {a_place : Nat → Int32} {a_to : Nat → Int32} {a_order : Nat → Int32} {a_fails : Nat → Int32} {a_sKeys : Nat → Int64} {a_sRow : Nat → Int64} {a_sSlots : Nat → Int32} {a_bKeys : Nat → Int64} {a_bRow : Nat → Int64} {a_bSlots : Nat → Int32} {a_easy : Nat → Int32} {a_wants : Nat → Int32} {a_wantedBy : Nat → Int32} {a_ring : Nat → Int32} {a_carried : Nat → Int32} {a_latest : Nat → Int32} {v_taped : Int32} {v_faultKind : Int32} {v_faultPlace : Int32} {v_x : Int32} {v_ordered : Int32} {v_sought : Int32} {v_lastSought : Int32} {v_hMoved : Int32} {v_hWithout : Int32} {v_tMoved : Int32} {v_tWithout : Int32} {v_places : Int32} {v_elsewhere : Int32} {v_sMany : Int32} {v_bMany : Int32} {v_year : Int32} {y_lies : Int64} {a_rsort : Nat → Int32} {a_rmany : Nat → Int32} {a_nums : Nat → Nat → Int64} {t : Nat → Int32} {nb : Int32} {bv : Nat → Int32 → Int32 → Int32 → Int32 → Int32 → Int32 → Bool} {pl : va_W} {tb : Nat → Nat} {u : Nat → Int32}  {p1 : Int32} {p2 : Int32} {p3 : Int32} {res : Bool} {E : EvT} (hE : EvN E) (hPO : PO cA pl ta ba t nb bv) (hU : TownAt cA pl tb u) (hF : FX4_isBarred u a_hAt a_hMany nb bv p1 p2 p3 = some res) : MX l yX4_isBarred (ws_ yX4_isBarred cX4_isBarred 6 (Option.some Jvm.ClassFile.FieldType.boolean)) rm_X4_isBarred_h D vwA (cT cA) E [.ref (ad 4), .int p1, .int p2, .int p3] (cW ad cA sA ta ba na gi (some (tb 0)) rt g_sort g_size g_from g_to g_level g_full a_tape a_hAt a_hMany a_tAt a_tMany a_least a_place a_to a_order a_fails a_sKeys a_sRow a_sSlots a_bKeys a_bRow a_bSlots a_easy a_wants a_wantedBy a_ring a_carried a_latest v_taped v_faultKind v_faultPlace v_x v_ordered v_sought v_lastSought v_hMoved v_hWithout v_tMoved v_tWithout v_places v_elsewhere v_sMany v_bMany v_year y_lies a_rsort a_rmany a_nums pl) (fun z => ∃ g_sort' : Int32, ∃ g_size' : Int32, ∃ g_level' : Int32, z = (cW ad cA sA ta ba na gi (some (tb 0)) rt g_sort' g_size' p1 p2 g_level' p3 a_tape a_hAt a_hMany a_tAt a_tMany a_least a_place a_to a_order a_fails a_sKeys a_sRow a_sSlots a_bKeys a_bRow a_bSlots a_easy a_wants a_wantedBy a_ring a_carried a_latest v_taped v_faultKind v_faultPlace v_x v_ordered v_sought v_lastSought v_hMoved v_hWithout v_tMoved v_tWithout v_places v_elsewhere v_sMany v_bMany v_year y_lies a_rsort a_rmany a_nums pl)) (some (.int (b2i res))) := by
  refine MX.ofZ (by decide) (Nat.le_of_ble_eq_true rfl) ?_
  intro p e s m args below meth c Q A hX hK hE0 hname hret H locs ls hH hl
  have hX : CallFix p m c cX4_isBarred 6 s args lw_all RX4 := hX
  have hx := hX.1
  have hb := hX.2.1
  have hown := hX.2.2.2.1
  have hts := hX.2.2.2.2
  have hl : lv_has ls 6 [(0, .ref (ad 4)), (1, .int p1), (2, .int p2), (3, .int p3)] := hl
  have hEv := hE.1
  have hNW := hE.2.1 _ _ _ hE0
  have hT := hPO.1
  have hB := hPO.2
  delta FX4_isBarred at hF
  refine lv_aload_n hx hb dX4_isBarred_0 rfl (lv_at hl 0 rfl) ?_
  refine cg_Y_Stacks_stkh_town hX hK hNW hH dX4_isBarred_1 ?_
  refine cg_Y_Stacks_town_stones hU (fun _ h => cW_pl h) hX hK hNW hH dX4_isBarred_4 ?_
  refine lv_aload_n hx hb dX4_isBarred_7 rfl (lv_at hl 0 rfl) ?_
  refine lv_iload_n hx hb dX4_isBarred_8 rfl (lv_at hl 1 rfl) ?_
  obtain ⟨x_58, he, hF⟩ := bd1e hF
  refine mxV hX hK hEv hE0 hH (met_X4_top_h hE hPO hU he) (crecv hK hH 4 4 rfl rfl) gw_StoneYear_Stacks_82 hd_yX4_top ⟨Nat.le_of_ble_eq_true rfl, Nat.le_of_ble_eq_true rfl⟩ rfl rfl hl (Nat.le_of_ble_eq_true rfl) dX4_isBarred_9 ⟨Nat.le_of_ble_eq_true rfl, Nat.le_of_ble_eq_true rfl⟩ (fun w2 H locs hw hH => ?_)
  subst hw
  obtain ⟨hg_59, hF⟩ := bd0e hF
  refine mxV hX hK hEv hE0 hH (met_J2_get hE.1 rfl hU.stones hg_59 (fun _ h => cW_pl h)) (precv (fun _ h => cW_pl h) hK hH 17 rfl hU.stones.obj) gw_StoneYear_Stacks_56 hd_yJ2_get ⟨Nat.le_of_ble_eq_true rfl, Nat.le_of_ble_eq_true rfl⟩ rfl rfl hl (Nat.le_of_ble_eq_true rfl) dX4_isBarred_12 ⟨Nat.le_of_ble_eq_true rfl, Nat.le_of_ble_eq_true rfl⟩ (fun w2 H locs hw hH => ?_)
  subst hw
  refine va_castE hx hb hown (hts _ q1057) (precv (fun _ h => cW_pl h) hK hH 11 rfl ⟨_, hU.stone (alg_lt hg_59)⟩) dX4_isBarred_15 ?_
  refine lv_astore (lv' := [(4, .ref (tb (30 + x_58.toNatClampNeg))), (0, .ref (ad 4)), (1, .int p1), (2, .int p2), (3, .int p3)]) hx hb dX4_isBarred_18 hl (by decide) rfl (fun ls hl => ?_)
  refine lv_aload_n hx hb dX4_isBarred_20 rfl (lv_at hl 1 rfl) ?_
  refine cg_Y_Stacks_stkh_this0 hX hK hNW hH dX4_isBarred_21 ?_
  refine cg_Y_Stacks_this_going hX hK hNW hH dX4_isBarred_24 ?_
  refine lv_aload hx hb dX4_isBarred_27 (lv_at hl 0 rfl) ?_
  refine cg_Y_Stacks_stone_sort hU (alg_lt hg_59) (fun _ h => cW_pl h) hX hK hNW hH dX4_isBarred_29 ?_
  refine cp_Y_Stacks_going_sort hX hK hNW hH dX4_isBarred_32 (fun H locs hH => ?_)
  refine lv_aload_n hx hb dX4_isBarred_35 rfl (lv_at hl 1 rfl) ?_
  refine cg_Y_Stacks_stkh_this0 hX hK hNW hH dX4_isBarred_36 ?_
  refine cg_Y_Stacks_this_going hX hK hNW hH dX4_isBarred_39 ?_
  refine lv_aload hx hb dX4_isBarred_42 (lv_at hl 0 rfl) ?_
  refine cg_Y_Stacks_stone_size hU (alg_lt hg_59) (fun _ h => cW_pl h) hX hK hNW hH dX4_isBarred_44 ?_
  refine cp_Y_Stacks_going_size hX hK hNW hH dX4_isBarred_47 (fun H locs hH => ?_)
  refine lv_aload_n hx hb dX4_isBarred_50 rfl (lv_at hl 1 rfl) ?_
  refine cg_Y_Stacks_stkh_this0 hX hK hNW hH dX4_isBarred_51 ?_
  refine cg_Y_Stacks_this_going hX hK hNW hH dX4_isBarred_54 ?_
  refine lv_iload_n hx hb dX4_isBarred_57 rfl (lv_at hl 2 rfl) ?_
  refine cp_Y_Stacks_going_from hX hK hNW hH dX4_isBarred_58 (fun H locs hH => ?_)
  refine lv_aload_n hx hb dX4_isBarred_61 rfl (lv_at hl 1 rfl) ?_
  refine cg_Y_Stacks_stkh_this0 hX hK hNW hH dX4_isBarred_62 ?_
  refine cg_Y_Stacks_this_going hX hK hNW hH dX4_isBarred_65 ?_
  refine lv_iload_n hx hb dX4_isBarred_68 rfl (lv_at hl 3 rfl) ?_
  refine cp_Y_Stacks_going_to hX hK hNW hH dX4_isBarred_69 (fun H locs hH => ?_)
  refine lv_aload_n hx hb dX4_isBarred_72 rfl (lv_at hl 1 rfl) ?_
  refine cg_Y_Stacks_stkh_this0 hX hK hNW hH dX4_isBarred_73 ?_
  refine cg_Y_Stacks_this_going hX hK hNW hH dX4_isBarred_76 ?_
  refine lv_aload_n hx hb dX4_isBarred_79 rfl (lv_at hl 1 rfl) ?_
  refine cg_Y_Stacks_stkh_many hX hK hNW hH dX4_isBarred_80 ?_
  refine lv_iload_n hx hb dX4_isBarred_83 rfl (lv_at hl 2 rfl) ?_
  obtain ⟨x_60, he, hF⟩ := bd1e hF
  refine cl_hMany hX hK hH he dX4_isBarred_84 ?_
  refine lv_iconst (v := 1) hx hb dX4_isBarred_85 kyi_1 ?_
  refine lv_isub hx hb dX4_isBarred_86 ?_
  refine cp_Y_Stacks_going_level hX hK hNW hH dX4_isBarred_87 (fun H locs hH => ?_)
  refine lv_aload_n hx hb dX4_isBarred_90 rfl (lv_at hl 1 rfl) ?_
  refine cg_Y_Stacks_stkh_this0 hX hK hNW hH dX4_isBarred_91 ?_
  refine cg_Y_Stacks_this_going hX hK hNW hH dX4_isBarred_94 ?_
  refine lv_iload_n hx hb dX4_isBarred_97 rfl (lv_at hl 4 rfl) ?_
  refine cp_Y_Stacks_going_full hX hK hNW hH dX4_isBarred_98 (fun H locs hH => ?_)
  refine lv_iconst (v := 0) hx hb dX4_isBarred_101 kyi_0 ?_
  refine lv_istore (lv' := [(5, .int 0), (4, .ref (tb (30 + x_58.toNatClampNeg))), (0, .ref (ad 4)), (1, .int p1), (2, .int p2), (3, .int p3)]) hx hb dX4_isBarred_102 hl (by decide) rfl (fun ls hl => ?_)
  obtain ⟨xx104, ee104, kk104_0, kk104_1⟩ := bdS2e hF
  have k104_0 : xx104 = (.inl ()) → ∀ (H : Heap) (locs : List Loc) (ls : Array Slot), MH D vwA A s.heap (cW ad cA sA ta ba na gi (some (tb 0)) rt (u (7 + x_58.toNatClampNeg)) (u (15 + x_58.toNatClampNeg)) p1 p2 (x_60 - 1) p3 a_tape a_hAt a_hMany a_tAt a_tMany a_least a_place a_to a_order a_fails a_sKeys a_sRow a_sSlots a_bKeys a_bRow a_bSlots a_easy a_wants a_wantedBy a_ring a_carried a_latest v_taped v_faultKind v_faultPlace v_x v_ordered v_sought v_lastSought v_hMoved v_hWithout v_tMoved v_tWithout v_places v_elsewhere v_sMany v_bMany v_year y_lies a_rsort a_rmany a_nums pl) H locs → lv_has ls 6 [] → W p l e rm_X4_isBarred_h s m args below meth c H locs 0 0 Q (F0 m 153 ls []) := by
    intro hxx H locs ls hH hl
    have hF := un0e (kk104_0 () hxx)
    refine lv_iconst (v := 1) hx hb dX4_isBarred_153 kyi_1 ?_
    obtain rfl := Option.some.inj hF
    exact hret _ _ _ _ _ ⟨_, _, _, rfl⟩ hH dX4_isBarred_154
  have k104_1 : xx104 = (.inr ()) → ∀ (H : Heap) (locs : List Loc) (ls : Array Slot), MH D vwA A s.heap (cW ad cA sA ta ba na gi (some (tb 0)) rt (u (7 + x_58.toNatClampNeg)) (u (15 + x_58.toNatClampNeg)) p1 p2 (x_60 - 1) p3 a_tape a_hAt a_hMany a_tAt a_tMany a_least a_place a_to a_order a_fails a_sKeys a_sRow a_sSlots a_bKeys a_bRow a_bSlots a_easy a_wants a_wantedBy a_ring a_carried a_latest v_taped v_faultKind v_faultPlace v_x v_ordered v_sought v_lastSought v_hMoved v_hWithout v_tMoved v_tWithout v_places v_elsewhere v_sMany v_bMany v_year y_lies a_rsort a_rmany a_nums pl) H locs → lv_has ls 6 [] → W p l e rm_X4_isBarred_h s m args below meth c H locs 0 0 Q (F0 m 161 ls []) := by
    intro hxx H locs ls hH hl
    have hF := un0e (kk104_1 () hxx)
    refine lv_iconst (v := 0) hx hb dX4_isBarred_161 kyi_0 ?_
    obtain rfl := Option.some.inj hF
    exact hret _ _ _ _ _ ⟨_, _, _, rfl⟩ hH dX4_isBarred_162
  obtain ⟨nn104, en104⟩ := loopC_some ee104
  have l104 : ∀ (n : Nat) (x_64 : Int32), loopN (fun s => FX4_isBarred_b104 nb bv u p1 p2 p3 x_58 x_60 s) n x_64 = some xx104 → ∀ (H : Heap) (locs : List Loc) (ls : Array Slot), MH D vwA A s.heap (cW ad cA sA ta ba na gi (some (tb 0)) rt (u (7 + x_58.toNatClampNeg)) (u (15 + x_58.toNatClampNeg)) p1 p2 (x_60 - 1) p3 a_tape a_hAt a_hMany a_tAt a_tMany a_least a_place a_to a_order a_fails a_sKeys a_sRow a_sSlots a_bKeys a_bRow a_bSlots a_easy a_wants a_wantedBy a_ring a_carried a_latest v_taped v_faultKind v_faultPlace v_x v_ordered v_sought v_lastSought v_hMoved v_hWithout v_tMoved v_tWithout v_places v_elsewhere v_sMany v_bMany v_year y_lies a_rsort a_rmany a_nums pl) H locs → lv_has ls 6 [(0, .ref (ad 4)), (5, .int x_64)] → W p l e rm_X4_isBarred_h s m args below meth c H locs 0 0 Q (F0 m 104 ls []) := by
    intro n
    induction n with
    | zero =>
      intro x_64 hN
      exact absurd hN loopN_zero
    | succ n ih =>
      intro x_64 hN H locs ls hH hl
      obtain ⟨yy104, hB104, hY104⟩ := loopN_succ hN
      have hF : FX4_isBarred_b104 nb bv u p1 p2 p3 x_58 x_60 x_64 = some yy104 := hB104
      delta FX4_isBarred_b104 at hF
      refine lv_iload hx hb dX4_isBarred_104 (lv_at hl 1 rfl) ?_
      refine lv_aload_n hx hb dX4_isBarred_106 rfl (lv_at hl 0 rfl) ?_
      refine cg_Y_Stacks_stkh_this0 hX hK hNW hH dX4_isBarred_107 ?_
      refine cg_Y_Stacks_this_s hX hK hNW hH dX4_isBarred_110 ?_
      refine cg_Y_Stacks_state_bars hX hK hNW hH dX4_isBarred_113 ?_
      refine mxV hX hK hEv hE0 hH (met_J2_size hE.1 hB.ls (fun _ h => cW_pl h)) (precv (fun _ h => cW_pl h) hK hH 17 rfl hB.ls.obj) gw_StoneYear_Stacks_39 hd_yJ2_size ⟨Nat.le_of_ble_eq_true rfl, Nat.le_of_ble_eq_true rfl⟩ rfl rfl hl (Nat.le_of_ble_eq_true rfl) dX4_isBarred_116 ⟨Nat.le_of_ble_eq_true rfl, Nat.le_of_ble_eq_true rfl⟩ (fun w2 H locs hw hH => ?_)
      subst hw
      refine lv_icmp_ge (tgt := 161) hx hb dX4_isBarred_119 rfl (fun c_65 => ?_) (fun c_65 => ?_)
      · have hF := itp c_65 hF
        obtain rfl := Option.some.inj hF
        exact k104_1 hY104 _ _ _ hH (lv_sub hl [] rfl)
      · have hF := itn c_65 hF
        refine lv_aload_n hx hb dX4_isBarred_122 rfl (lv_at hl 0 rfl) ?_
        refine cg_Y_Stacks_stkh_this0 hX hK hNW hH dX4_isBarred_123 ?_
        refine cg_Y_Stacks_this_s hX hK hNW hH dX4_isBarred_126 ?_
        refine cg_Y_Stacks_state_bars hX hK hNW hH dX4_isBarred_129 ?_
        refine lv_iload hx hb dX4_isBarred_132 (lv_at hl 1 rfl) ?_
        obtain ⟨hg_66, hF⟩ := bd0e hF
        refine mxV hX hK hEv hE0 hH (met_J2_get hE.1 rfl hB.ls hg_66 (fun _ h => cW_pl h)) (precv (fun _ h => cW_pl h) hK hH 17 rfl hB.ls.obj) gw_StoneYear_Stacks_56 hd_yJ2_get ⟨Nat.le_of_ble_eq_true rfl, Nat.le_of_ble_eq_true rfl⟩ rfl rfl hl (Nat.le_of_ble_eq_true rfl) dX4_isBarred_134 ⟨Nat.le_of_ble_eq_true rfl, Nat.le_of_ble_eq_true rfl⟩ (fun w2 H locs hw hH => ?_)
        subst hw
        refine cc_fact hB (alg_lt hg_66) (fun _ h => cW_pl h) hX hK hNW hH (hts _ q1066) dX4_isBarred_137 ?_
        refine lv_aload_n hx hb dX4_isBarred_140 rfl (lv_at hl 0 rfl) ?_
        refine cg_Y_Stacks_stkh_this0 hX hK hNW hH dX4_isBarred_141 ?_
        refine cg_Y_Stacks_this_going hX hK hNW hH dX4_isBarred_144 ?_
        refine ck_fact hPO hB (alg_lt hg_66) hX hK hE hE0 hNW hH q1067 hl ⟨Nat.le_of_ble_eq_true rfl, Nat.le_of_ble_eq_true rfl⟩ ⟨Nat.le_of_ble_eq_true rfl, Nat.le_of_ble_eq_true rfl⟩ (Nat.le_of_ble_eq_true rfl) dX4_isBarred_147 (fun H locs hH => ?_)
        refine lv_if_eq (tgt := 155) hx hb dX4_isBarred_150 rfl (fun c_67 => ?_) (fun c_67 => ?_)
        · have hF := itp c_67 hF
          refine lv_iinc (v := (x_64 + 1)) (lv' := [(5, .int (x_64 + 1)), (0, .ref (ad 4))]) hx hb dX4_isBarred_155 hl (k := 1) rfl (syc kyi_1) (by decide) rfl (fun ls hl => ?_)
          refine lv_goto (tgt := 104) hx hb dX4_isBarred_158 rfl ?_
          obtain rfl := Option.some.inj hF
          exact ih (x_64 + 1) hY104 _ _ _ hH (lv_sub hl [1, 0] rfl)
        · have hF := itn c_67 hF
          obtain rfl := Option.some.inj hF
          exact k104_0 hY104 _ _ _ hH (lv_sub hl [] rfl)
  exact l104 nn104 0 en104 _ _ _ hH (lv_sub hl [2, 0] rfl)
abbrev rm_X4_isBarred_t : Room := { frames := 260, cells := 0, slots := 0, locals := 6000 }
set_option maxHeartbeats 4000000 in
theorem met_X4_isBarred_t {l : Launch} {D : va_G} {ad : Nat → Nat} {cA : Nat → ClassId} {sA ta ba na : Nat → Nat} {gi : Nat → Option Nat} {rh : Option Nat} {g_sort : Int32} {g_size : Int32} {g_from : Int32} {g_to : Int32} {g_level : Int32} {g_full : Int32} {a_tape : Nat → Int32} {a_hAt : Nat → Int32} {a_hMany : Nat → Int32} {a_tAt : Nat → Int32} {a_tMany : Nat → Int32} {a_least : Nat → Int32} {a_place : Nat → Int32} {a_to : Nat → Int32} {a_order : Nat → Int32} {a_fails : Nat → Int32} {a_sKeys : Nat → Int64} {a_sRow : Nat → Int64} {a_sSlots : Nat → Int32} {a_bKeys : Nat → Int64} {a_bRow : Nat → Int64} {a_bSlots : Nat → Int32} {a_easy : Nat → Int32} {a_wants : Nat → Int32} {a_wantedBy : Nat → Int32} {a_ring : Nat → Int32} {a_carried : Nat → Int32} {a_latest : Nat → Int32} {v_taped : Int32} {v_faultKind : Int32} {v_faultPlace : Int32} {v_x : Int32} {v_ordered : Int32} {v_sought : Int32} {v_lastSought : Int32} {v_hMoved : Int32} {v_hWithout : Int32} {v_tMoved : Int32} {v_tWithout : Int32} {v_places : Int32} {v_elsewhere : Int32} {v_sMany : Int32} {v_bMany : Int32} {v_year : Int32} {y_lies : Int64} {a_rsort : Nat → Int32} {a_rmany : Nat → Int32} {a_nums : Nat → Nat → Int64} {t : Nat → Int32} {nb : Int32} {bv : Nat → Int32 → Int32 → Int32 → Int32 → Int32 → Int32 → Bool} {pl : va_W} {tb : Nat → Nat} {u : Nat → Int32}  {p1 : Int32} {p2 : Int32} {p3 : Int32} {res : Bool} {E : EvT} (hE : EvN E) (hPO : PO cA pl ta ba t nb bv) (hU : TownAt cA pl tb u) (hF : FX4_isBarred u a_tAt a_tMany nb bv p1 p2 p3 = some res) : MX l yX4_isBarred (ws_ yX4_isBarred cX4_isBarred 6 (Option.some Jvm.ClassFile.FieldType.boolean)) rm_X4_isBarred_t D vwA (cT cA) E [.ref (ad 7), .int p1, .int p2, .int p3] (cW ad cA sA ta ba na gi rh (some (tb 0)) g_sort g_size g_from g_to g_level g_full a_tape a_hAt a_hMany a_tAt a_tMany a_least a_place a_to a_order a_fails a_sKeys a_sRow a_sSlots a_bKeys a_bRow a_bSlots a_easy a_wants a_wantedBy a_ring a_carried a_latest v_taped v_faultKind v_faultPlace v_x v_ordered v_sought v_lastSought v_hMoved v_hWithout v_tMoved v_tWithout v_places v_elsewhere v_sMany v_bMany v_year y_lies a_rsort a_rmany a_nums pl) (fun z => ∃ g_sort' : Int32, ∃ g_size' : Int32, ∃ g_level' : Int32, z = (cW ad cA sA ta ba na gi rh (some (tb 0)) g_sort' g_size' p1 p2 g_level' p3 a_tape a_hAt a_hMany a_tAt a_tMany a_least a_place a_to a_order a_fails a_sKeys a_sRow a_sSlots a_bKeys a_bRow a_bSlots a_easy a_wants a_wantedBy a_ring a_carried a_latest v_taped v_faultKind v_faultPlace v_x v_ordered v_sought v_lastSought v_hMoved v_hWithout v_tMoved v_tWithout v_places v_elsewhere v_sMany v_bMany v_year y_lies a_rsort a_rmany a_nums pl)) (some (.int (b2i res))) := by
  refine MX.ofZ (by decide) (Nat.le_of_ble_eq_true rfl) ?_
  intro p e s m args below meth c Q A hX hK hE0 hname hret H locs ls hH hl
  have hX : CallFix p m c cX4_isBarred 6 s args lw_all RX4 := hX
  have hx := hX.1
  have hb := hX.2.1
  have hown := hX.2.2.2.1
  have hts := hX.2.2.2.2
  have hl : lv_has ls 6 [(0, .ref (ad 7)), (1, .int p1), (2, .int p2), (3, .int p3)] := hl
  have hEv := hE.1
  have hNW := hE.2.1 _ _ _ hE0
  have hT := hPO.1
  have hB := hPO.2
  delta FX4_isBarred at hF
  refine lv_aload_n hx hb dX4_isBarred_0 rfl (lv_at hl 0 rfl) ?_
  refine cg_Y_Stacks_stkt_town hX hK hNW hH dX4_isBarred_1 ?_
  refine cg_Y_Stacks_town_stones hU (fun _ h => cW_pl h) hX hK hNW hH dX4_isBarred_4 ?_
  refine lv_aload_n hx hb dX4_isBarred_7 rfl (lv_at hl 0 rfl) ?_
  refine lv_iload_n hx hb dX4_isBarred_8 rfl (lv_at hl 1 rfl) ?_
  obtain ⟨x_58, he, hF⟩ := bd1e hF
  refine mxV hX hK hEv hE0 hH (met_X4_top_t hE hPO hU he) (crecv hK hH 7 4 rfl rfl) gw_StoneYear_Stacks_82 hd_yX4_top ⟨Nat.le_of_ble_eq_true rfl, Nat.le_of_ble_eq_true rfl⟩ rfl rfl hl (Nat.le_of_ble_eq_true rfl) dX4_isBarred_9 ⟨Nat.le_of_ble_eq_true rfl, Nat.le_of_ble_eq_true rfl⟩ (fun w2 H locs hw hH => ?_)
  subst hw
  obtain ⟨hg_59, hF⟩ := bd0e hF
  refine mxV hX hK hEv hE0 hH (met_J2_get hE.1 rfl hU.stones hg_59 (fun _ h => cW_pl h)) (precv (fun _ h => cW_pl h) hK hH 17 rfl hU.stones.obj) gw_StoneYear_Stacks_56 hd_yJ2_get ⟨Nat.le_of_ble_eq_true rfl, Nat.le_of_ble_eq_true rfl⟩ rfl rfl hl (Nat.le_of_ble_eq_true rfl) dX4_isBarred_12 ⟨Nat.le_of_ble_eq_true rfl, Nat.le_of_ble_eq_true rfl⟩ (fun w2 H locs hw hH => ?_)
  subst hw
  refine va_castE hx hb hown (hts _ q1057) (precv (fun _ h => cW_pl h) hK hH 11 rfl ⟨_, hU.stone (alg_lt hg_59)⟩) dX4_isBarred_15 ?_
  refine lv_astore (lv' := [(4, .ref (tb (30 + x_58.toNatClampNeg))), (0, .ref (ad 7)), (1, .int p1), (2, .int p2), (3, .int p3)]) hx hb dX4_isBarred_18 hl (by decide) rfl (fun ls hl => ?_)
  refine lv_aload_n hx hb dX4_isBarred_20 rfl (lv_at hl 1 rfl) ?_
  refine cg_Y_Stacks_stkt_this0 hX hK hNW hH dX4_isBarred_21 ?_
  refine cg_Y_Stacks_this_going hX hK hNW hH dX4_isBarred_24 ?_
  refine lv_aload hx hb dX4_isBarred_27 (lv_at hl 0 rfl) ?_
  refine cg_Y_Stacks_stone_sort hU (alg_lt hg_59) (fun _ h => cW_pl h) hX hK hNW hH dX4_isBarred_29 ?_
  refine cp_Y_Stacks_going_sort hX hK hNW hH dX4_isBarred_32 (fun H locs hH => ?_)
  refine lv_aload_n hx hb dX4_isBarred_35 rfl (lv_at hl 1 rfl) ?_
  refine cg_Y_Stacks_stkt_this0 hX hK hNW hH dX4_isBarred_36 ?_
  refine cg_Y_Stacks_this_going hX hK hNW hH dX4_isBarred_39 ?_
  refine lv_aload hx hb dX4_isBarred_42 (lv_at hl 0 rfl) ?_
  refine cg_Y_Stacks_stone_size hU (alg_lt hg_59) (fun _ h => cW_pl h) hX hK hNW hH dX4_isBarred_44 ?_
  refine cp_Y_Stacks_going_size hX hK hNW hH dX4_isBarred_47 (fun H locs hH => ?_)
  refine lv_aload_n hx hb dX4_isBarred_50 rfl (lv_at hl 1 rfl) ?_
  refine cg_Y_Stacks_stkt_this0 hX hK hNW hH dX4_isBarred_51 ?_
  refine cg_Y_Stacks_this_going hX hK hNW hH dX4_isBarred_54 ?_
  refine lv_iload_n hx hb dX4_isBarred_57 rfl (lv_at hl 2 rfl) ?_
  refine cp_Y_Stacks_going_from hX hK hNW hH dX4_isBarred_58 (fun H locs hH => ?_)
  refine lv_aload_n hx hb dX4_isBarred_61 rfl (lv_at hl 1 rfl) ?_
  refine cg_Y_Stacks_stkt_this0 hX hK hNW hH dX4_isBarred_62 ?_
  refine cg_Y_Stacks_this_going hX hK hNW hH dX4_isBarred_65 ?_
  refine lv_iload_n hx hb dX4_isBarred_68 rfl (lv_at hl 3 rfl) ?_
  refine cp_Y_Stacks_going_to hX hK hNW hH dX4_isBarred_69 (fun H locs hH => ?_)
  refine lv_aload_n hx hb dX4_isBarred_72 rfl (lv_at hl 1 rfl) ?_
  refine cg_Y_Stacks_stkt_this0 hX hK hNW hH dX4_isBarred_73 ?_
  refine cg_Y_Stacks_this_going hX hK hNW hH dX4_isBarred_76 ?_
  refine lv_aload_n hx hb dX4_isBarred_79 rfl (lv_at hl 1 rfl) ?_
  refine cg_Y_Stacks_stkt_many hX hK hNW hH dX4_isBarred_80 ?_
  refine lv_iload_n hx hb dX4_isBarred_83 rfl (lv_at hl 2 rfl) ?_
  obtain ⟨x_60, he, hF⟩ := bd1e hF
  refine cl_tMany hX hK hH he dX4_isBarred_84 ?_
  refine lv_iconst (v := 1) hx hb dX4_isBarred_85 kyi_1 ?_
  refine lv_isub hx hb dX4_isBarred_86 ?_
  refine cp_Y_Stacks_going_level hX hK hNW hH dX4_isBarred_87 (fun H locs hH => ?_)
  refine lv_aload_n hx hb dX4_isBarred_90 rfl (lv_at hl 1 rfl) ?_
  refine cg_Y_Stacks_stkt_this0 hX hK hNW hH dX4_isBarred_91 ?_
  refine cg_Y_Stacks_this_going hX hK hNW hH dX4_isBarred_94 ?_
  refine lv_iload_n hx hb dX4_isBarred_97 rfl (lv_at hl 4 rfl) ?_
  refine cp_Y_Stacks_going_full hX hK hNW hH dX4_isBarred_98 (fun H locs hH => ?_)
  refine lv_iconst (v := 0) hx hb dX4_isBarred_101 kyi_0 ?_
  refine lv_istore (lv' := [(5, .int 0), (4, .ref (tb (30 + x_58.toNatClampNeg))), (0, .ref (ad 7)), (1, .int p1), (2, .int p2), (3, .int p3)]) hx hb dX4_isBarred_102 hl (by decide) rfl (fun ls hl => ?_)
  obtain ⟨xx104, ee104, kk104_0, kk104_1⟩ := bdS2e hF
  have k104_0 : xx104 = (.inl ()) → ∀ (H : Heap) (locs : List Loc) (ls : Array Slot), MH D vwA A s.heap (cW ad cA sA ta ba na gi rh (some (tb 0)) (u (7 + x_58.toNatClampNeg)) (u (15 + x_58.toNatClampNeg)) p1 p2 (x_60 - 1) p3 a_tape a_hAt a_hMany a_tAt a_tMany a_least a_place a_to a_order a_fails a_sKeys a_sRow a_sSlots a_bKeys a_bRow a_bSlots a_easy a_wants a_wantedBy a_ring a_carried a_latest v_taped v_faultKind v_faultPlace v_x v_ordered v_sought v_lastSought v_hMoved v_hWithout v_tMoved v_tWithout v_places v_elsewhere v_sMany v_bMany v_year y_lies a_rsort a_rmany a_nums pl) H locs → lv_has ls 6 [] → W p l e rm_X4_isBarred_t s m args below meth c H locs 0 0 Q (F0 m 153 ls []) := by
    intro hxx H locs ls hH hl
    have hF := un0e (kk104_0 () hxx)
    refine lv_iconst (v := 1) hx hb dX4_isBarred_153 kyi_1 ?_
    obtain rfl := Option.some.inj hF
    exact hret _ _ _ _ _ ⟨_, _, _, rfl⟩ hH dX4_isBarred_154
  have k104_1 : xx104 = (.inr ()) → ∀ (H : Heap) (locs : List Loc) (ls : Array Slot), MH D vwA A s.heap (cW ad cA sA ta ba na gi rh (some (tb 0)) (u (7 + x_58.toNatClampNeg)) (u (15 + x_58.toNatClampNeg)) p1 p2 (x_60 - 1) p3 a_tape a_hAt a_hMany a_tAt a_tMany a_least a_place a_to a_order a_fails a_sKeys a_sRow a_sSlots a_bKeys a_bRow a_bSlots a_easy a_wants a_wantedBy a_ring a_carried a_latest v_taped v_faultKind v_faultPlace v_x v_ordered v_sought v_lastSought v_hMoved v_hWithout v_tMoved v_tWithout v_places v_elsewhere v_sMany v_bMany v_year y_lies a_rsort a_rmany a_nums pl) H locs → lv_has ls 6 [] → W p l e rm_X4_isBarred_t s m args below meth c H locs 0 0 Q (F0 m 161 ls []) := by
    intro hxx H locs ls hH hl
    have hF := un0e (kk104_1 () hxx)
    refine lv_iconst (v := 0) hx hb dX4_isBarred_161 kyi_0 ?_
    obtain rfl := Option.some.inj hF
    exact hret _ _ _ _ _ ⟨_, _, _, rfl⟩ hH dX4_isBarred_162
  obtain ⟨nn104, en104⟩ := loopC_some ee104
  have l104 : ∀ (n : Nat) (x_64 : Int32), loopN (fun s => FX4_isBarred_b104 nb bv u p1 p2 p3 x_58 x_60 s) n x_64 = some xx104 → ∀ (H : Heap) (locs : List Loc) (ls : Array Slot), MH D vwA A s.heap (cW ad cA sA ta ba na gi rh (some (tb 0)) (u (7 + x_58.toNatClampNeg)) (u (15 + x_58.toNatClampNeg)) p1 p2 (x_60 - 1) p3 a_tape a_hAt a_hMany a_tAt a_tMany a_least a_place a_to a_order a_fails a_sKeys a_sRow a_sSlots a_bKeys a_bRow a_bSlots a_easy a_wants a_wantedBy a_ring a_carried a_latest v_taped v_faultKind v_faultPlace v_x v_ordered v_sought v_lastSought v_hMoved v_hWithout v_tMoved v_tWithout v_places v_elsewhere v_sMany v_bMany v_year y_lies a_rsort a_rmany a_nums pl) H locs → lv_has ls 6 [(0, .ref (ad 7)), (5, .int x_64)] → W p l e rm_X4_isBarred_t s m args below meth c H locs 0 0 Q (F0 m 104 ls []) := by
    intro n
    induction n with
    | zero =>
      intro x_64 hN
      exact absurd hN loopN_zero
    | succ n ih =>
      intro x_64 hN H locs ls hH hl
      obtain ⟨yy104, hB104, hY104⟩ := loopN_succ hN
      have hF : FX4_isBarred_b104 nb bv u p1 p2 p3 x_58 x_60 x_64 = some yy104 := hB104
      delta FX4_isBarred_b104 at hF
      refine lv_iload hx hb dX4_isBarred_104 (lv_at hl 1 rfl) ?_
      refine lv_aload_n hx hb dX4_isBarred_106 rfl (lv_at hl 0 rfl) ?_
      refine cg_Y_Stacks_stkt_this0 hX hK hNW hH dX4_isBarred_107 ?_
      refine cg_Y_Stacks_this_s hX hK hNW hH dX4_isBarred_110 ?_
      refine cg_Y_Stacks_state_bars hX hK hNW hH dX4_isBarred_113 ?_
      refine mxV hX hK hEv hE0 hH (met_J2_size hE.1 hB.ls (fun _ h => cW_pl h)) (precv (fun _ h => cW_pl h) hK hH 17 rfl hB.ls.obj) gw_StoneYear_Stacks_39 hd_yJ2_size ⟨Nat.le_of_ble_eq_true rfl, Nat.le_of_ble_eq_true rfl⟩ rfl rfl hl (Nat.le_of_ble_eq_true rfl) dX4_isBarred_116 ⟨Nat.le_of_ble_eq_true rfl, Nat.le_of_ble_eq_true rfl⟩ (fun w2 H locs hw hH => ?_)
      subst hw
      refine lv_icmp_ge (tgt := 161) hx hb dX4_isBarred_119 rfl (fun c_65 => ?_) (fun c_65 => ?_)
      · have hF := itp c_65 hF
        obtain rfl := Option.some.inj hF
        exact k104_1 hY104 _ _ _ hH (lv_sub hl [] rfl)
      · have hF := itn c_65 hF
        refine lv_aload_n hx hb dX4_isBarred_122 rfl (lv_at hl 0 rfl) ?_
        refine cg_Y_Stacks_stkt_this0 hX hK hNW hH dX4_isBarred_123 ?_
        refine cg_Y_Stacks_this_s hX hK hNW hH dX4_isBarred_126 ?_
        refine cg_Y_Stacks_state_bars hX hK hNW hH dX4_isBarred_129 ?_
        refine lv_iload hx hb dX4_isBarred_132 (lv_at hl 1 rfl) ?_
        obtain ⟨hg_66, hF⟩ := bd0e hF
        refine mxV hX hK hEv hE0 hH (met_J2_get hE.1 rfl hB.ls hg_66 (fun _ h => cW_pl h)) (precv (fun _ h => cW_pl h) hK hH 17 rfl hB.ls.obj) gw_StoneYear_Stacks_56 hd_yJ2_get ⟨Nat.le_of_ble_eq_true rfl, Nat.le_of_ble_eq_true rfl⟩ rfl rfl hl (Nat.le_of_ble_eq_true rfl) dX4_isBarred_134 ⟨Nat.le_of_ble_eq_true rfl, Nat.le_of_ble_eq_true rfl⟩ (fun w2 H locs hw hH => ?_)
        subst hw
        refine cc_fact hB (alg_lt hg_66) (fun _ h => cW_pl h) hX hK hNW hH (hts _ q1066) dX4_isBarred_137 ?_
        refine lv_aload_n hx hb dX4_isBarred_140 rfl (lv_at hl 0 rfl) ?_
        refine cg_Y_Stacks_stkt_this0 hX hK hNW hH dX4_isBarred_141 ?_
        refine cg_Y_Stacks_this_going hX hK hNW hH dX4_isBarred_144 ?_
        refine ck_fact hPO hB (alg_lt hg_66) hX hK hE hE0 hNW hH q1067 hl ⟨Nat.le_of_ble_eq_true rfl, Nat.le_of_ble_eq_true rfl⟩ ⟨Nat.le_of_ble_eq_true rfl, Nat.le_of_ble_eq_true rfl⟩ (Nat.le_of_ble_eq_true rfl) dX4_isBarred_147 (fun H locs hH => ?_)
        refine lv_if_eq (tgt := 155) hx hb dX4_isBarred_150 rfl (fun c_67 => ?_) (fun c_67 => ?_)
        · have hF := itp c_67 hF
          refine lv_iinc (v := (x_64 + 1)) (lv' := [(5, .int (x_64 + 1)), (0, .ref (ad 7))]) hx hb dX4_isBarred_155 hl (k := 1) rfl (syc kyi_1) (by decide) rfl (fun ls hl => ?_)
          refine lv_goto (tgt := 104) hx hb dX4_isBarred_158 rfl ?_
          obtain rfl := Option.some.inj hF
          exact ih (x_64 + 1) hY104 _ _ _ hH (lv_sub hl [1, 0] rfl)
        · have hF := itn c_67 hF
          obtain rfl := Option.some.inj hF
          exact k104_0 hY104 _ _ _ hH (lv_sub hl [] rfl)
  exact l104 nn104 0 en104 _ _ _ hH (lv_sub hl [2, 0] rfl)
abbrev rm_X4_isFree_h : Room := { frames := 1, cells := 0, slots := 0, locals := 70 }
set_option maxHeartbeats 4000000 in
theorem met_X4_isFree_h {l : Launch} {D : va_G} {ad : Nat → Nat} {cA : Nat → ClassId} {sA ta ba na : Nat → Nat} {gi : Nat → Option Nat} {rt : Option Nat} {g_sort : Int32} {g_size : Int32} {g_from : Int32} {g_to : Int32} {g_level : Int32} {g_full : Int32} {a_tape : Nat → Int32} {a_hAt : Nat → Int32} {a_hMany : Nat → Int32} {a_tAt : Nat → Int32} {a_tMany : Nat → Int32} {a_least : Nat → Int32} {a_place : Nat → Int32} {a_to : Nat → Int32} {a_order : Nat → Int32} {a_fails : Nat → Int32} {a_sKeys : Nat → Int64} {a_sRow : Nat → Int64} {a_sSlots : Nat → Int32} {a_bKeys : Nat → Int64} {a_bRow : Nat → Int64} {a_bSlots : Nat → Int32} {a_easy : Nat → Int32} {a_wants : Nat → Int32} {a_wantedBy : Nat → Int32} {a_ring : Nat → Int32} {a_carried : Nat → Int32} {a_latest : Nat → Int32} {v_taped : Int32} {v_faultKind : Int32} {v_faultPlace : Int32} {v_x : Int32} {v_ordered : Int32} {v_sought : Int32} {v_lastSought : Int32} {v_hMoved : Int32} {v_hWithout : Int32} {v_tMoved : Int32} {v_tWithout : Int32} {v_places : Int32} {v_elsewhere : Int32} {v_sMany : Int32} {v_bMany : Int32} {v_year : Int32} {y_lies : Int64} {a_rsort : Nat → Int32} {a_rmany : Nat → Int32} {a_nums : Nat → Nat → Int64} {t : Nat → Int32} {nb : Int32} {bv : Nat → Int32 → Int32 → Int32 → Int32 → Int32 → Int32 → Bool} {pl : va_W} {tb : Nat → Nat} {u : Nat → Int32}  {p1 : Int32} {p2 : Int32} {res : Bool} {E : EvT} (hE : EvN E) (hPO : PO cA pl ta ba t nb bv) (hU : TownAt cA pl tb u) (hF : FX4_isFree u a_hMany p1 p2 = some res) : MX l yX4_isFree (ws_ yX4_isFree cX4_isFree 4 (Option.some Jvm.ClassFile.FieldType.boolean)) rm_X4_isFree_h D vwA (cT cA) E [.ref (ad 4), .int p1, .int p2] (cW ad cA sA ta ba na gi (some (tb 0)) rt g_sort g_size g_from g_to g_level g_full a_tape a_hAt a_hMany a_tAt a_tMany a_least a_place a_to a_order a_fails a_sKeys a_sRow a_sSlots a_bKeys a_bRow a_bSlots a_easy a_wants a_wantedBy a_ring a_carried a_latest v_taped v_faultKind v_faultPlace v_x v_ordered v_sought v_lastSought v_hMoved v_hWithout v_tMoved v_tWithout v_places v_elsewhere v_sMany v_bMany v_year y_lies a_rsort a_rmany a_nums pl) (fun z => z = (cW ad cA sA ta ba na gi (some (tb 0)) rt g_sort g_size g_from g_to g_level g_full a_tape a_hAt a_hMany a_tAt a_tMany a_least a_place a_to a_order a_fails a_sKeys a_sRow a_sSlots a_bKeys a_bRow a_bSlots a_easy a_wants a_wantedBy a_ring a_carried a_latest v_taped v_faultKind v_faultPlace v_x v_ordered v_sought v_lastSought v_hMoved v_hWithout v_tMoved v_tWithout v_places v_elsewhere v_sMany v_bMany v_year y_lies a_rsort a_rmany a_nums pl)) (some (.int (b2i res))) := by
  refine MX.ofZ (by decide) (Nat.le_of_ble_eq_true rfl) ?_
  intro p e s m args below meth c Q A hX hK hE0 hname hret H locs ls hH hl
  have hX : CallFix p m c cX4_isFree 4 s args lw_all RX4 := hX
  have hx := hX.1
  have hb := hX.2.1
  have hown := hX.2.2.2.1
  have hts := hX.2.2.2.2
  have hl : lv_has ls 4 [(0, .ref (ad 4)), (1, .int p1), (2, .int p2)] := hl
  have hEv := hE.1
  have hNW := hE.2.1 _ _ _ hE0
  have hT := hPO.1
  have hB := hPO.2
  delta FX4_isFree at hF
  refine lv_iload_n hx hb dX4_isFree_0 rfl (lv_at hl 1 rfl) ?_
  refine lv_iload_n hx hb dX4_isFree_1 rfl (lv_at hl 2 rfl) ?_
  refine cm_min hX hl (hts _ q1051) dX4_isFree_2 (Nat.le_of_ble_eq_true rfl) (Nat.le_of_ble_eq_true rfl) (Nat.le_of_ble_eq_true rfl) (Nat.le_of_ble_eq_true rfl) ?_
  refine lv_iconst (v := 1) hx hb dX4_isFree_5 kyi_1 ?_
  refine lv_iadd hx hb dX4_isFree_6 ?_
  refine lv_istore_n (lv' := [(3, .int ((mnI p1 p2) + 1)), (0, .ref (ad 4)), (1, .int p1), (2, .int p2)]) hx hb dX4_isFree_7 rfl hl (by decide) rfl (fun ls hl => ?_)
  obtain ⟨xx8, ee8, kk8_0, kk8_1⟩ := bdS2e hF
  have k8_0 : xx8 = (.inl ()) → ∀ (H : Heap) (locs : List Loc) (ls : Array Slot), MH D vwA A s.heap (cW ad cA sA ta ba na gi (some (tb 0)) rt g_sort g_size g_from g_to g_level g_full a_tape a_hAt a_hMany a_tAt a_tMany a_least a_place a_to a_order a_fails a_sKeys a_sRow a_sSlots a_bKeys a_bRow a_bSlots a_easy a_wants a_wantedBy a_ring a_carried a_latest v_taped v_faultKind v_faultPlace v_x v_ordered v_sought v_lastSought v_hMoved v_hWithout v_tMoved v_tWithout v_places v_elsewhere v_sMany v_bMany v_year y_lies a_rsort a_rmany a_nums pl) H locs → lv_has ls 4 [] → W p l e rm_X4_isFree_h s m args below meth c H locs 0 0 Q (F0 m 33 ls []) := by
    intro hxx H locs ls hH hl
    have hF := un0e (kk8_0 () hxx)
    refine lv_iconst (v := 0) hx hb dX4_isFree_33 kyi_0 ?_
    obtain rfl := Option.some.inj hF
    exact hret _ _ _ _ _ rfl hH dX4_isFree_34
  have k8_1 : xx8 = (.inr ()) → ∀ (H : Heap) (locs : List Loc) (ls : Array Slot), MH D vwA A s.heap (cW ad cA sA ta ba na gi (some (tb 0)) rt g_sort g_size g_from g_to g_level g_full a_tape a_hAt a_hMany a_tAt a_tMany a_least a_place a_to a_order a_fails a_sKeys a_sRow a_sSlots a_bKeys a_bRow a_bSlots a_easy a_wants a_wantedBy a_ring a_carried a_latest v_taped v_faultKind v_faultPlace v_x v_ordered v_sought v_lastSought v_hMoved v_hWithout v_tMoved v_tWithout v_places v_elsewhere v_sMany v_bMany v_year y_lies a_rsort a_rmany a_nums pl) H locs → lv_has ls 4 [] → W p l e rm_X4_isFree_h s m args below meth c H locs 0 0 Q (F0 m 41 ls []) := by
    intro hxx H locs ls hH hl
    have hF := un0e (kk8_1 () hxx)
    refine lv_iconst (v := 1) hx hb dX4_isFree_41 kyi_1 ?_
    obtain rfl := Option.some.inj hF
    exact hret _ _ _ _ _ rfl hH dX4_isFree_42
  obtain ⟨nn8, en8⟩ := loopC_some ee8
  have l8 : ∀ (n : Nat) (x_60 : Int32), loopN (fun s => FX4_isFree_b8 a_hMany u p1 p2 s) n x_60 = some xx8 → ∀ (H : Heap) (locs : List Loc) (ls : Array Slot), MH D vwA A s.heap (cW ad cA sA ta ba na gi (some (tb 0)) rt g_sort g_size g_from g_to g_level g_full a_tape a_hAt a_hMany a_tAt a_tMany a_least a_place a_to a_order a_fails a_sKeys a_sRow a_sSlots a_bKeys a_bRow a_bSlots a_easy a_wants a_wantedBy a_ring a_carried a_latest v_taped v_faultKind v_faultPlace v_x v_ordered v_sought v_lastSought v_hMoved v_hWithout v_tMoved v_tWithout v_places v_elsewhere v_sMany v_bMany v_year y_lies a_rsort a_rmany a_nums pl) H locs → lv_has ls 4 [(0, .ref (ad 4)), (1, .int p1), (2, .int p2), (3, .int x_60)] → W p l e rm_X4_isFree_h s m args below meth c H locs 0 0 Q (F0 m 8 ls []) := by
    intro n
    induction n with
    | zero =>
      intro x_60 hN
      exact absurd hN loopN_zero
    | succ n ih =>
      intro x_60 hN H locs ls hH hl
      obtain ⟨yy8, hB8, hY8⟩ := loopN_succ hN
      have hF : FX4_isFree_b8 a_hMany u p1 p2 x_60 = some yy8 := hB8
      delta FX4_isFree_b8 at hF
      refine lv_iload_n hx hb dX4_isFree_8 rfl (lv_at hl 3 rfl) ?_
      refine lv_iload_n hx hb dX4_isFree_9 rfl (lv_at hl 1 rfl) ?_
      refine lv_iload_n hx hb dX4_isFree_10 rfl (lv_at hl 2 rfl) ?_
      refine cm_max hX hl (hts _ q1052) dX4_isFree_11 (Nat.le_of_ble_eq_true rfl) (Nat.le_of_ble_eq_true rfl) (Nat.le_of_ble_eq_true rfl) (Nat.le_of_ble_eq_true rfl) ?_
      refine lv_icmp_ge (tgt := 41) hx hb dX4_isFree_14 rfl (fun c_61 => ?_) (fun c_61 => ?_)
      · have hF := itp c_61 hF
        obtain rfl := Option.some.inj hF
        exact k8_1 hY8 _ _ _ hH (lv_sub hl [] rfl)
      · have hF := itn c_61 hF
        refine lv_aload_n hx hb dX4_isFree_17 rfl (lv_at hl 0 rfl) ?_
        refine cg_Y_Stacks_stkh_many hX hK hNW hH dX4_isFree_18 ?_
        refine lv_iload_n hx hb dX4_isFree_21 rfl (lv_at hl 3 rfl) ?_
        obtain ⟨x_62, he, hF⟩ := bd1e hF
        refine cl_hMany hX hK hH he dX4_isFree_22 ?_
        refine lv_aload_n hx hb dX4_isFree_23 rfl (lv_at hl 0 rfl) ?_
        refine cg_Y_Stacks_stkh_town hX hK hNW hH dX4_isFree_24 ?_
        refine cg_Y_Stacks_town_over hU (fun _ h => cW_pl h) hX hK hNW hH dX4_isFree_27 ?_
        refine lv_icmp_lt (tgt := 35) hx hb dX4_isFree_30 rfl (fun c_63 => ?_) (fun c_63 => ?_)
        · have hF := itp c_63 hF
          refine lv_iinc (v := (x_60 + 1)) (lv' := [(3, .int (x_60 + 1)), (0, .ref (ad 4)), (1, .int p1), (2, .int p2)]) hx hb dX4_isFree_35 hl (k := 3) rfl (syc kyi_1) (by decide) rfl (fun ls hl => ?_)
          refine lv_goto (tgt := 8) hx hb dX4_isFree_38 rfl ?_
          obtain rfl := Option.some.inj hF
          exact ih (x_60 + 1) hY8 _ _ _ hH (lv_sub hl [1, 2, 3, 0] rfl)
        · have hF := itn c_63 hF
          obtain rfl := Option.some.inj hF
          exact k8_0 hY8 _ _ _ hH (lv_sub hl [] rfl)
  exact l8 nn8 ((mnI p1 p2) + 1) en8 _ _ _ hH (lv_sub hl [1, 2, 3, 0] rfl)
abbrev rm_X4_isFree_t : Room := { frames := 1, cells := 0, slots := 0, locals := 70 }
set_option maxHeartbeats 4000000 in
theorem met_X4_isFree_t {l : Launch} {D : va_G} {ad : Nat → Nat} {cA : Nat → ClassId} {sA ta ba na : Nat → Nat} {gi : Nat → Option Nat} {rh : Option Nat} {g_sort : Int32} {g_size : Int32} {g_from : Int32} {g_to : Int32} {g_level : Int32} {g_full : Int32} {a_tape : Nat → Int32} {a_hAt : Nat → Int32} {a_hMany : Nat → Int32} {a_tAt : Nat → Int32} {a_tMany : Nat → Int32} {a_least : Nat → Int32} {a_place : Nat → Int32} {a_to : Nat → Int32} {a_order : Nat → Int32} {a_fails : Nat → Int32} {a_sKeys : Nat → Int64} {a_sRow : Nat → Int64} {a_sSlots : Nat → Int32} {a_bKeys : Nat → Int64} {a_bRow : Nat → Int64} {a_bSlots : Nat → Int32} {a_easy : Nat → Int32} {a_wants : Nat → Int32} {a_wantedBy : Nat → Int32} {a_ring : Nat → Int32} {a_carried : Nat → Int32} {a_latest : Nat → Int32} {v_taped : Int32} {v_faultKind : Int32} {v_faultPlace : Int32} {v_x : Int32} {v_ordered : Int32} {v_sought : Int32} {v_lastSought : Int32} {v_hMoved : Int32} {v_hWithout : Int32} {v_tMoved : Int32} {v_tWithout : Int32} {v_places : Int32} {v_elsewhere : Int32} {v_sMany : Int32} {v_bMany : Int32} {v_year : Int32} {y_lies : Int64} {a_rsort : Nat → Int32} {a_rmany : Nat → Int32} {a_nums : Nat → Nat → Int64} {t : Nat → Int32} {nb : Int32} {bv : Nat → Int32 → Int32 → Int32 → Int32 → Int32 → Int32 → Bool} {pl : va_W} {tb : Nat → Nat} {u : Nat → Int32}  {p1 : Int32} {p2 : Int32} {res : Bool} {E : EvT} (hE : EvN E) (hPO : PO cA pl ta ba t nb bv) (hU : TownAt cA pl tb u) (hF : FX4_isFree u a_tMany p1 p2 = some res) : MX l yX4_isFree (ws_ yX4_isFree cX4_isFree 4 (Option.some Jvm.ClassFile.FieldType.boolean)) rm_X4_isFree_t D vwA (cT cA) E [.ref (ad 7), .int p1, .int p2] (cW ad cA sA ta ba na gi rh (some (tb 0)) g_sort g_size g_from g_to g_level g_full a_tape a_hAt a_hMany a_tAt a_tMany a_least a_place a_to a_order a_fails a_sKeys a_sRow a_sSlots a_bKeys a_bRow a_bSlots a_easy a_wants a_wantedBy a_ring a_carried a_latest v_taped v_faultKind v_faultPlace v_x v_ordered v_sought v_lastSought v_hMoved v_hWithout v_tMoved v_tWithout v_places v_elsewhere v_sMany v_bMany v_year y_lies a_rsort a_rmany a_nums pl) (fun z => z = (cW ad cA sA ta ba na gi rh (some (tb 0)) g_sort g_size g_from g_to g_level g_full a_tape a_hAt a_hMany a_tAt a_tMany a_least a_place a_to a_order a_fails a_sKeys a_sRow a_sSlots a_bKeys a_bRow a_bSlots a_easy a_wants a_wantedBy a_ring a_carried a_latest v_taped v_faultKind v_faultPlace v_x v_ordered v_sought v_lastSought v_hMoved v_hWithout v_tMoved v_tWithout v_places v_elsewhere v_sMany v_bMany v_year y_lies a_rsort a_rmany a_nums pl)) (some (.int (b2i res))) := by
  refine MX.ofZ (by decide) (Nat.le_of_ble_eq_true rfl) ?_
  intro p e s m args below meth c Q A hX hK hE0 hname hret H locs ls hH hl
  have hX : CallFix p m c cX4_isFree 4 s args lw_all RX4 := hX
  have hx := hX.1
  have hb := hX.2.1
  have hown := hX.2.2.2.1
  have hts := hX.2.2.2.2
  have hl : lv_has ls 4 [(0, .ref (ad 7)), (1, .int p1), (2, .int p2)] := hl
  have hEv := hE.1
  have hNW := hE.2.1 _ _ _ hE0
  have hT := hPO.1
  have hB := hPO.2
  delta FX4_isFree at hF
  refine lv_iload_n hx hb dX4_isFree_0 rfl (lv_at hl 1 rfl) ?_
  refine lv_iload_n hx hb dX4_isFree_1 rfl (lv_at hl 2 rfl) ?_
  refine cm_min hX hl (hts _ q1051) dX4_isFree_2 (Nat.le_of_ble_eq_true rfl) (Nat.le_of_ble_eq_true rfl) (Nat.le_of_ble_eq_true rfl) (Nat.le_of_ble_eq_true rfl) ?_
  refine lv_iconst (v := 1) hx hb dX4_isFree_5 kyi_1 ?_
  refine lv_iadd hx hb dX4_isFree_6 ?_
  refine lv_istore_n (lv' := [(3, .int ((mnI p1 p2) + 1)), (0, .ref (ad 7)), (1, .int p1), (2, .int p2)]) hx hb dX4_isFree_7 rfl hl (by decide) rfl (fun ls hl => ?_)
  obtain ⟨xx8, ee8, kk8_0, kk8_1⟩ := bdS2e hF
  have k8_0 : xx8 = (.inl ()) → ∀ (H : Heap) (locs : List Loc) (ls : Array Slot), MH D vwA A s.heap (cW ad cA sA ta ba na gi rh (some (tb 0)) g_sort g_size g_from g_to g_level g_full a_tape a_hAt a_hMany a_tAt a_tMany a_least a_place a_to a_order a_fails a_sKeys a_sRow a_sSlots a_bKeys a_bRow a_bSlots a_easy a_wants a_wantedBy a_ring a_carried a_latest v_taped v_faultKind v_faultPlace v_x v_ordered v_sought v_lastSought v_hMoved v_hWithout v_tMoved v_tWithout v_places v_elsewhere v_sMany v_bMany v_year y_lies a_rsort a_rmany a_nums pl) H locs → lv_has ls 4 [] → W p l e rm_X4_isFree_t s m args below meth c H locs 0 0 Q (F0 m 33 ls []) := by
    intro hxx H locs ls hH hl
    have hF := un0e (kk8_0 () hxx)
    refine lv_iconst (v := 0) hx hb dX4_isFree_33 kyi_0 ?_
    obtain rfl := Option.some.inj hF
    exact hret _ _ _ _ _ rfl hH dX4_isFree_34
  have k8_1 : xx8 = (.inr ()) → ∀ (H : Heap) (locs : List Loc) (ls : Array Slot), MH D vwA A s.heap (cW ad cA sA ta ba na gi rh (some (tb 0)) g_sort g_size g_from g_to g_level g_full a_tape a_hAt a_hMany a_tAt a_tMany a_least a_place a_to a_order a_fails a_sKeys a_sRow a_sSlots a_bKeys a_bRow a_bSlots a_easy a_wants a_wantedBy a_ring a_carried a_latest v_taped v_faultKind v_faultPlace v_x v_ordered v_sought v_lastSought v_hMoved v_hWithout v_tMoved v_tWithout v_places v_elsewhere v_sMany v_bMany v_year y_lies a_rsort a_rmany a_nums pl) H locs → lv_has ls 4 [] → W p l e rm_X4_isFree_t s m args below meth c H locs 0 0 Q (F0 m 41 ls []) := by
    intro hxx H locs ls hH hl
    have hF := un0e (kk8_1 () hxx)
    refine lv_iconst (v := 1) hx hb dX4_isFree_41 kyi_1 ?_
    obtain rfl := Option.some.inj hF
    exact hret _ _ _ _ _ rfl hH dX4_isFree_42
  obtain ⟨nn8, en8⟩ := loopC_some ee8
  have l8 : ∀ (n : Nat) (x_60 : Int32), loopN (fun s => FX4_isFree_b8 a_tMany u p1 p2 s) n x_60 = some xx8 → ∀ (H : Heap) (locs : List Loc) (ls : Array Slot), MH D vwA A s.heap (cW ad cA sA ta ba na gi rh (some (tb 0)) g_sort g_size g_from g_to g_level g_full a_tape a_hAt a_hMany a_tAt a_tMany a_least a_place a_to a_order a_fails a_sKeys a_sRow a_sSlots a_bKeys a_bRow a_bSlots a_easy a_wants a_wantedBy a_ring a_carried a_latest v_taped v_faultKind v_faultPlace v_x v_ordered v_sought v_lastSought v_hMoved v_hWithout v_tMoved v_tWithout v_places v_elsewhere v_sMany v_bMany v_year y_lies a_rsort a_rmany a_nums pl) H locs → lv_has ls 4 [(0, .ref (ad 7)), (1, .int p1), (2, .int p2), (3, .int x_60)] → W p l e rm_X4_isFree_t s m args below meth c H locs 0 0 Q (F0 m 8 ls []) := by
    intro n
    induction n with
    | zero =>
      intro x_60 hN
      exact absurd hN loopN_zero
    | succ n ih =>
      intro x_60 hN H locs ls hH hl
      obtain ⟨yy8, hB8, hY8⟩ := loopN_succ hN
      have hF : FX4_isFree_b8 a_tMany u p1 p2 x_60 = some yy8 := hB8
      delta FX4_isFree_b8 at hF
      refine lv_iload_n hx hb dX4_isFree_8 rfl (lv_at hl 3 rfl) ?_
      refine lv_iload_n hx hb dX4_isFree_9 rfl (lv_at hl 1 rfl) ?_
      refine lv_iload_n hx hb dX4_isFree_10 rfl (lv_at hl 2 rfl) ?_
      refine cm_max hX hl (hts _ q1052) dX4_isFree_11 (Nat.le_of_ble_eq_true rfl) (Nat.le_of_ble_eq_true rfl) (Nat.le_of_ble_eq_true rfl) (Nat.le_of_ble_eq_true rfl) ?_
      refine lv_icmp_ge (tgt := 41) hx hb dX4_isFree_14 rfl (fun c_61 => ?_) (fun c_61 => ?_)
      · have hF := itp c_61 hF
        obtain rfl := Option.some.inj hF
        exact k8_1 hY8 _ _ _ hH (lv_sub hl [] rfl)
      · have hF := itn c_61 hF
        refine lv_aload_n hx hb dX4_isFree_17 rfl (lv_at hl 0 rfl) ?_
        refine cg_Y_Stacks_stkt_many hX hK hNW hH dX4_isFree_18 ?_
        refine lv_iload_n hx hb dX4_isFree_21 rfl (lv_at hl 3 rfl) ?_
        obtain ⟨x_62, he, hF⟩ := bd1e hF
        refine cl_tMany hX hK hH he dX4_isFree_22 ?_
        refine lv_aload_n hx hb dX4_isFree_23 rfl (lv_at hl 0 rfl) ?_
        refine cg_Y_Stacks_stkt_town hX hK hNW hH dX4_isFree_24 ?_
        refine cg_Y_Stacks_town_over hU (fun _ h => cW_pl h) hX hK hNW hH dX4_isFree_27 ?_
        refine lv_icmp_lt (tgt := 35) hx hb dX4_isFree_30 rfl (fun c_63 => ?_) (fun c_63 => ?_)
        · have hF := itp c_63 hF
          refine lv_iinc (v := (x_60 + 1)) (lv' := [(3, .int (x_60 + 1)), (0, .ref (ad 7)), (1, .int p1), (2, .int p2)]) hx hb dX4_isFree_35 hl (k := 3) rfl (syc kyi_1) (by decide) rfl (fun ls hl => ?_)
          refine lv_goto (tgt := 8) hx hb dX4_isFree_38 rfl ?_
          obtain rfl := Option.some.inj hF
          exact ih (x_60 + 1) hY8 _ _ _ hH (lv_sub hl [1, 2, 3, 0] rfl)
        · have hF := itn c_63 hF
          obtain rfl := Option.some.inj hF
          exact k8_0 hY8 _ _ _ hH (lv_sub hl [] rfl)
  exact l8 nn8 ((mnI p1 p2) + 1) en8 _ _ _ hH (lv_sub hl [1, 2, 3, 0] rfl)
abbrev rm_X4_isRow_h : Room := { frames := 1, cells := 0, slots := 0, locals := 25 }
set_option maxHeartbeats 4000000 in
theorem met_X4_isRow_h {l : Launch} {D : va_G} {ad : Nat → Nat} {cA : Nat → ClassId} {sA ta ba na : Nat → Nat} {gi : Nat → Option Nat} {rt : Option Nat} {g_sort : Int32} {g_size : Int32} {g_from : Int32} {g_to : Int32} {g_level : Int32} {g_full : Int32} {a_tape : Nat → Int32} {a_hAt : Nat → Int32} {a_hMany : Nat → Int32} {a_tAt : Nat → Int32} {a_tMany : Nat → Int32} {a_least : Nat → Int32} {a_place : Nat → Int32} {a_to : Nat → Int32} {a_order : Nat → Int32} {a_fails : Nat → Int32} {a_sKeys : Nat → Int64} {a_sRow : Nat → Int64} {a_sSlots : Nat → Int32} {a_bKeys : Nat → Int64} {a_bRow : Nat → Int64} {a_bSlots : Nat → Int32} {a_easy : Nat → Int32} {a_wants : Nat → Int32} {a_wantedBy : Nat → Int32} {a_ring : Nat → Int32} {a_carried : Nat → Int32} {a_latest : Nat → Int32} {v_taped : Int32} {v_faultKind : Int32} {v_faultPlace : Int32} {v_x : Int32} {v_ordered : Int32} {v_sought : Int32} {v_lastSought : Int32} {v_hMoved : Int32} {v_hWithout : Int32} {v_tMoved : Int32} {v_tWithout : Int32} {v_places : Int32} {v_elsewhere : Int32} {v_sMany : Int32} {v_bMany : Int32} {v_year : Int32} {y_lies : Int64} {a_rsort : Nat → Int32} {a_rmany : Nat → Int32} {a_nums : Nat → Nat → Int64} {t : Nat → Int32} {nb : Int32} {bv : Nat → Int32 → Int32 → Int32 → Int32 → Int32 → Int32 → Bool} {pl : va_W} {tb : Nat → Nat} {u : Nat → Int32}  {p1 : Int32} {res : Bool} {E : EvT} (hE : EvN E) (hPO : PO cA pl ta ba t nb bv) (hU : TownAt cA pl tb u) (hF : FX4_isRow u p1 = some res) : MX l yX4_isRow (ws_ yX4_isRow cX4_isRow 2 (Option.some Jvm.ClassFile.FieldType.boolean)) rm_X4_isRow_h D vwA (cT cA) E [.ref (ad 4), .int p1] (cW ad cA sA ta ba na gi (some (tb 0)) rt g_sort g_size g_from g_to g_level g_full a_tape a_hAt a_hMany a_tAt a_tMany a_least a_place a_to a_order a_fails a_sKeys a_sRow a_sSlots a_bKeys a_bRow a_bSlots a_easy a_wants a_wantedBy a_ring a_carried a_latest v_taped v_faultKind v_faultPlace v_x v_ordered v_sought v_lastSought v_hMoved v_hWithout v_tMoved v_tWithout v_places v_elsewhere v_sMany v_bMany v_year y_lies a_rsort a_rmany a_nums pl) (fun z => z = (cW ad cA sA ta ba na gi (some (tb 0)) rt g_sort g_size g_from g_to g_level g_full a_tape a_hAt a_hMany a_tAt a_tMany a_least a_place a_to a_order a_fails a_sKeys a_sRow a_sSlots a_bKeys a_bRow a_bSlots a_easy a_wants a_wantedBy a_ring a_carried a_latest v_taped v_faultKind v_faultPlace v_x v_ordered v_sought v_lastSought v_hMoved v_hWithout v_tMoved v_tWithout v_places v_elsewhere v_sMany v_bMany v_year y_lies a_rsort a_rmany a_nums pl)) (some (.int (b2i res))) := by
  refine MX.ofZ (by decide) (Nat.le_of_ble_eq_true rfl) ?_
  intro p e s m args below meth c Q A hX hK hE0 hname hret H locs ls hH hl
  have hX : CallFix p m c cX4_isRow 2 s args lw_all RX4 := hX
  have hx := hX.1
  have hb := hX.2.1
  have hown := hX.2.2.2.1
  have hts := hX.2.2.2.2
  have hl : lv_has ls 2 [(0, .ref (ad 4)), (1, .int p1)] := hl
  have hEv := hE.1
  have hNW := hE.2.1 _ _ _ hE0
  have hT := hPO.1
  have hB := hPO.2
  delta FX4_isRow at hF
  refine lv_iload_n hx hb dX4_isRow_0 rfl (lv_at hl 1 rfl) ?_
  refine lv_i2l (v := (Int32.toInt64 p1)) hx hb dX4_isRow_1 rfl ?_
  refine lv_lconst (v := 0) hx hb dX4_isRow_2 rfl ?_
  refine lv_aload_n hx hb dX4_isRow_3 rfl (lv_at hl 0 rfl) ?_
  refine cg_Y_Stacks_stkh_town hX hK hNW hH dX4_isRow_4 ?_
  refine cg_Y_Stacks_town_rows hU (fun _ h => cW_pl h) hX hK hNW hH dX4_isRow_7 ?_
  refine mxV hX hK hEv hE0 hH (met_J2_size hE.1 hU.rows (fun _ h => cW_pl h)) (precv (fun _ h => cW_pl h) hK hH 17 rfl hU.rows.obj) gw_StoneYear_Stacks_39 hd_yJ2_size ⟨Nat.le_of_ble_eq_true rfl, Nat.le_of_ble_eq_true rfl⟩ rfl rfl hl (Nat.le_of_ble_eq_true rfl) dX4_isRow_10 ⟨Nat.le_of_ble_eq_true rfl, Nat.le_of_ble_eq_true rfl⟩ (fun w2 H locs hw hH => ?_)
  subst hw
  refine lv_iconst (v := 1) hx hb dX4_isRow_13 kyi_1 ?_
  refine lv_isub hx hb dX4_isRow_14 ?_
  refine lv_i2l (v := (Int32.toInt64 ((u 0) - 1))) hx hb dX4_isRow_15 rfl ?_
  obtain ⟨b_56, he, hF⟩ := bd1e hF
  refine mxSN hX hK hEv hE0 hH (met_X0_in hE hPO he) (lw_meth q529) (hNW _ nw_q1033) q129 q528 hd_yX0_in ⟨Nat.le_of_ble_eq_true rfl, Nat.le_of_ble_eq_true rfl⟩ rfl rfl hl (Nat.le_of_ble_eq_true rfl) dX4_isRow_16 ⟨Nat.le_of_ble_eq_true rfl, Nat.le_of_ble_eq_true rfl⟩ (fun w2 H locs hw hH => ?_)
  subst hw
  obtain rfl := Option.some.inj hF
  exact hret _ _ _ _ _ rfl hH dX4_isRow_19
abbrev rm_X4_isRow_t : Room := { frames := 1, cells := 0, slots := 0, locals := 25 }
set_option maxHeartbeats 4000000 in
theorem met_X4_isRow_t {l : Launch} {D : va_G} {ad : Nat → Nat} {cA : Nat → ClassId} {sA ta ba na : Nat → Nat} {gi : Nat → Option Nat} {rh : Option Nat} {g_sort : Int32} {g_size : Int32} {g_from : Int32} {g_to : Int32} {g_level : Int32} {g_full : Int32} {a_tape : Nat → Int32} {a_hAt : Nat → Int32} {a_hMany : Nat → Int32} {a_tAt : Nat → Int32} {a_tMany : Nat → Int32} {a_least : Nat → Int32} {a_place : Nat → Int32} {a_to : Nat → Int32} {a_order : Nat → Int32} {a_fails : Nat → Int32} {a_sKeys : Nat → Int64} {a_sRow : Nat → Int64} {a_sSlots : Nat → Int32} {a_bKeys : Nat → Int64} {a_bRow : Nat → Int64} {a_bSlots : Nat → Int32} {a_easy : Nat → Int32} {a_wants : Nat → Int32} {a_wantedBy : Nat → Int32} {a_ring : Nat → Int32} {a_carried : Nat → Int32} {a_latest : Nat → Int32} {v_taped : Int32} {v_faultKind : Int32} {v_faultPlace : Int32} {v_x : Int32} {v_ordered : Int32} {v_sought : Int32} {v_lastSought : Int32} {v_hMoved : Int32} {v_hWithout : Int32} {v_tMoved : Int32} {v_tWithout : Int32} {v_places : Int32} {v_elsewhere : Int32} {v_sMany : Int32} {v_bMany : Int32} {v_year : Int32} {y_lies : Int64} {a_rsort : Nat → Int32} {a_rmany : Nat → Int32} {a_nums : Nat → Nat → Int64} {t : Nat → Int32} {nb : Int32} {bv : Nat → Int32 → Int32 → Int32 → Int32 → Int32 → Int32 → Bool} {pl : va_W} {tb : Nat → Nat} {u : Nat → Int32}  {p1 : Int32} {res : Bool} {E : EvT} (hE : EvN E) (hPO : PO cA pl ta ba t nb bv) (hU : TownAt cA pl tb u) (hF : FX4_isRow u p1 = some res) : MX l yX4_isRow (ws_ yX4_isRow cX4_isRow 2 (Option.some Jvm.ClassFile.FieldType.boolean)) rm_X4_isRow_t D vwA (cT cA) E [.ref (ad 7), .int p1] (cW ad cA sA ta ba na gi rh (some (tb 0)) g_sort g_size g_from g_to g_level g_full a_tape a_hAt a_hMany a_tAt a_tMany a_least a_place a_to a_order a_fails a_sKeys a_sRow a_sSlots a_bKeys a_bRow a_bSlots a_easy a_wants a_wantedBy a_ring a_carried a_latest v_taped v_faultKind v_faultPlace v_x v_ordered v_sought v_lastSought v_hMoved v_hWithout v_tMoved v_tWithout v_places v_elsewhere v_sMany v_bMany v_year y_lies a_rsort a_rmany a_nums pl) (fun z => z = (cW ad cA sA ta ba na gi rh (some (tb 0)) g_sort g_size g_from g_to g_level g_full a_tape a_hAt a_hMany a_tAt a_tMany a_least a_place a_to a_order a_fails a_sKeys a_sRow a_sSlots a_bKeys a_bRow a_bSlots a_easy a_wants a_wantedBy a_ring a_carried a_latest v_taped v_faultKind v_faultPlace v_x v_ordered v_sought v_lastSought v_hMoved v_hWithout v_tMoved v_tWithout v_places v_elsewhere v_sMany v_bMany v_year y_lies a_rsort a_rmany a_nums pl)) (some (.int (b2i res))) := by
  refine MX.ofZ (by decide) (Nat.le_of_ble_eq_true rfl) ?_
  intro p e s m args below meth c Q A hX hK hE0 hname hret H locs ls hH hl
  have hX : CallFix p m c cX4_isRow 2 s args lw_all RX4 := hX
  have hx := hX.1
  have hb := hX.2.1
  have hown := hX.2.2.2.1
  have hts := hX.2.2.2.2
  have hl : lv_has ls 2 [(0, .ref (ad 7)), (1, .int p1)] := hl
  have hEv := hE.1
  have hNW := hE.2.1 _ _ _ hE0
  have hT := hPO.1
  have hB := hPO.2
  delta FX4_isRow at hF
  refine lv_iload_n hx hb dX4_isRow_0 rfl (lv_at hl 1 rfl) ?_
  refine lv_i2l (v := (Int32.toInt64 p1)) hx hb dX4_isRow_1 rfl ?_
  refine lv_lconst (v := 0) hx hb dX4_isRow_2 rfl ?_
  refine lv_aload_n hx hb dX4_isRow_3 rfl (lv_at hl 0 rfl) ?_
  refine cg_Y_Stacks_stkt_town hX hK hNW hH dX4_isRow_4 ?_
  refine cg_Y_Stacks_town_rows hU (fun _ h => cW_pl h) hX hK hNW hH dX4_isRow_7 ?_
  refine mxV hX hK hEv hE0 hH (met_J2_size hE.1 hU.rows (fun _ h => cW_pl h)) (precv (fun _ h => cW_pl h) hK hH 17 rfl hU.rows.obj) gw_StoneYear_Stacks_39 hd_yJ2_size ⟨Nat.le_of_ble_eq_true rfl, Nat.le_of_ble_eq_true rfl⟩ rfl rfl hl (Nat.le_of_ble_eq_true rfl) dX4_isRow_10 ⟨Nat.le_of_ble_eq_true rfl, Nat.le_of_ble_eq_true rfl⟩ (fun w2 H locs hw hH => ?_)
  subst hw
  refine lv_iconst (v := 1) hx hb dX4_isRow_13 kyi_1 ?_
  refine lv_isub hx hb dX4_isRow_14 ?_
  refine lv_i2l (v := (Int32.toInt64 ((u 0) - 1))) hx hb dX4_isRow_15 rfl ?_
  obtain ⟨b_56, he, hF⟩ := bd1e hF
  refine mxSN hX hK hEv hE0 hH (met_X0_in hE hPO he) (lw_meth q529) (hNW _ nw_q1033) q129 q528 hd_yX0_in ⟨Nat.le_of_ble_eq_true rfl, Nat.le_of_ble_eq_true rfl⟩ rfl rfl hl (Nat.le_of_ble_eq_true rfl) dX4_isRow_16 ⟨Nat.le_of_ble_eq_true rfl, Nat.le_of_ble_eq_true rfl⟩ (fun w2 H locs hw hH => ?_)
  subst hw
  obtain rfl := Option.some.inj hF
  exact hret _ _ _ _ _ rfl hH dX4_isRow_19
abbrev rm_X2_high : Room := { frames := 4, cells := 0, slots := 0, locals := 141 }
set_option maxHeartbeats 4000000 in
theorem met_X2_high {l : Launch} {D : va_G} {ad : Nat → Nat} {cA : Nat → ClassId} {sA ta ba na : Nat → Nat} {gi : Nat → Option Nat} {rh : Option Nat} {rt : Option Nat} {g_sort : Int32} {g_size : Int32} {g_from : Int32} {g_to : Int32} {g_level : Int32} {g_full : Int32} {a_tape : Nat → Int32} {a_hAt : Nat → Int32} {a_hMany : Nat → Int32} {a_tAt : Nat → Int32} {a_tMany : Nat → Int32} {a_least : Nat → Int32} {a_place : Nat → Int32} {a_to : Nat → Int32} {a_order : Nat → Int32} {a_fails : Nat → Int32} {a_sKeys : Nat → Int64} {a_sRow : Nat → Int64} {a_sSlots : Nat → Int32} {a_bKeys : Nat → Int64} {a_bRow : Nat → Int64} {a_bSlots : Nat → Int32} {a_easy : Nat → Int32} {a_wants : Nat → Int32} {a_wantedBy : Nat → Int32} {a_ring : Nat → Int32} {a_carried : Nat → Int32} {a_latest : Nat → Int32} {v_taped : Int32} {v_faultKind : Int32} {v_faultPlace : Int32} {v_x : Int32} {v_ordered : Int32} {v_sought : Int32} {v_lastSought : Int32} {v_hMoved : Int32} {v_hWithout : Int32} {v_tMoved : Int32} {v_tWithout : Int32} {v_places : Int32} {v_elsewhere : Int32} {v_sMany : Int32} {v_bMany : Int32} {v_year : Int32} {y_lies : Int64} {a_rsort : Nat → Int32} {a_rmany : Nat → Int32} {a_nums : Nat → Nat → Int64} {t : Nat → Int32} {nb : Int32} {bv : Nat → Int32 → Int32 → Int32 → Int32 → Int32 → Int32 → Bool} {pl : va_W} {tb : Nat → Nat} {u : Nat → Int32}  {p1 : Int32} {res : Int32} {E : EvT} (hE : EvN E) (hPO : PO cA pl ta ba t nb bv) (hU : TownAt cA pl tb u) (hF : FX2_high u p1 = some res) : MX l yX2_high (ws_ yX2_high cX2_high 2 (Option.some Jvm.ClassFile.FieldType.int)) rm_X2_high D vwA (cT cA) E [.ref (tb 0), .int p1] (cW ad cA sA ta ba na gi rh rt g_sort g_size g_from g_to g_level g_full a_tape a_hAt a_hMany a_tAt a_tMany a_least a_place a_to a_order a_fails a_sKeys a_sRow a_sSlots a_bKeys a_bRow a_bSlots a_easy a_wants a_wantedBy a_ring a_carried a_latest v_taped v_faultKind v_faultPlace v_x v_ordered v_sought v_lastSought v_hMoved v_hWithout v_tMoved v_tWithout v_places v_elsewhere v_sMany v_bMany v_year y_lies a_rsort a_rmany a_nums pl) (fun z => z = (cW ad cA sA ta ba na gi rh rt g_sort g_size g_from g_to g_level g_full a_tape a_hAt a_hMany a_tAt a_tMany a_least a_place a_to a_order a_fails a_sKeys a_sRow a_sSlots a_bKeys a_bRow a_bSlots a_easy a_wants a_wantedBy a_ring a_carried a_latest v_taped v_faultKind v_faultPlace v_x v_ordered v_sought v_lastSought v_hMoved v_hWithout v_tMoved v_tWithout v_places v_elsewhere v_sMany v_bMany v_year y_lies a_rsort a_rmany a_nums pl)) (some (.int res)) := by
  refine MX.ofI (by decide) (Nat.le_of_ble_eq_true rfl) ?_
  intro p e s m args below meth c Q A hX hK hE0 hname hret H locs ls hH hl
  have hX : CallFix p m c cX2_high 2 s args lw_all RX2 := hX
  have hx := hX.1
  have hb := hX.2.1
  have hown := hX.2.2.2.1
  have hts := hX.2.2.2.2
  have hl : lv_has ls 2 [(0, .ref (tb 0)), (1, .int p1)] := hl
  have hEv := hE.1
  have hNW := hE.2.1 _ _ _ hE0
  have hT := hPO.1
  have hB := hPO.2
  delta FX2_high at hF
  refine lv_aload_n hx hb dX2_high_0 rfl (lv_at hl 0 rfl) ?_
  refine cg_Y_Town_town_rows hU (fun _ h => cW_pl h) hX hK hNW hH dX2_high_1 ?_
  refine lv_iload_n hx hb dX2_high_4 rfl (lv_at hl 1 rfl) ?_
  obtain ⟨hg_56, hF⟩ := bd0e hF
  refine mxV hX hK hEv hE0 hH (met_J2_get hE.1 rfl hU.rows hg_56 (fun _ h => cW_pl h)) (precv (fun _ h => cW_pl h) hK hH 17 rfl hU.rows.obj) gw_StoneYear_Town_33 hd_yJ2_get ⟨Nat.le_of_ble_eq_true rfl, Nat.le_of_ble_eq_true rfl⟩ rfl rfl hl (Nat.le_of_ble_eq_true rfl) dX2_high_5 ⟨Nat.le_of_ble_eq_true rfl, Nat.le_of_ble_eq_true rfl⟩ (fun w2 H locs hw hH => ?_)
  subst hw
  refine va_castE hx hb hown (hts _ q1046) (precv (fun _ h => cW_pl h) hK hH 10 rfl ⟨_, hU.row (alg_lt hg_56)⟩) dX2_high_8 ?_
  refine cg_Y_Town_row_high hU (alg_lt hg_56) (fun _ h => cW_pl h) hX hK hNW hH dX2_high_11 ?_
  obtain rfl := Option.some.inj hF
  exact hret _ _ _ _ _ rfl hH dX2_high_14
abbrev rm_X4_may_h : Room := { frames := 261, cells := 0, slots := 0, locals := 6025 }
set_option maxHeartbeats 4000000 in
theorem met_X4_may_h {l : Launch} {D : va_G} {ad : Nat → Nat} {cA : Nat → ClassId} {sA ta ba na : Nat → Nat} {gi : Nat → Option Nat} {rt : Option Nat} {g_sort : Int32} {g_size : Int32} {g_from : Int32} {g_to : Int32} {g_level : Int32} {g_full : Int32} {a_tape : Nat → Int32} {a_hAt : Nat → Int32} {a_hMany : Nat → Int32} {a_tAt : Nat → Int32} {a_tMany : Nat → Int32} {a_least : Nat → Int32} {a_place : Nat → Int32} {a_to : Nat → Int32} {a_order : Nat → Int32} {a_fails : Nat → Int32} {a_sKeys : Nat → Int64} {a_sRow : Nat → Int64} {a_sSlots : Nat → Int32} {a_bKeys : Nat → Int64} {a_bRow : Nat → Int64} {a_bSlots : Nat → Int32} {a_easy : Nat → Int32} {a_wants : Nat → Int32} {a_wantedBy : Nat → Int32} {a_ring : Nat → Int32} {a_carried : Nat → Int32} {a_latest : Nat → Int32} {v_taped : Int32} {v_faultKind : Int32} {v_faultPlace : Int32} {v_x : Int32} {v_ordered : Int32} {v_sought : Int32} {v_lastSought : Int32} {v_hMoved : Int32} {v_hWithout : Int32} {v_tMoved : Int32} {v_tWithout : Int32} {v_places : Int32} {v_elsewhere : Int32} {v_sMany : Int32} {v_bMany : Int32} {v_year : Int32} {y_lies : Int64} {a_rsort : Nat → Int32} {a_rmany : Nat → Int32} {a_nums : Nat → Nat → Int64} {t : Nat → Int32} {nb : Int32} {bv : Nat → Int32 → Int32 → Int32 → Int32 → Int32 → Int32 → Bool} {pl : va_W} {tb : Nat → Nat} {u : Nat → Int32}  {p1 : Int32} {p2 : Int32} {res : Int32} {E : EvT} (hE : EvN E) (hPO : PO cA pl ta ba t nb bv) (hU : TownAt cA pl tb u) (hF : FX4_may u a_hAt a_hMany v_hMoved v_hWithout nb bv p1 p2 = some res) : MX l yX4_may (ws_ yX4_may cX4_may 3 (Option.some Jvm.ClassFile.FieldType.int)) rm_X4_may_h D vwA (cT cA) E [.ref (ad 4), .int p1, .int p2] (cW ad cA sA ta ba na gi (some (tb 0)) rt g_sort g_size g_from g_to g_level g_full a_tape a_hAt a_hMany a_tAt a_tMany a_least a_place a_to a_order a_fails a_sKeys a_sRow a_sSlots a_bKeys a_bRow a_bSlots a_easy a_wants a_wantedBy a_ring a_carried a_latest v_taped v_faultKind v_faultPlace v_x v_ordered v_sought v_lastSought v_hMoved v_hWithout v_tMoved v_tWithout v_places v_elsewhere v_sMany v_bMany v_year y_lies a_rsort a_rmany a_nums pl) (fun z => ∃ g_sort' : Int32, ∃ g_size' : Int32, ∃ g_from' : Int32, ∃ g_to' : Int32, ∃ g_level' : Int32, ∃ g_full' : Int32, z = (cW ad cA sA ta ba na gi (some (tb 0)) rt g_sort' g_size' g_from' g_to' g_level' g_full' a_tape a_hAt a_hMany a_tAt a_tMany a_least a_place a_to a_order a_fails a_sKeys a_sRow a_sSlots a_bKeys a_bRow a_bSlots a_easy a_wants a_wantedBy a_ring a_carried a_latest v_taped v_faultKind v_faultPlace v_x v_ordered v_sought v_lastSought v_hMoved v_hWithout v_tMoved v_tWithout v_places v_elsewhere v_sMany v_bMany v_year y_lies a_rsort a_rmany a_nums pl)) (some (.int res)) := by
  refine MX.ofI (by decide) (Nat.le_of_ble_eq_true rfl) ?_
  intro p e s m args below meth c Q A hX hK hE0 hname hret H locs ls hH hl
  have hX : CallFix p m c cX4_may 3 s args lw_all RX4 := hX
  have hx := hX.1
  have hb := hX.2.1
  have hown := hX.2.2.2.1
  have hts := hX.2.2.2.2
  have hl : lv_has ls 3 [(0, .ref (ad 4)), (1, .int p1), (2, .int p2)] := hl
  have hEv := hE.1
  have hNW := hE.2.1 _ _ _ hE0
  have hT := hPO.1
  have hB := hPO.2
  delta FX4_may at hF
  refine lv_aload_n hx hb dX4_may_0 rfl (lv_at hl 0 rfl) ?_
  refine lv_iload_n hx hb dX4_may_1 rfl (lv_at hl 1 rfl) ?_
  obtain ⟨b_57, he, hF⟩ := bd1e hF
  refine mxV hX hK hEv hE0 hH (met_X4_isRow_h hE hPO hU he) (crecv hK hH 4 4 rfl rfl) gw_StoneYear_Stacks_135 hd_yX4_isRow ⟨Nat.le_of_ble_eq_true rfl, Nat.le_of_ble_eq_true rfl⟩ rfl rfl hl (Nat.le_of_ble_eq_true rfl) dX4_may_2 ⟨Nat.le_of_ble_eq_true rfl, Nat.le_of_ble_eq_true rfl⟩ (fun w2 H locs hw hH => ?_)
  subst hw
  refine lv_if_eq (tgt := 21) hx hb dX4_may_5 rfl (fun c_58 => ?_) (fun c_58 => ?_)
  · have hF := itp c_58 hF
    refine lv_iconst (v := 1) hx hb dX4_may_21 kyi_1 ?_
    obtain rfl := Option.some.inj hF
    exact hret _ _ _ _ _ ⟨_, _, _, _, _, _, rfl⟩ hH dX4_may_22
  · have hF := itn c_58 hF
    refine lv_aload_n hx hb dX4_may_8 rfl (lv_at hl 0 rfl) ?_
    refine lv_iload_n hx hb dX4_may_9 rfl (lv_at hl 2 rfl) ?_
    obtain ⟨b_59, he, hF⟩ := bd1e hF
    refine mxV hX hK hEv hE0 hH (met_X4_isRow_h hE hPO hU he) (crecv hK hH 4 4 rfl rfl) gw_StoneYear_Stacks_135 hd_yX4_isRow ⟨Nat.le_of_ble_eq_true rfl, Nat.le_of_ble_eq_true rfl⟩ rfl rfl hl (Nat.le_of_ble_eq_true rfl) dX4_may_10 ⟨Nat.le_of_ble_eq_true rfl, Nat.le_of_ble_eq_true rfl⟩ (fun w2 H locs hw hH => ?_)
    subst hw
    refine lv_if_eq (tgt := 21) hx hb dX4_may_13 rfl (fun c_60 => ?_) (fun c_60 => ?_)
    · have hF := itp c_60 hF
      refine lv_iconst (v := 1) hx hb dX4_may_21 kyi_1 ?_
      obtain rfl := Option.some.inj hF
      exact hret _ _ _ _ _ ⟨_, _, _, _, _, _, rfl⟩ hH dX4_may_22
    · have hF := itn c_60 hF
      refine lv_iload_n hx hb dX4_may_16 rfl (lv_at hl 1 rfl) ?_
      refine lv_iload_n hx hb dX4_may_17 rfl (lv_at hl 2 rfl) ?_
      refine lv_icmp_ne (tgt := 23) hx hb dX4_may_18 rfl (fun c_61 => ?_) (fun c_61 => ?_)
      · have hF := itn c_61 hF
        refine lv_aload_n hx hb dX4_may_23 rfl (lv_at hl 0 rfl) ?_
        refine cg_Y_Stacks_stkh_many hX hK hNW hH dX4_may_24 ?_
        refine lv_iload_n hx hb dX4_may_27 rfl (lv_at hl 1 rfl) ?_
        obtain ⟨x_62, he, hF⟩ := bd1e hF
        refine cl_hMany hX hK hH he dX4_may_28 ?_
        refine lv_if_ne (tgt := 34) hx hb dX4_may_29 rfl (fun c_63 => ?_) (fun c_63 => ?_)
        · have hF := itn c_63 hF
          refine lv_aload_n hx hb dX4_may_34 rfl (lv_at hl 0 rfl) ?_
          refine cg_Y_Stacks_stkh_moved hX hK hNW hH dX4_may_35 ?_
          refine lv_aload_n hx hb dX4_may_38 rfl (lv_at hl 0 rfl) ?_
          refine lv_iload_n hx hb dX4_may_39 rfl (lv_at hl 1 rfl) ?_
          obtain ⟨x_64, he, hF⟩ := bd1e hF
          refine mxV hX hK hEv hE0 hH (met_X4_top_h hE hPO hU he) (crecv hK hH 4 4 rfl rfl) gw_StoneYear_Stacks_82 hd_yX4_top ⟨Nat.le_of_ble_eq_true rfl, Nat.le_of_ble_eq_true rfl⟩ rfl rfl hl (Nat.le_of_ble_eq_true rfl) dX4_may_40 ⟨Nat.le_of_ble_eq_true rfl, Nat.le_of_ble_eq_true rfl⟩ (fun w2 H locs hw hH => ?_)
          subst hw
          obtain ⟨b_65, he, hF⟩ := bd1e hF
          refine mxSN hX hK hEv hE0 hH (met_X0_has hE hPO he) (lw_meth q1040) (hNW _ nw_q1038) q129 q1039 hd_yX0_has ⟨Nat.le_of_ble_eq_true rfl, Nat.le_of_ble_eq_true rfl⟩ rfl rfl hl (Nat.le_of_ble_eq_true rfl) dX4_may_43 ⟨Nat.le_of_ble_eq_true rfl, Nat.le_of_ble_eq_true rfl⟩ (fun w2 H locs hw hH => ?_)
          subst hw
          refine lv_if_eq (tgt := 51) hx hb dX4_may_46 rfl (fun c_66 => ?_) (fun c_66 => ?_)
          · have hF := itp c_66 hF
            refine lv_aload_n hx hb dX4_may_51 rfl (lv_at hl 0 rfl) ?_
            refine cg_Y_Stacks_stkh_many hX hK hNW hH dX4_may_52 ?_
            refine lv_iload_n hx hb dX4_may_55 rfl (lv_at hl 2 rfl) ?_
            obtain ⟨x_67, he, hF⟩ := bd1e hF
            refine cl_hMany hX hK hH he dX4_may_56 ?_
            refine lv_aload_n hx hb dX4_may_57 rfl (lv_at hl 0 rfl) ?_
            refine cg_Y_Stacks_stkh_town hX hK hNW hH dX4_may_58 ?_
            refine lv_iload_n hx hb dX4_may_61 rfl (lv_at hl 2 rfl) ?_
            obtain ⟨x_68, he, hF⟩ := bd1e hF
            refine mxV hX hK hEv hE0 hH (met_X2_high hE hPO hU he) (precv (fun _ h => cW_pl h) hK hH 2 rfl ⟨_, hU.obj⟩) gw_StoneYear_Stacks_142 hd_yX2_high ⟨Nat.le_of_ble_eq_true rfl, Nat.le_of_ble_eq_true rfl⟩ rfl rfl hl (Nat.le_of_ble_eq_true rfl) dX4_may_62 ⟨Nat.le_of_ble_eq_true rfl, Nat.le_of_ble_eq_true rfl⟩ (fun w2 H locs hw hH => ?_)
            subst hw
            refine lv_icmp_ne (tgt := 70) hx hb dX4_may_65 rfl (fun c_69 => ?_) (fun c_69 => ?_)
            · have hF := itn c_69 hF
              refine lv_aload_n hx hb dX4_may_70 rfl (lv_at hl 0 rfl) ?_
              refine lv_iload_n hx hb dX4_may_71 rfl (lv_at hl 1 rfl) ?_
              refine lv_iload_n hx hb dX4_may_72 rfl (lv_at hl 2 rfl) ?_
              obtain ⟨b_70, he, hF⟩ := bd1e hF
              refine mxV hX hK hEv hE0 hH (met_X4_isFree_h hE hPO hU he) (crecv hK hH 4 4 rfl rfl) gw_StoneYear_Stacks_145 hd_yX4_isFree ⟨Nat.le_of_ble_eq_true rfl, Nat.le_of_ble_eq_true rfl⟩ rfl rfl hl (Nat.le_of_ble_eq_true rfl) dX4_may_73 ⟨Nat.le_of_ble_eq_true rfl, Nat.le_of_ble_eq_true rfl⟩ (fun w2 H locs hw hH => ?_)
              subst hw
              refine lv_if_ne (tgt := 81) hx hb dX4_may_76 rfl (fun c_71 => ?_) (fun c_71 => ?_)
              · have hF := itn c_71 hF
                refine lv_aload_n hx hb dX4_may_81 rfl (lv_at hl 0 rfl) ?_
                refine lv_iload_n hx hb dX4_may_82 rfl (lv_at hl 2 rfl) ?_
                refine lv_aload_n hx hb dX4_may_83 rfl (lv_at hl 0 rfl) ?_
                refine cg_Y_Stacks_stkh_many hX hK hNW hH dX4_may_84 ?_
                refine lv_iload_n hx hb dX4_may_87 rfl (lv_at hl 2 rfl) ?_
                obtain ⟨x_72, he, hF⟩ := bd1e hF
                refine cl_hMany hX hK hH he dX4_may_88 ?_
                refine lv_aload_n hx hb dX4_may_89 rfl (lv_at hl 0 rfl) ?_
                refine lv_aload_n hx hb dX4_may_90 rfl (lv_at hl 0 rfl) ?_
                refine lv_iload_n hx hb dX4_may_91 rfl (lv_at hl 1 rfl) ?_
                obtain ⟨x_73, he, hF⟩ := bd1e hF
                refine mxV hX hK hEv hE0 hH (met_X4_top_h hE hPO hU he) (crecv hK hH 4 4 rfl rfl) gw_StoneYear_Stacks_82 hd_yX4_top ⟨Nat.le_of_ble_eq_true rfl, Nat.le_of_ble_eq_true rfl⟩ rfl rfl hl (Nat.le_of_ble_eq_true rfl) dX4_may_92 ⟨Nat.le_of_ble_eq_true rfl, Nat.le_of_ble_eq_true rfl⟩ (fun w2 H locs hw hH => ?_)
                subst hw
                obtain ⟨x_74, he, hF⟩ := bd1e hF
                refine mxV hX hK hEv hE0 hH (met_X4_size_h hE hPO hU he) (crecv hK hH 4 4 rfl rfl) gw_StoneYear_Stacks_67 hd_yX4_size ⟨Nat.le_of_ble_eq_true rfl, Nat.le_of_ble_eq_true rfl⟩ rfl rfl hl (Nat.le_of_ble_eq_true rfl) dX4_may_95 ⟨Nat.le_of_ble_eq_true rfl, Nat.le_of_ble_eq_true rfl⟩ (fun w2 H locs hw hH => ?_)
                subst hw
                obtain ⟨b_75, he, hF⟩ := bd1e hF
                refine mxV hX hK hEv hE0 hH (met_X4_bears_h hE hPO hU he) (crecv hK hH 4 4 rfl rfl) gw_StoneYear_Stacks_148 hd_yX4_bears ⟨Nat.le_of_ble_eq_true rfl, Nat.le_of_ble_eq_true rfl⟩ rfl rfl hl (Nat.le_of_ble_eq_true rfl) dX4_may_98 ⟨Nat.le_of_ble_eq_true rfl, Nat.le_of_ble_eq_true rfl⟩ (fun w2 H locs hw hH => ?_)
                subst hw
                refine lv_if_ne (tgt := 107) hx hb dX4_may_101 rfl (fun c_76 => ?_) (fun c_76 => ?_)
                · have hF := itn c_76 hF
                  refine lv_aload_n hx hb dX4_may_107 rfl (lv_at hl 0 rfl) ?_
                  refine lv_iload_n hx hb dX4_may_108 rfl (lv_at hl 1 rfl) ?_
                  refine lv_iload_n hx hb dX4_may_109 rfl (lv_at hl 2 rfl) ?_
                  refine lv_aload_n hx hb dX4_may_110 rfl (lv_at hl 0 rfl) ?_
                  refine cg_Y_Stacks_stkh_many hX hK hNW hH dX4_may_111 ?_
                  refine lv_iload_n hx hb dX4_may_114 rfl (lv_at hl 2 rfl) ?_
                  obtain ⟨x_77, he, hF⟩ := bd1e hF
                  refine cl_hMany hX hK hH he dX4_may_115 ?_
                  obtain ⟨b_78, he, hF⟩ := bd1e hF
                  refine mxV hX hK hEv hE0 hH (met_X4_isBarred_h hE hPO hU he) (crecv hK hH 4 4 rfl rfl) gw_StoneYear_Stacks_151 hd_yX4_isBarred ⟨Nat.le_of_ble_eq_true rfl, Nat.le_of_ble_eq_true rfl⟩ rfl rfl hl (Nat.le_of_ble_eq_true rfl) dX4_may_116 ⟨Nat.le_of_ble_eq_true rfl, Nat.le_of_ble_eq_true rfl⟩ (fun w2 H locs hw hH => ?_)
                  obtain ⟨g_sort_79, g_size_80, g_level_81, rfl⟩ := hw
                  refine lv_if_eq (tgt := 125) hx hb dX4_may_119 rfl (fun c_82 => ?_) (fun c_82 => ?_)
                  · have hF := itp c_82 hF
                    refine lv_aload_n hx hb dX4_may_125 rfl (lv_at hl 0 rfl) ?_
                    refine lv_iload_n hx hb dX4_may_126 rfl (lv_at hl 2 rfl) ?_
                    refine lv_iload_n hx hb dX4_may_127 rfl (lv_at hl 1 rfl) ?_
                    obtain ⟨x_83, he, hF⟩ := bd1e hF
                    refine mxV hX hK hEv hE0 hH (met_X4_broken_h hE hPO hU he) (crecv hK hH 4 4 rfl rfl) gw_StoneYear_Stacks_154 hd_yX4_broken ⟨Nat.le_of_ble_eq_true rfl, Nat.le_of_ble_eq_true rfl⟩ rfl rfl hl (Nat.le_of_ble_eq_true rfl) dX4_may_128 ⟨Nat.le_of_ble_eq_true rfl, Nat.le_of_ble_eq_true rfl⟩ (fun w2 H locs hw hH => ?_)
                    subst hw
                    refine lv_iconst (v := (-1)) hx hb dX4_may_131 kyi_m1 ?_
                    refine lv_icmp_eq (tgt := 138) hx hb dX4_may_132 rfl (fun c_84 => ?_) (fun c_84 => ?_)
                    · have hF := itp c_84 hF
                      refine lv_aload_n hx hb dX4_may_138 rfl (lv_at hl 0 rfl) ?_
                      refine cg_Y_Stacks_stkh_moved hX hK hNW hH dX4_may_139 ?_
                      obtain ⟨x_85, he, hF⟩ := bd1e hF
                      refine mxS hX hK hEv hE0 hH (met_J11_bitCount (EvG_of hEv) he).toX gw_StoneYear_Stacks_157 hd_yJ11_bitCount ⟨Nat.le_of_ble_eq_true rfl, Nat.le_of_ble_eq_true rfl⟩ rfl rfl hl (Nat.le_of_ble_eq_true rfl) dX4_may_142 ⟨Nat.le_of_ble_eq_true rfl, Nat.le_of_ble_eq_true rfl⟩ (fun w2 H locs hw hH => ?_)
                      subst hw
                      refine lv_aload_n hx hb dX4_may_145 rfl (lv_at hl 0 rfl) ?_
                      refine cg_Y_Stacks_stkh_town hX hK hNW hH dX4_may_146 ?_
                      refine cg_Y_Stacks_town_most hU (fun _ h => cW_pl h) hX hK hNW hH dX4_may_149 ?_
                      refine lv_icmp_lt (tgt := 160) hx hb dX4_may_152 rfl (fun c_86 => ?_) (fun c_86 => ?_)
                      · have hF := itp c_86 hF
                        refine lv_iconst (v := 0) hx hb dX4_may_160 kyi_0 ?_
                        obtain rfl := Option.some.inj hF
                        exact hret _ _ _ _ _ ⟨_, _, _, _, _, _, rfl⟩ hH dX4_may_161
                      · have hF := itn c_86 hF
                        refine lv_bipush (v := 9) hx hb dX4_may_155 kyb_9 ?_
                        refine lv_goto (tgt := 161) hx hb dX4_may_157 rfl ?_
                        obtain rfl := Option.some.inj hF
                        exact hret _ _ _ _ _ ⟨_, _, _, _, _, _, rfl⟩ hH dX4_may_161
                    · have hF := itn c_84 hF
                      refine lv_bipush (v := 8) hx hb dX4_may_135 kyb_8 ?_
                      obtain rfl := Option.some.inj hF
                      exact hret _ _ _ _ _ ⟨_, _, _, _, _, _, rfl⟩ hH dX4_may_137
                  · have hF := itn c_82 hF
                    refine lv_bipush (v := 7) hx hb dX4_may_122 kyb_7 ?_
                    obtain rfl := Option.some.inj hF
                    exact hret _ _ _ _ _ ⟨_, _, _, _, _, _, rfl⟩ hH dX4_may_124
                · have hF := itp c_76 hF
                  refine lv_bipush (v := 6) hx hb dX4_may_104 kyb_6 ?_
                  obtain rfl := Option.some.inj hF
                  exact hret _ _ _ _ _ ⟨_, _, _, _, _, _, rfl⟩ hH dX4_may_106
              · have hF := itp c_71 hF
                refine lv_iconst (v := 5) hx hb dX4_may_79 kyi_5 ?_
                obtain rfl := Option.some.inj hF
                exact hret _ _ _ _ _ ⟨_, _, _, _, _, _, rfl⟩ hH dX4_may_80
            · have hF := itp c_69 hF
              refine lv_iconst (v := 4) hx hb dX4_may_68 kyi_4 ?_
              obtain rfl := Option.some.inj hF
              exact hret _ _ _ _ _ ⟨_, _, _, _, _, _, rfl⟩ hH dX4_may_69
          · have hF := itn c_66 hF
            refine lv_iconst (v := 3) hx hb dX4_may_49 kyi_3 ?_
            obtain rfl := Option.some.inj hF
            exact hret _ _ _ _ _ ⟨_, _, _, _, _, _, rfl⟩ hH dX4_may_50
        · have hF := itp c_63 hF
          refine lv_iconst (v := 2) hx hb dX4_may_32 kyi_2 ?_
          obtain rfl := Option.some.inj hF
          exact hret _ _ _ _ _ ⟨_, _, _, _, _, _, rfl⟩ hH dX4_may_33
      · have hF := itp c_61 hF
        refine lv_iconst (v := 1) hx hb dX4_may_21 kyi_1 ?_
        obtain rfl := Option.some.inj hF
        exact hret _ _ _ _ _ ⟨_, _, _, _, _, _, rfl⟩ hH dX4_may_22
abbrev rm_X4_may_t : Room := { frames := 261, cells := 0, slots := 0, locals := 6025 }
set_option maxHeartbeats 4000000 in
theorem met_X4_may_t {l : Launch} {D : va_G} {ad : Nat → Nat} {cA : Nat → ClassId} {sA ta ba na : Nat → Nat} {gi : Nat → Option Nat} {rh : Option Nat} {g_sort : Int32} {g_size : Int32} {g_from : Int32} {g_to : Int32} {g_level : Int32} {g_full : Int32} {a_tape : Nat → Int32} {a_hAt : Nat → Int32} {a_hMany : Nat → Int32} {a_tAt : Nat → Int32} {a_tMany : Nat → Int32} {a_least : Nat → Int32} {a_place : Nat → Int32} {a_to : Nat → Int32} {a_order : Nat → Int32} {a_fails : Nat → Int32} {a_sKeys : Nat → Int64} {a_sRow : Nat → Int64} {a_sSlots : Nat → Int32} {a_bKeys : Nat → Int64} {a_bRow : Nat → Int64} {a_bSlots : Nat → Int32} {a_easy : Nat → Int32} {a_wants : Nat → Int32} {a_wantedBy : Nat → Int32} {a_ring : Nat → Int32} {a_carried : Nat → Int32} {a_latest : Nat → Int32} {v_taped : Int32} {v_faultKind : Int32} {v_faultPlace : Int32} {v_x : Int32} {v_ordered : Int32} {v_sought : Int32} {v_lastSought : Int32} {v_hMoved : Int32} {v_hWithout : Int32} {v_tMoved : Int32} {v_tWithout : Int32} {v_places : Int32} {v_elsewhere : Int32} {v_sMany : Int32} {v_bMany : Int32} {v_year : Int32} {y_lies : Int64} {a_rsort : Nat → Int32} {a_rmany : Nat → Int32} {a_nums : Nat → Nat → Int64} {t : Nat → Int32} {nb : Int32} {bv : Nat → Int32 → Int32 → Int32 → Int32 → Int32 → Int32 → Bool} {pl : va_W} {tb : Nat → Nat} {u : Nat → Int32}  {p1 : Int32} {p2 : Int32} {res : Int32} {E : EvT} (hE : EvN E) (hPO : PO cA pl ta ba t nb bv) (hU : TownAt cA pl tb u) (hF : FX4_may u a_tAt a_tMany v_tMoved v_tWithout nb bv p1 p2 = some res) : MX l yX4_may (ws_ yX4_may cX4_may 3 (Option.some Jvm.ClassFile.FieldType.int)) rm_X4_may_t D vwA (cT cA) E [.ref (ad 7), .int p1, .int p2] (cW ad cA sA ta ba na gi rh (some (tb 0)) g_sort g_size g_from g_to g_level g_full a_tape a_hAt a_hMany a_tAt a_tMany a_least a_place a_to a_order a_fails a_sKeys a_sRow a_sSlots a_bKeys a_bRow a_bSlots a_easy a_wants a_wantedBy a_ring a_carried a_latest v_taped v_faultKind v_faultPlace v_x v_ordered v_sought v_lastSought v_hMoved v_hWithout v_tMoved v_tWithout v_places v_elsewhere v_sMany v_bMany v_year y_lies a_rsort a_rmany a_nums pl) (fun z => ∃ g_sort' : Int32, ∃ g_size' : Int32, ∃ g_from' : Int32, ∃ g_to' : Int32, ∃ g_level' : Int32, ∃ g_full' : Int32, z = (cW ad cA sA ta ba na gi rh (some (tb 0)) g_sort' g_size' g_from' g_to' g_level' g_full' a_tape a_hAt a_hMany a_tAt a_tMany a_least a_place a_to a_order a_fails a_sKeys a_sRow a_sSlots a_bKeys a_bRow a_bSlots a_easy a_wants a_wantedBy a_ring a_carried a_latest v_taped v_faultKind v_faultPlace v_x v_ordered v_sought v_lastSought v_hMoved v_hWithout v_tMoved v_tWithout v_places v_elsewhere v_sMany v_bMany v_year y_lies a_rsort a_rmany a_nums pl)) (some (.int res)) := by
  refine MX.ofI (by decide) (Nat.le_of_ble_eq_true rfl) ?_
  intro p e s m args below meth c Q A hX hK hE0 hname hret H locs ls hH hl
  have hX : CallFix p m c cX4_may 3 s args lw_all RX4 := hX
  have hx := hX.1
  have hb := hX.2.1
  have hown := hX.2.2.2.1
  have hts := hX.2.2.2.2
  have hl : lv_has ls 3 [(0, .ref (ad 7)), (1, .int p1), (2, .int p2)] := hl
  have hEv := hE.1
  have hNW := hE.2.1 _ _ _ hE0
  have hT := hPO.1
  have hB := hPO.2
  delta FX4_may at hF
  refine lv_aload_n hx hb dX4_may_0 rfl (lv_at hl 0 rfl) ?_
  refine lv_iload_n hx hb dX4_may_1 rfl (lv_at hl 1 rfl) ?_
  obtain ⟨b_57, he, hF⟩ := bd1e hF
  refine mxV hX hK hEv hE0 hH (met_X4_isRow_t hE hPO hU he) (crecv hK hH 7 4 rfl rfl) gw_StoneYear_Stacks_135 hd_yX4_isRow ⟨Nat.le_of_ble_eq_true rfl, Nat.le_of_ble_eq_true rfl⟩ rfl rfl hl (Nat.le_of_ble_eq_true rfl) dX4_may_2 ⟨Nat.le_of_ble_eq_true rfl, Nat.le_of_ble_eq_true rfl⟩ (fun w2 H locs hw hH => ?_)
  subst hw
  refine lv_if_eq (tgt := 21) hx hb dX4_may_5 rfl (fun c_58 => ?_) (fun c_58 => ?_)
  · have hF := itp c_58 hF
    refine lv_iconst (v := 1) hx hb dX4_may_21 kyi_1 ?_
    obtain rfl := Option.some.inj hF
    exact hret _ _ _ _ _ ⟨_, _, _, _, _, _, rfl⟩ hH dX4_may_22
  · have hF := itn c_58 hF
    refine lv_aload_n hx hb dX4_may_8 rfl (lv_at hl 0 rfl) ?_
    refine lv_iload_n hx hb dX4_may_9 rfl (lv_at hl 2 rfl) ?_
    obtain ⟨b_59, he, hF⟩ := bd1e hF
    refine mxV hX hK hEv hE0 hH (met_X4_isRow_t hE hPO hU he) (crecv hK hH 7 4 rfl rfl) gw_StoneYear_Stacks_135 hd_yX4_isRow ⟨Nat.le_of_ble_eq_true rfl, Nat.le_of_ble_eq_true rfl⟩ rfl rfl hl (Nat.le_of_ble_eq_true rfl) dX4_may_10 ⟨Nat.le_of_ble_eq_true rfl, Nat.le_of_ble_eq_true rfl⟩ (fun w2 H locs hw hH => ?_)
    subst hw
    refine lv_if_eq (tgt := 21) hx hb dX4_may_13 rfl (fun c_60 => ?_) (fun c_60 => ?_)
    · have hF := itp c_60 hF
      refine lv_iconst (v := 1) hx hb dX4_may_21 kyi_1 ?_
      obtain rfl := Option.some.inj hF
      exact hret _ _ _ _ _ ⟨_, _, _, _, _, _, rfl⟩ hH dX4_may_22
    · have hF := itn c_60 hF
      refine lv_iload_n hx hb dX4_may_16 rfl (lv_at hl 1 rfl) ?_
      refine lv_iload_n hx hb dX4_may_17 rfl (lv_at hl 2 rfl) ?_
      refine lv_icmp_ne (tgt := 23) hx hb dX4_may_18 rfl (fun c_61 => ?_) (fun c_61 => ?_)
      · have hF := itn c_61 hF
        refine lv_aload_n hx hb dX4_may_23 rfl (lv_at hl 0 rfl) ?_
        refine cg_Y_Stacks_stkt_many hX hK hNW hH dX4_may_24 ?_
        refine lv_iload_n hx hb dX4_may_27 rfl (lv_at hl 1 rfl) ?_
        obtain ⟨x_62, he, hF⟩ := bd1e hF
        refine cl_tMany hX hK hH he dX4_may_28 ?_
        refine lv_if_ne (tgt := 34) hx hb dX4_may_29 rfl (fun c_63 => ?_) (fun c_63 => ?_)
        · have hF := itn c_63 hF
          refine lv_aload_n hx hb dX4_may_34 rfl (lv_at hl 0 rfl) ?_
          refine cg_Y_Stacks_stkt_moved hX hK hNW hH dX4_may_35 ?_
          refine lv_aload_n hx hb dX4_may_38 rfl (lv_at hl 0 rfl) ?_
          refine lv_iload_n hx hb dX4_may_39 rfl (lv_at hl 1 rfl) ?_
          obtain ⟨x_64, he, hF⟩ := bd1e hF
          refine mxV hX hK hEv hE0 hH (met_X4_top_t hE hPO hU he) (crecv hK hH 7 4 rfl rfl) gw_StoneYear_Stacks_82 hd_yX4_top ⟨Nat.le_of_ble_eq_true rfl, Nat.le_of_ble_eq_true rfl⟩ rfl rfl hl (Nat.le_of_ble_eq_true rfl) dX4_may_40 ⟨Nat.le_of_ble_eq_true rfl, Nat.le_of_ble_eq_true rfl⟩ (fun w2 H locs hw hH => ?_)
          subst hw
          obtain ⟨b_65, he, hF⟩ := bd1e hF
          refine mxSN hX hK hEv hE0 hH (met_X0_has hE hPO he) (lw_meth q1040) (hNW _ nw_q1038) q129 q1039 hd_yX0_has ⟨Nat.le_of_ble_eq_true rfl, Nat.le_of_ble_eq_true rfl⟩ rfl rfl hl (Nat.le_of_ble_eq_true rfl) dX4_may_43 ⟨Nat.le_of_ble_eq_true rfl, Nat.le_of_ble_eq_true rfl⟩ (fun w2 H locs hw hH => ?_)
          subst hw
          refine lv_if_eq (tgt := 51) hx hb dX4_may_46 rfl (fun c_66 => ?_) (fun c_66 => ?_)
          · have hF := itp c_66 hF
            refine lv_aload_n hx hb dX4_may_51 rfl (lv_at hl 0 rfl) ?_
            refine cg_Y_Stacks_stkt_many hX hK hNW hH dX4_may_52 ?_
            refine lv_iload_n hx hb dX4_may_55 rfl (lv_at hl 2 rfl) ?_
            obtain ⟨x_67, he, hF⟩ := bd1e hF
            refine cl_tMany hX hK hH he dX4_may_56 ?_
            refine lv_aload_n hx hb dX4_may_57 rfl (lv_at hl 0 rfl) ?_
            refine cg_Y_Stacks_stkt_town hX hK hNW hH dX4_may_58 ?_
            refine lv_iload_n hx hb dX4_may_61 rfl (lv_at hl 2 rfl) ?_
            obtain ⟨x_68, he, hF⟩ := bd1e hF
            refine mxV hX hK hEv hE0 hH (met_X2_high hE hPO hU he) (precv (fun _ h => cW_pl h) hK hH 2 rfl ⟨_, hU.obj⟩) gw_StoneYear_Stacks_142 hd_yX2_high ⟨Nat.le_of_ble_eq_true rfl, Nat.le_of_ble_eq_true rfl⟩ rfl rfl hl (Nat.le_of_ble_eq_true rfl) dX4_may_62 ⟨Nat.le_of_ble_eq_true rfl, Nat.le_of_ble_eq_true rfl⟩ (fun w2 H locs hw hH => ?_)
            subst hw
            refine lv_icmp_ne (tgt := 70) hx hb dX4_may_65 rfl (fun c_69 => ?_) (fun c_69 => ?_)
            · have hF := itn c_69 hF
              refine lv_aload_n hx hb dX4_may_70 rfl (lv_at hl 0 rfl) ?_
              refine lv_iload_n hx hb dX4_may_71 rfl (lv_at hl 1 rfl) ?_
              refine lv_iload_n hx hb dX4_may_72 rfl (lv_at hl 2 rfl) ?_
              obtain ⟨b_70, he, hF⟩ := bd1e hF
              refine mxV hX hK hEv hE0 hH (met_X4_isFree_t hE hPO hU he) (crecv hK hH 7 4 rfl rfl) gw_StoneYear_Stacks_145 hd_yX4_isFree ⟨Nat.le_of_ble_eq_true rfl, Nat.le_of_ble_eq_true rfl⟩ rfl rfl hl (Nat.le_of_ble_eq_true rfl) dX4_may_73 ⟨Nat.le_of_ble_eq_true rfl, Nat.le_of_ble_eq_true rfl⟩ (fun w2 H locs hw hH => ?_)
              subst hw
              refine lv_if_ne (tgt := 81) hx hb dX4_may_76 rfl (fun c_71 => ?_) (fun c_71 => ?_)
              · have hF := itn c_71 hF
                refine lv_aload_n hx hb dX4_may_81 rfl (lv_at hl 0 rfl) ?_
                refine lv_iload_n hx hb dX4_may_82 rfl (lv_at hl 2 rfl) ?_
                refine lv_aload_n hx hb dX4_may_83 rfl (lv_at hl 0 rfl) ?_
                refine cg_Y_Stacks_stkt_many hX hK hNW hH dX4_may_84 ?_
                refine lv_iload_n hx hb dX4_may_87 rfl (lv_at hl 2 rfl) ?_
                obtain ⟨x_72, he, hF⟩ := bd1e hF
                refine cl_tMany hX hK hH he dX4_may_88 ?_
                refine lv_aload_n hx hb dX4_may_89 rfl (lv_at hl 0 rfl) ?_
                refine lv_aload_n hx hb dX4_may_90 rfl (lv_at hl 0 rfl) ?_
                refine lv_iload_n hx hb dX4_may_91 rfl (lv_at hl 1 rfl) ?_
                obtain ⟨x_73, he, hF⟩ := bd1e hF
                refine mxV hX hK hEv hE0 hH (met_X4_top_t hE hPO hU he) (crecv hK hH 7 4 rfl rfl) gw_StoneYear_Stacks_82 hd_yX4_top ⟨Nat.le_of_ble_eq_true rfl, Nat.le_of_ble_eq_true rfl⟩ rfl rfl hl (Nat.le_of_ble_eq_true rfl) dX4_may_92 ⟨Nat.le_of_ble_eq_true rfl, Nat.le_of_ble_eq_true rfl⟩ (fun w2 H locs hw hH => ?_)
                subst hw
                obtain ⟨x_74, he, hF⟩ := bd1e hF
                refine mxV hX hK hEv hE0 hH (met_X4_size_t hE hPO hU he) (crecv hK hH 7 4 rfl rfl) gw_StoneYear_Stacks_67 hd_yX4_size ⟨Nat.le_of_ble_eq_true rfl, Nat.le_of_ble_eq_true rfl⟩ rfl rfl hl (Nat.le_of_ble_eq_true rfl) dX4_may_95 ⟨Nat.le_of_ble_eq_true rfl, Nat.le_of_ble_eq_true rfl⟩ (fun w2 H locs hw hH => ?_)
                subst hw
                obtain ⟨b_75, he, hF⟩ := bd1e hF
                refine mxV hX hK hEv hE0 hH (met_X4_bears_t hE hPO hU he) (crecv hK hH 7 4 rfl rfl) gw_StoneYear_Stacks_148 hd_yX4_bears ⟨Nat.le_of_ble_eq_true rfl, Nat.le_of_ble_eq_true rfl⟩ rfl rfl hl (Nat.le_of_ble_eq_true rfl) dX4_may_98 ⟨Nat.le_of_ble_eq_true rfl, Nat.le_of_ble_eq_true rfl⟩ (fun w2 H locs hw hH => ?_)
                subst hw
                refine lv_if_ne (tgt := 107) hx hb dX4_may_101 rfl (fun c_76 => ?_) (fun c_76 => ?_)
                · have hF := itn c_76 hF
                  refine lv_aload_n hx hb dX4_may_107 rfl (lv_at hl 0 rfl) ?_
                  refine lv_iload_n hx hb dX4_may_108 rfl (lv_at hl 1 rfl) ?_
                  refine lv_iload_n hx hb dX4_may_109 rfl (lv_at hl 2 rfl) ?_
                  refine lv_aload_n hx hb dX4_may_110 rfl (lv_at hl 0 rfl) ?_
                  refine cg_Y_Stacks_stkt_many hX hK hNW hH dX4_may_111 ?_
                  refine lv_iload_n hx hb dX4_may_114 rfl (lv_at hl 2 rfl) ?_
                  obtain ⟨x_77, he, hF⟩ := bd1e hF
                  refine cl_tMany hX hK hH he dX4_may_115 ?_
                  obtain ⟨b_78, he, hF⟩ := bd1e hF
                  refine mxV hX hK hEv hE0 hH (met_X4_isBarred_t hE hPO hU he) (crecv hK hH 7 4 rfl rfl) gw_StoneYear_Stacks_151 hd_yX4_isBarred ⟨Nat.le_of_ble_eq_true rfl, Nat.le_of_ble_eq_true rfl⟩ rfl rfl hl (Nat.le_of_ble_eq_true rfl) dX4_may_116 ⟨Nat.le_of_ble_eq_true rfl, Nat.le_of_ble_eq_true rfl⟩ (fun w2 H locs hw hH => ?_)
                  obtain ⟨g_sort_79, g_size_80, g_level_81, rfl⟩ := hw
                  refine lv_if_eq (tgt := 125) hx hb dX4_may_119 rfl (fun c_82 => ?_) (fun c_82 => ?_)
                  · have hF := itp c_82 hF
                    refine lv_aload_n hx hb dX4_may_125 rfl (lv_at hl 0 rfl) ?_
                    refine lv_iload_n hx hb dX4_may_126 rfl (lv_at hl 2 rfl) ?_
                    refine lv_iload_n hx hb dX4_may_127 rfl (lv_at hl 1 rfl) ?_
                    obtain ⟨x_83, he, hF⟩ := bd1e hF
                    refine mxV hX hK hEv hE0 hH (met_X4_broken_t hE hPO hU he) (crecv hK hH 7 4 rfl rfl) gw_StoneYear_Stacks_154 hd_yX4_broken ⟨Nat.le_of_ble_eq_true rfl, Nat.le_of_ble_eq_true rfl⟩ rfl rfl hl (Nat.le_of_ble_eq_true rfl) dX4_may_128 ⟨Nat.le_of_ble_eq_true rfl, Nat.le_of_ble_eq_true rfl⟩ (fun w2 H locs hw hH => ?_)
                    subst hw
                    refine lv_iconst (v := (-1)) hx hb dX4_may_131 kyi_m1 ?_
                    refine lv_icmp_eq (tgt := 138) hx hb dX4_may_132 rfl (fun c_84 => ?_) (fun c_84 => ?_)
                    · have hF := itp c_84 hF
                      refine lv_aload_n hx hb dX4_may_138 rfl (lv_at hl 0 rfl) ?_
                      refine cg_Y_Stacks_stkt_moved hX hK hNW hH dX4_may_139 ?_
                      obtain ⟨x_85, he, hF⟩ := bd1e hF
                      refine mxS hX hK hEv hE0 hH (met_J11_bitCount (EvG_of hEv) he).toX gw_StoneYear_Stacks_157 hd_yJ11_bitCount ⟨Nat.le_of_ble_eq_true rfl, Nat.le_of_ble_eq_true rfl⟩ rfl rfl hl (Nat.le_of_ble_eq_true rfl) dX4_may_142 ⟨Nat.le_of_ble_eq_true rfl, Nat.le_of_ble_eq_true rfl⟩ (fun w2 H locs hw hH => ?_)
                      subst hw
                      refine lv_aload_n hx hb dX4_may_145 rfl (lv_at hl 0 rfl) ?_
                      refine cg_Y_Stacks_stkt_town hX hK hNW hH dX4_may_146 ?_
                      refine cg_Y_Stacks_town_most hU (fun _ h => cW_pl h) hX hK hNW hH dX4_may_149 ?_
                      refine lv_icmp_lt (tgt := 160) hx hb dX4_may_152 rfl (fun c_86 => ?_) (fun c_86 => ?_)
                      · have hF := itp c_86 hF
                        refine lv_iconst (v := 0) hx hb dX4_may_160 kyi_0 ?_
                        obtain rfl := Option.some.inj hF
                        exact hret _ _ _ _ _ ⟨_, _, _, _, _, _, rfl⟩ hH dX4_may_161
                      · have hF := itn c_86 hF
                        refine lv_bipush (v := 9) hx hb dX4_may_155 kyb_9 ?_
                        refine lv_goto (tgt := 161) hx hb dX4_may_157 rfl ?_
                        obtain rfl := Option.some.inj hF
                        exact hret _ _ _ _ _ ⟨_, _, _, _, _, _, rfl⟩ hH dX4_may_161
                    · have hF := itn c_84 hF
                      refine lv_bipush (v := 8) hx hb dX4_may_135 kyb_8 ?_
                      obtain rfl := Option.some.inj hF
                      exact hret _ _ _ _ _ ⟨_, _, _, _, _, _, rfl⟩ hH dX4_may_137
                  · have hF := itn c_82 hF
                    refine lv_bipush (v := 7) hx hb dX4_may_122 kyb_7 ?_
                    obtain rfl := Option.some.inj hF
                    exact hret _ _ _ _ _ ⟨_, _, _, _, _, _, rfl⟩ hH dX4_may_124
                · have hF := itp c_76 hF
                  refine lv_bipush (v := 6) hx hb dX4_may_104 kyb_6 ?_
                  obtain rfl := Option.some.inj hF
                  exact hret _ _ _ _ _ ⟨_, _, _, _, _, _, rfl⟩ hH dX4_may_106
              · have hF := itp c_71 hF
                refine lv_iconst (v := 5) hx hb dX4_may_79 kyi_5 ?_
                obtain rfl := Option.some.inj hF
                exact hret _ _ _ _ _ ⟨_, _, _, _, _, _, rfl⟩ hH dX4_may_80
            · have hF := itp c_69 hF
              refine lv_iconst (v := 4) hx hb dX4_may_68 kyi_4 ?_
              obtain rfl := Option.some.inj hF
              exact hret _ _ _ _ _ ⟨_, _, _, _, _, _, rfl⟩ hH dX4_may_69
          · have hF := itn c_66 hF
            refine lv_iconst (v := 3) hx hb dX4_may_49 kyi_3 ?_
            obtain rfl := Option.some.inj hF
            exact hret _ _ _ _ _ ⟨_, _, _, _, _, _, rfl⟩ hH dX4_may_50
        · have hF := itp c_63 hF
          refine lv_iconst (v := 2) hx hb dX4_may_32 kyi_2 ?_
          obtain rfl := Option.some.inj hF
          exact hret _ _ _ _ _ ⟨_, _, _, _, _, _, rfl⟩ hH dX4_may_33
      · have hF := itp c_61 hF
        refine lv_iconst (v := 1) hx hb dX4_may_21 kyi_1 ?_
        obtain rfl := Option.some.inj hF
        exact hret _ _ _ _ _ ⟨_, _, _, _, _, _, rfl⟩ hH dX4_may_22
abbrev rm_X0_may : Room := { frames := 262, cells := 0, slots := 0, locals := 6047 }
set_option maxHeartbeats 4000000 in
theorem met_X0_may {l : Launch} {D : va_G} {ad : Nat → Nat} {cA : Nat → ClassId} {sA ta ba na : Nat → Nat} {gi : Nat → Option Nat} {rh : Option Nat} {rt : Option Nat} {g_sort : Int32} {g_size : Int32} {g_from : Int32} {g_to : Int32} {g_level : Int32} {g_full : Int32} {a_tape : Nat → Int32} {a_hAt : Nat → Int32} {a_hMany : Nat → Int32} {a_tAt : Nat → Int32} {a_tMany : Nat → Int32} {a_least : Nat → Int32} {a_place : Nat → Int32} {a_to : Nat → Int32} {a_order : Nat → Int32} {a_fails : Nat → Int32} {a_sKeys : Nat → Int64} {a_sRow : Nat → Int64} {a_sSlots : Nat → Int32} {a_bKeys : Nat → Int64} {a_bRow : Nat → Int64} {a_bSlots : Nat → Int32} {a_easy : Nat → Int32} {a_wants : Nat → Int32} {a_wantedBy : Nat → Int32} {a_ring : Nat → Int32} {a_carried : Nat → Int32} {a_latest : Nat → Int32} {v_taped : Int32} {v_faultKind : Int32} {v_faultPlace : Int32} {v_x : Int32} {v_ordered : Int32} {v_sought : Int32} {v_lastSought : Int32} {v_hMoved : Int32} {v_hWithout : Int32} {v_tMoved : Int32} {v_tWithout : Int32} {v_places : Int32} {v_elsewhere : Int32} {v_sMany : Int32} {v_bMany : Int32} {v_year : Int32} {y_lies : Int64} {a_rsort : Nat → Int32} {a_rmany : Nat → Int32} {a_nums : Nat → Nat → Int64} {t : Nat → Int32} {nb : Int32} {bv : Nat → Int32 → Int32 → Int32 → Int32 → Int32 → Int32 → Bool} {pl : va_W}  {p1 : Int32} {p2 : Int32} {res : Int32} {ra_hAt : Nat → Int32} {ra_hMany : Nat → Int32} {rv_hMoved : Int32} {E : EvT} (hE : EvN E) (hPO : PO cA pl ta ba t nb bv) (hF : FX0_may a_hAt a_hMany v_hWithout y_lies t nb bv p1 p2 = some (res, ra_hAt, ra_hMany, rv_hMoved)) : MX l yX0_may (ws_ yX0_may cX0_may 3 (Option.some Jvm.ClassFile.FieldType.int)) rm_X0_may D vwA (cT cA) E [.ref (ad 0), .int p1, .int p2] (cW ad cA sA ta ba na gi rh rt g_sort g_size g_from g_to g_level g_full a_tape a_hAt a_hMany a_tAt a_tMany a_least a_place a_to a_order a_fails a_sKeys a_sRow a_sSlots a_bKeys a_bRow a_bSlots a_easy a_wants a_wantedBy a_ring a_carried a_latest v_taped v_faultKind v_faultPlace v_x v_ordered v_sought v_lastSought v_hMoved v_hWithout v_tMoved v_tWithout v_places v_elsewhere v_sMany v_bMany v_year y_lies a_rsort a_rmany a_nums pl) (fun z => ∃ g_sort' : Int32, ∃ g_size' : Int32, ∃ g_from' : Int32, ∃ g_to' : Int32, ∃ g_level' : Int32, ∃ g_full' : Int32, z = (cW ad cA sA ta ba na gi (some (ta 0)) rt g_sort' g_size' g_from' g_to' g_level' g_full' a_tape ra_hAt ra_hMany a_tAt a_tMany a_least a_place a_to a_order a_fails a_sKeys a_sRow a_sSlots a_bKeys a_bRow a_bSlots a_easy a_wants a_wantedBy a_ring a_carried a_latest v_taped v_faultKind v_faultPlace v_x v_ordered v_sought v_lastSought rv_hMoved v_hWithout v_tMoved v_tWithout v_places v_elsewhere v_sMany v_bMany v_year y_lies a_rsort a_rmany a_nums pl)) (some (.int res)) := by
  refine MX.ofI (by decide) (Nat.le_of_ble_eq_true rfl) ?_
  intro p e s m args below meth c Q A hX hK hE0 hname hret H locs ls hH hl
  have hX : CallFix p m c cX0_may 3 s args lw_all RX0 := hX
  have hx := hX.1
  have hb := hX.2.1
  have hown := hX.2.2.2.1
  have hts := hX.2.2.2.2
  have hl : lv_has ls 3 [(0, .ref (ad 0)), (1, .int p1), (2, .int p2)] := hl
  have hEv := hE.1
  have hNW := hE.2.1 _ _ _ hE0
  have hT := hPO.1
  have hB := hPO.2
  delta FX0_may at hF
  refine lv_aload_n hx hb dX0_may_0 rfl (lv_at hl 0 rfl) ?_
  obtain ⟨a_hAt_56, a_hMany_57, v_hMoved_58, he, hF⟩ := bd3e hF
  refine mxV hX hK hEv hE0 hH (met_X0_here hE hPO he) (crecv hK hH 0 0 rfl rfl) gw_StoneYear_195 hd_yX0_here ⟨Nat.le_of_ble_eq_true rfl, Nat.le_of_ble_eq_true rfl⟩ rfl rfl hl (Nat.le_of_ble_eq_true rfl) dX0_may_1 ⟨Nat.le_of_ble_eq_true rfl, Nat.le_of_ble_eq_true rfl⟩ (fun w2 H locs hw hH => ?_)
  subst hw
  refine lv_iload_n hx hb dX0_may_4 rfl (lv_at hl 1 rfl) ?_
  refine lv_iload_n hx hb dX0_may_5 rfl (lv_at hl 2 rfl) ?_
  obtain ⟨x_59, he, hF⟩ := bd1e hF
  refine mxV hX hK hEv hE0 hH (met_X4_may_h hE hPO hT he) (crecv hK hH 4 4 rfl rfl) gw_StoneYear_227 hd_yX4_may ⟨Nat.le_of_ble_eq_true rfl, Nat.le_of_ble_eq_true rfl⟩ rfl rfl hl (Nat.le_of_ble_eq_true rfl) dX0_may_6 ⟨Nat.le_of_ble_eq_true rfl, Nat.le_of_ble_eq_true rfl⟩ (fun w2 H locs hw hH => ?_)
  obtain ⟨g_sort_60, g_size_61, g_from_62, g_to_63, g_level_64, g_full_65, rfl⟩ := hw
  obtain ⟨rfl, rfl, rfl, rfl⟩ := re4 hF
  exact hret _ _ _ _ _ ⟨_, _, _, _, _, _, rfl⟩ hH dX0_may_9
abbrev rm_X4_mayExchange_h : Room := { frames := 261, cells := 0, slots := 0, locals := 6025 }
set_option maxHeartbeats 4000000 in
theorem met_X4_mayExchange_h {l : Launch} {D : va_G} {ad : Nat → Nat} {cA : Nat → ClassId} {sA ta ba na : Nat → Nat} {gi : Nat → Option Nat} {rt : Option Nat} {g_sort : Int32} {g_size : Int32} {g_from : Int32} {g_to : Int32} {g_level : Int32} {g_full : Int32} {a_tape : Nat → Int32} {a_hAt : Nat → Int32} {a_hMany : Nat → Int32} {a_tAt : Nat → Int32} {a_tMany : Nat → Int32} {a_least : Nat → Int32} {a_place : Nat → Int32} {a_to : Nat → Int32} {a_order : Nat → Int32} {a_fails : Nat → Int32} {a_sKeys : Nat → Int64} {a_sRow : Nat → Int64} {a_sSlots : Nat → Int32} {a_bKeys : Nat → Int64} {a_bRow : Nat → Int64} {a_bSlots : Nat → Int32} {a_easy : Nat → Int32} {a_wants : Nat → Int32} {a_wantedBy : Nat → Int32} {a_ring : Nat → Int32} {a_carried : Nat → Int32} {a_latest : Nat → Int32} {v_taped : Int32} {v_faultKind : Int32} {v_faultPlace : Int32} {v_x : Int32} {v_ordered : Int32} {v_sought : Int32} {v_lastSought : Int32} {v_hMoved : Int32} {v_hWithout : Int32} {v_tMoved : Int32} {v_tWithout : Int32} {v_places : Int32} {v_elsewhere : Int32} {v_sMany : Int32} {v_bMany : Int32} {v_year : Int32} {y_lies : Int64} {a_rsort : Nat → Int32} {a_rmany : Nat → Int32} {a_nums : Nat → Nat → Int64} {t : Nat → Int32} {nb : Int32} {bv : Nat → Int32 → Int32 → Int32 → Int32 → Int32 → Int32 → Bool} {pl : va_W} {tb : Nat → Nat} {u : Nat → Int32}  {p1 : Int32} {p2 : Int32} {res : Int32} {E : EvT} (hE : EvN E) (hPO : PO cA pl ta ba t nb bv) (hU : TownAt cA pl tb u) (hF : FX4_mayExchange u a_hAt a_hMany v_hMoved nb bv p1 p2 = some res) : MX l yX4_mayExchange (ws_ yX4_mayExchange cX4_mayExchange 3 (Option.some Jvm.ClassFile.FieldType.int)) rm_X4_mayExchange_h D vwA (cT cA) E [.ref (ad 4), .int p1, .int p2] (cW ad cA sA ta ba na gi (some (tb 0)) rt g_sort g_size g_from g_to g_level g_full a_tape a_hAt a_hMany a_tAt a_tMany a_least a_place a_to a_order a_fails a_sKeys a_sRow a_sSlots a_bKeys a_bRow a_bSlots a_easy a_wants a_wantedBy a_ring a_carried a_latest v_taped v_faultKind v_faultPlace v_x v_ordered v_sought v_lastSought v_hMoved v_hWithout v_tMoved v_tWithout v_places v_elsewhere v_sMany v_bMany v_year y_lies a_rsort a_rmany a_nums pl) (fun z => ∃ g_sort' : Int32, ∃ g_size' : Int32, ∃ g_from' : Int32, ∃ g_to' : Int32, ∃ g_level' : Int32, ∃ g_full' : Int32, z = (cW ad cA sA ta ba na gi (some (tb 0)) rt g_sort' g_size' g_from' g_to' g_level' g_full' a_tape a_hAt a_hMany a_tAt a_tMany a_least a_place a_to a_order a_fails a_sKeys a_sRow a_sSlots a_bKeys a_bRow a_bSlots a_easy a_wants a_wantedBy a_ring a_carried a_latest v_taped v_faultKind v_faultPlace v_x v_ordered v_sought v_lastSought v_hMoved v_hWithout v_tMoved v_tWithout v_places v_elsewhere v_sMany v_bMany v_year y_lies a_rsort a_rmany a_nums pl)) (some (.int res)) := by
  refine MX.ofI (by decide) (Nat.le_of_ble_eq_true rfl) ?_
  intro p e s m args below meth c Q A hX hK hE0 hname hret H locs ls hH hl
  have hX : CallFix p m c cX4_mayExchange 3 s args lw_all RX4 := hX
  have hx := hX.1
  have hb := hX.2.1
  have hown := hX.2.2.2.1
  have hts := hX.2.2.2.2
  have hl : lv_has ls 3 [(0, .ref (ad 4)), (1, .int p1), (2, .int p2)] := hl
  have hEv := hE.1
  have hNW := hE.2.1 _ _ _ hE0
  have hT := hPO.1
  have hB := hPO.2
  delta FX4_mayExchange at hF
  refine lv_aload_n hx hb dX4_mayExchange_0 rfl (lv_at hl 0 rfl) ?_
  refine lv_iload_n hx hb dX4_mayExchange_1 rfl (lv_at hl 1 rfl) ?_
  obtain ⟨b_57, he, hF⟩ := bd1e hF
  refine mxV hX hK hEv hE0 hH (met_X4_isRow_h hE hPO hU he) (crecv hK hH 4 4 rfl rfl) gw_StoneYear_Stacks_135 hd_yX4_isRow ⟨Nat.le_of_ble_eq_true rfl, Nat.le_of_ble_eq_true rfl⟩ rfl rfl hl (Nat.le_of_ble_eq_true rfl) dX4_mayExchange_2 ⟨Nat.le_of_ble_eq_true rfl, Nat.le_of_ble_eq_true rfl⟩ (fun w2 H locs hw hH => ?_)
  subst hw
  refine lv_if_eq (tgt := 31) hx hb dX4_mayExchange_5 rfl (fun c_58 => ?_) (fun c_58 => ?_)
  · have hF := itp c_58 hF
    refine lv_iconst (v := 1) hx hb dX4_mayExchange_31 kyi_1 ?_
    obtain rfl := Option.some.inj hF
    exact hret _ _ _ _ _ ⟨_, _, _, _, _, _, rfl⟩ hH dX4_mayExchange_32
  · have hF := itn c_58 hF
    refine lv_aload_n hx hb dX4_mayExchange_8 rfl (lv_at hl 0 rfl) ?_
    refine lv_iload_n hx hb dX4_mayExchange_9 rfl (lv_at hl 2 rfl) ?_
    obtain ⟨b_59, he, hF⟩ := bd1e hF
    refine mxV hX hK hEv hE0 hH (met_X4_isRow_h hE hPO hU he) (crecv hK hH 4 4 rfl rfl) gw_StoneYear_Stacks_135 hd_yX4_isRow ⟨Nat.le_of_ble_eq_true rfl, Nat.le_of_ble_eq_true rfl⟩ rfl rfl hl (Nat.le_of_ble_eq_true rfl) dX4_mayExchange_10 ⟨Nat.le_of_ble_eq_true rfl, Nat.le_of_ble_eq_true rfl⟩ (fun w2 H locs hw hH => ?_)
    subst hw
    refine lv_if_eq (tgt := 31) hx hb dX4_mayExchange_13 rfl (fun c_60 => ?_) (fun c_60 => ?_)
    · have hF := itp c_60 hF
      refine lv_iconst (v := 1) hx hb dX4_mayExchange_31 kyi_1 ?_
      obtain rfl := Option.some.inj hF
      exact hret _ _ _ _ _ ⟨_, _, _, _, _, _, rfl⟩ hH dX4_mayExchange_32
    · have hF := itn c_60 hF
      refine lv_iload_n hx hb dX4_mayExchange_16 rfl (lv_at hl 1 rfl) ?_
      refine lv_iload_n hx hb dX4_mayExchange_17 rfl (lv_at hl 2 rfl) ?_
      refine lv_icmp_eq (tgt := 31) hx hb dX4_mayExchange_18 rfl (fun c_61 => ?_) (fun c_61 => ?_)
      · have hF := itp c_61 hF
        refine lv_iconst (v := 1) hx hb dX4_mayExchange_31 kyi_1 ?_
        obtain rfl := Option.some.inj hF
        exact hret _ _ _ _ _ ⟨_, _, _, _, _, _, rfl⟩ hH dX4_mayExchange_32
      · have hF := itn c_61 hF
        refine lv_aload_n hx hb dX4_mayExchange_21 rfl (lv_at hl 0 rfl) ?_
        refine cg_Y_Stacks_stkh_town hX hK hNW hH dX4_mayExchange_22 ?_
        refine cg_Y_Stacks_town_rings hU (fun _ h => cW_pl h) hX hK hNW hH dX4_mayExchange_25 ?_
        refine lv_if_ne (tgt := 33) hx hb dX4_mayExchange_28 rfl (fun c_62 => ?_) (fun c_62 => ?_)
        · have hF := itn c_62 hF
          refine lv_aload_n hx hb dX4_mayExchange_33 rfl (lv_at hl 0 rfl) ?_
          refine cg_Y_Stacks_stkh_many hX hK hNW hH dX4_mayExchange_34 ?_
          refine lv_iload_n hx hb dX4_mayExchange_37 rfl (lv_at hl 1 rfl) ?_
          obtain ⟨x_63, he, hF⟩ := bd1e hF
          refine cl_hMany hX hK hH he dX4_mayExchange_38 ?_
          refine lv_if_eq (tgt := 51) hx hb dX4_mayExchange_39 rfl (fun c_64 => ?_) (fun c_64 => ?_)
          · have hF := itp c_64 hF
            refine lv_iconst (v := 2) hx hb dX4_mayExchange_51 kyi_2 ?_
            obtain rfl := Option.some.inj hF
            exact hret _ _ _ _ _ ⟨_, _, _, _, _, _, rfl⟩ hH dX4_mayExchange_52
          · have hF := itn c_64 hF
            refine lv_aload_n hx hb dX4_mayExchange_42 rfl (lv_at hl 0 rfl) ?_
            refine cg_Y_Stacks_stkh_many hX hK hNW hH dX4_mayExchange_43 ?_
            refine lv_iload_n hx hb dX4_mayExchange_46 rfl (lv_at hl 2 rfl) ?_
            obtain ⟨x_65, he, hF⟩ := bd1e hF
            refine cl_hMany hX hK hH he dX4_mayExchange_47 ?_
            refine lv_if_ne (tgt := 53) hx hb dX4_mayExchange_48 rfl (fun c_66 => ?_) (fun c_66 => ?_)
            · have hF := itn c_66 hF
              refine lv_aload_n hx hb dX4_mayExchange_53 rfl (lv_at hl 0 rfl) ?_
              refine cg_Y_Stacks_stkh_moved hX hK hNW hH dX4_mayExchange_54 ?_
              refine lv_aload_n hx hb dX4_mayExchange_57 rfl (lv_at hl 0 rfl) ?_
              refine lv_iload_n hx hb dX4_mayExchange_58 rfl (lv_at hl 1 rfl) ?_
              obtain ⟨x_67, he, hF⟩ := bd1e hF
              refine mxV hX hK hEv hE0 hH (met_X4_top_h hE hPO hU he) (crecv hK hH 4 4 rfl rfl) gw_StoneYear_Stacks_82 hd_yX4_top ⟨Nat.le_of_ble_eq_true rfl, Nat.le_of_ble_eq_true rfl⟩ rfl rfl hl (Nat.le_of_ble_eq_true rfl) dX4_mayExchange_59 ⟨Nat.le_of_ble_eq_true rfl, Nat.le_of_ble_eq_true rfl⟩ (fun w2 H locs hw hH => ?_)
              subst hw
              obtain ⟨b_68, he, hF⟩ := bd1e hF
              refine mxSN hX hK hEv hE0 hH (met_X0_has hE hPO he) (lw_meth q1040) (hNW _ nw_q1038) q129 q1039 hd_yX0_has ⟨Nat.le_of_ble_eq_true rfl, Nat.le_of_ble_eq_true rfl⟩ rfl rfl hl (Nat.le_of_ble_eq_true rfl) dX4_mayExchange_62 ⟨Nat.le_of_ble_eq_true rfl, Nat.le_of_ble_eq_true rfl⟩ (fun w2 H locs hw hH => ?_)
              subst hw
              refine lv_if_ne (tgt := 83) hx hb dX4_mayExchange_65 rfl (fun c_69 => ?_) (fun c_69 => ?_)
              · have hF := itn c_69 hF
                refine lv_iconst (v := 3) hx hb dX4_mayExchange_83 kyi_3 ?_
                obtain rfl := Option.some.inj hF
                exact hret _ _ _ _ _ ⟨_, _, _, _, _, _, rfl⟩ hH dX4_mayExchange_84
              · have hF := itp c_69 hF
                refine lv_aload_n hx hb dX4_mayExchange_68 rfl (lv_at hl 0 rfl) ?_
                refine cg_Y_Stacks_stkh_moved hX hK hNW hH dX4_mayExchange_69 ?_
                refine lv_aload_n hx hb dX4_mayExchange_72 rfl (lv_at hl 0 rfl) ?_
                refine lv_iload_n hx hb dX4_mayExchange_73 rfl (lv_at hl 2 rfl) ?_
                obtain ⟨x_70, he, hF⟩ := bd1e hF
                refine mxV hX hK hEv hE0 hH (met_X4_top_h hE hPO hU he) (crecv hK hH 4 4 rfl rfl) gw_StoneYear_Stacks_82 hd_yX4_top ⟨Nat.le_of_ble_eq_true rfl, Nat.le_of_ble_eq_true rfl⟩ rfl rfl hl (Nat.le_of_ble_eq_true rfl) dX4_mayExchange_74 ⟨Nat.le_of_ble_eq_true rfl, Nat.le_of_ble_eq_true rfl⟩ (fun w2 H locs hw hH => ?_)
                subst hw
                obtain ⟨b_71, he, hF⟩ := bd1e hF
                refine mxSN hX hK hEv hE0 hH (met_X0_has hE hPO he) (lw_meth q1040) (hNW _ nw_q1038) q129 q1039 hd_yX0_has ⟨Nat.le_of_ble_eq_true rfl, Nat.le_of_ble_eq_true rfl⟩ rfl rfl hl (Nat.le_of_ble_eq_true rfl) dX4_mayExchange_77 ⟨Nat.le_of_ble_eq_true rfl, Nat.le_of_ble_eq_true rfl⟩ (fun w2 H locs hw hH => ?_)
                subst hw
                refine lv_if_eq (tgt := 85) hx hb dX4_mayExchange_80 rfl (fun c_72 => ?_) (fun c_72 => ?_)
                · have hF := itp c_72 hF
                  refine lv_aload_n hx hb dX4_mayExchange_85 rfl (lv_at hl 0 rfl) ?_
                  refine lv_iload_n hx hb dX4_mayExchange_86 rfl (lv_at hl 1 rfl) ?_
                  refine lv_iload_n hx hb dX4_mayExchange_87 rfl (lv_at hl 2 rfl) ?_
                  obtain ⟨b_73, he, hF⟩ := bd1e hF
                  refine mxV hX hK hEv hE0 hH (met_X4_isFree_h hE hPO hU he) (crecv hK hH 4 4 rfl rfl) gw_StoneYear_Stacks_145 hd_yX4_isFree ⟨Nat.le_of_ble_eq_true rfl, Nat.le_of_ble_eq_true rfl⟩ rfl rfl hl (Nat.le_of_ble_eq_true rfl) dX4_mayExchange_88 ⟨Nat.le_of_ble_eq_true rfl, Nat.le_of_ble_eq_true rfl⟩ (fun w2 H locs hw hH => ?_)
                  subst hw
                  refine lv_if_ne (tgt := 96) hx hb dX4_mayExchange_91 rfl (fun c_74 => ?_) (fun c_74 => ?_)
                  · have hF := itn c_74 hF
                    refine lv_aload_n hx hb dX4_mayExchange_96 rfl (lv_at hl 0 rfl) ?_
                    refine lv_iload_n hx hb dX4_mayExchange_97 rfl (lv_at hl 1 rfl) ?_
                    refine lv_aload_n hx hb dX4_mayExchange_98 rfl (lv_at hl 0 rfl) ?_
                    refine cg_Y_Stacks_stkh_many hX hK hNW hH dX4_mayExchange_99 ?_
                    refine lv_iload_n hx hb dX4_mayExchange_102 rfl (lv_at hl 1 rfl) ?_
                    obtain ⟨x_75, he, hF⟩ := bd1e hF
                    refine cl_hMany hX hK hH he dX4_mayExchange_103 ?_
                    refine lv_iconst (v := 1) hx hb dX4_mayExchange_104 kyi_1 ?_
                    refine lv_isub hx hb dX4_mayExchange_105 ?_
                    refine lv_aload_n hx hb dX4_mayExchange_106 rfl (lv_at hl 0 rfl) ?_
                    refine lv_aload_n hx hb dX4_mayExchange_107 rfl (lv_at hl 0 rfl) ?_
                    refine lv_iload_n hx hb dX4_mayExchange_108 rfl (lv_at hl 2 rfl) ?_
                    obtain ⟨x_76, he, hF⟩ := bd1e hF
                    refine mxV hX hK hEv hE0 hH (met_X4_top_h hE hPO hU he) (crecv hK hH 4 4 rfl rfl) gw_StoneYear_Stacks_82 hd_yX4_top ⟨Nat.le_of_ble_eq_true rfl, Nat.le_of_ble_eq_true rfl⟩ rfl rfl hl (Nat.le_of_ble_eq_true rfl) dX4_mayExchange_109 ⟨Nat.le_of_ble_eq_true rfl, Nat.le_of_ble_eq_true rfl⟩ (fun w2 H locs hw hH => ?_)
                    subst hw
                    obtain ⟨x_77, he, hF⟩ := bd1e hF
                    refine mxV hX hK hEv hE0 hH (met_X4_size_h hE hPO hU he) (crecv hK hH 4 4 rfl rfl) gw_StoneYear_Stacks_67 hd_yX4_size ⟨Nat.le_of_ble_eq_true rfl, Nat.le_of_ble_eq_true rfl⟩ rfl rfl hl (Nat.le_of_ble_eq_true rfl) dX4_mayExchange_112 ⟨Nat.le_of_ble_eq_true rfl, Nat.le_of_ble_eq_true rfl⟩ (fun w2 H locs hw hH => ?_)
                    subst hw
                    obtain ⟨b_78, he, hF⟩ := bd1e hF
                    refine mxV hX hK hEv hE0 hH (met_X4_bears_h hE hPO hU he) (crecv hK hH 4 4 rfl rfl) gw_StoneYear_Stacks_148 hd_yX4_bears ⟨Nat.le_of_ble_eq_true rfl, Nat.le_of_ble_eq_true rfl⟩ rfl rfl hl (Nat.le_of_ble_eq_true rfl) dX4_mayExchange_115 ⟨Nat.le_of_ble_eq_true rfl, Nat.le_of_ble_eq_true rfl⟩ (fun w2 H locs hw hH => ?_)
                    subst hw
                    refine lv_if_eq (tgt := 146) hx hb dX4_mayExchange_118 rfl (fun c_79 => ?_) (fun c_79 => ?_)
                    · have hF := itp c_79 hF
                      refine lv_bipush (v := 6) hx hb dX4_mayExchange_146 kyb_6 ?_
                      obtain rfl := Option.some.inj hF
                      exact hret _ _ _ _ _ ⟨_, _, _, _, _, _, rfl⟩ hH dX4_mayExchange_148
                    · have hF := itn c_79 hF
                      refine lv_aload_n hx hb dX4_mayExchange_121 rfl (lv_at hl 0 rfl) ?_
                      refine lv_iload_n hx hb dX4_mayExchange_122 rfl (lv_at hl 2 rfl) ?_
                      refine lv_aload_n hx hb dX4_mayExchange_123 rfl (lv_at hl 0 rfl) ?_
                      refine cg_Y_Stacks_stkh_many hX hK hNW hH dX4_mayExchange_124 ?_
                      refine lv_iload_n hx hb dX4_mayExchange_127 rfl (lv_at hl 2 rfl) ?_
                      obtain ⟨x_80, he, hF⟩ := bd1e hF
                      refine cl_hMany hX hK hH he dX4_mayExchange_128 ?_
                      refine lv_iconst (v := 1) hx hb dX4_mayExchange_129 kyi_1 ?_
                      refine lv_isub hx hb dX4_mayExchange_130 ?_
                      refine lv_aload_n hx hb dX4_mayExchange_131 rfl (lv_at hl 0 rfl) ?_
                      refine lv_aload_n hx hb dX4_mayExchange_132 rfl (lv_at hl 0 rfl) ?_
                      refine lv_iload_n hx hb dX4_mayExchange_133 rfl (lv_at hl 1 rfl) ?_
                      obtain ⟨x_81, he, hF⟩ := bd1e hF
                      refine mxV hX hK hEv hE0 hH (met_X4_top_h hE hPO hU he) (crecv hK hH 4 4 rfl rfl) gw_StoneYear_Stacks_82 hd_yX4_top ⟨Nat.le_of_ble_eq_true rfl, Nat.le_of_ble_eq_true rfl⟩ rfl rfl hl (Nat.le_of_ble_eq_true rfl) dX4_mayExchange_134 ⟨Nat.le_of_ble_eq_true rfl, Nat.le_of_ble_eq_true rfl⟩ (fun w2 H locs hw hH => ?_)
                      subst hw
                      obtain ⟨x_82, he, hF⟩ := bd1e hF
                      refine mxV hX hK hEv hE0 hH (met_X4_size_h hE hPO hU he) (crecv hK hH 4 4 rfl rfl) gw_StoneYear_Stacks_67 hd_yX4_size ⟨Nat.le_of_ble_eq_true rfl, Nat.le_of_ble_eq_true rfl⟩ rfl rfl hl (Nat.le_of_ble_eq_true rfl) dX4_mayExchange_137 ⟨Nat.le_of_ble_eq_true rfl, Nat.le_of_ble_eq_true rfl⟩ (fun w2 H locs hw hH => ?_)
                      subst hw
                      obtain ⟨b_83, he, hF⟩ := bd1e hF
                      refine mxV hX hK hEv hE0 hH (met_X4_bears_h hE hPO hU he) (crecv hK hH 4 4 rfl rfl) gw_StoneYear_Stacks_148 hd_yX4_bears ⟨Nat.le_of_ble_eq_true rfl, Nat.le_of_ble_eq_true rfl⟩ rfl rfl hl (Nat.le_of_ble_eq_true rfl) dX4_mayExchange_140 ⟨Nat.le_of_ble_eq_true rfl, Nat.le_of_ble_eq_true rfl⟩ (fun w2 H locs hw hH => ?_)
                      subst hw
                      refine lv_if_ne (tgt := 149) hx hb dX4_mayExchange_143 rfl (fun c_84 => ?_) (fun c_84 => ?_)
                      · have hF := itn c_84 hF
                        refine lv_aload_n hx hb dX4_mayExchange_149 rfl (lv_at hl 0 rfl) ?_
                        refine lv_iload_n hx hb dX4_mayExchange_150 rfl (lv_at hl 1 rfl) ?_
                        refine lv_iload_n hx hb dX4_mayExchange_151 rfl (lv_at hl 2 rfl) ?_
                        refine lv_aload_n hx hb dX4_mayExchange_152 rfl (lv_at hl 0 rfl) ?_
                        refine cg_Y_Stacks_stkh_many hX hK hNW hH dX4_mayExchange_153 ?_
                        refine lv_iload_n hx hb dX4_mayExchange_156 rfl (lv_at hl 2 rfl) ?_
                        obtain ⟨x_85, he, hF⟩ := bd1e hF
                        refine cl_hMany hX hK hH he dX4_mayExchange_157 ?_
                        refine lv_iconst (v := 1) hx hb dX4_mayExchange_158 kyi_1 ?_
                        refine lv_isub hx hb dX4_mayExchange_159 ?_
                        obtain ⟨b_86, he, hF⟩ := bd1e hF
                        refine mxV hX hK hEv hE0 hH (met_X4_isBarred_h hE hPO hU he) (crecv hK hH 4 4 rfl rfl) gw_StoneYear_Stacks_151 hd_yX4_isBarred ⟨Nat.le_of_ble_eq_true rfl, Nat.le_of_ble_eq_true rfl⟩ rfl rfl hl (Nat.le_of_ble_eq_true rfl) dX4_mayExchange_160 ⟨Nat.le_of_ble_eq_true rfl, Nat.le_of_ble_eq_true rfl⟩ (fun w2 H locs hw hH => ?_)
                        obtain ⟨g_sort_87, g_size_88, g_level_89, rfl⟩ := hw
                        refine lv_if_ne (tgt := 183) hx hb dX4_mayExchange_163 rfl (fun c_90 => ?_) (fun c_90 => ?_)
                        · have hF := itn c_90 hF
                          refine lv_bipush (v := 7) hx hb dX4_mayExchange_183 kyb_7 ?_
                          obtain rfl := Option.some.inj hF
                          exact hret _ _ _ _ _ ⟨_, _, _, _, _, _, rfl⟩ hH dX4_mayExchange_185
                        · have hF := itp c_90 hF
                          refine lv_aload_n hx hb dX4_mayExchange_166 rfl (lv_at hl 0 rfl) ?_
                          refine lv_iload_n hx hb dX4_mayExchange_167 rfl (lv_at hl 2 rfl) ?_
                          refine lv_iload_n hx hb dX4_mayExchange_168 rfl (lv_at hl 1 rfl) ?_
                          refine lv_aload_n hx hb dX4_mayExchange_169 rfl (lv_at hl 0 rfl) ?_
                          refine cg_Y_Stacks_stkh_many hX hK hNW hH dX4_mayExchange_170 ?_
                          refine lv_iload_n hx hb dX4_mayExchange_173 rfl (lv_at hl 1 rfl) ?_
                          obtain ⟨x_91, he, hF⟩ := bd1e hF
                          refine cl_hMany hX hK hH he dX4_mayExchange_174 ?_
                          refine lv_iconst (v := 1) hx hb dX4_mayExchange_175 kyi_1 ?_
                          refine lv_isub hx hb dX4_mayExchange_176 ?_
                          obtain ⟨b_92, he, hF⟩ := bd1e hF
                          refine mxV hX hK hEv hE0 hH (met_X4_isBarred_h hE hPO hU he) (crecv hK hH 4 4 rfl rfl) gw_StoneYear_Stacks_151 hd_yX4_isBarred ⟨Nat.le_of_ble_eq_true rfl, Nat.le_of_ble_eq_true rfl⟩ rfl rfl hl (Nat.le_of_ble_eq_true rfl) dX4_mayExchange_177 ⟨Nat.le_of_ble_eq_true rfl, Nat.le_of_ble_eq_true rfl⟩ (fun w2 H locs hw hH => ?_)
                          obtain ⟨g_sort_93, g_size_94, g_level_95, rfl⟩ := hw
                          refine lv_if_eq (tgt := 186) hx hb dX4_mayExchange_180 rfl (fun c_96 => ?_) (fun c_96 => ?_)
                          · have hF := itp c_96 hF
                            refine lv_aload_n hx hb dX4_mayExchange_186 rfl (lv_at hl 0 rfl) ?_
                            refine cg_Y_Stacks_stkh_moved hX hK hNW hH dX4_mayExchange_187 ?_
                            obtain ⟨x_97, he, hF⟩ := bd1e hF
                            refine mxS hX hK hEv hE0 hH (met_J11_bitCount (EvG_of hEv) he).toX gw_StoneYear_Stacks_157 hd_yJ11_bitCount ⟨Nat.le_of_ble_eq_true rfl, Nat.le_of_ble_eq_true rfl⟩ rfl rfl hl (Nat.le_of_ble_eq_true rfl) dX4_mayExchange_190 ⟨Nat.le_of_ble_eq_true rfl, Nat.le_of_ble_eq_true rfl⟩ (fun w2 H locs hw hH => ?_)
                            subst hw
                            refine lv_iconst (v := 2) hx hb dX4_mayExchange_193 kyi_2 ?_
                            refine lv_iadd hx hb dX4_mayExchange_194 ?_
                            refine lv_aload_n hx hb dX4_mayExchange_195 rfl (lv_at hl 0 rfl) ?_
                            refine cg_Y_Stacks_stkh_town hX hK hNW hH dX4_mayExchange_196 ?_
                            refine cg_Y_Stacks_town_most hU (fun _ h => cW_pl h) hX hK hNW hH dX4_mayExchange_199 ?_
                            refine lv_icmp_le (tgt := 210) hx hb dX4_mayExchange_202 rfl (fun c_98 => ?_) (fun c_98 => ?_)
                            · have hF := itp c_98 hF
                              refine lv_iconst (v := 0) hx hb dX4_mayExchange_210 kyi_0 ?_
                              obtain rfl := Option.some.inj hF
                              exact hret _ _ _ _ _ ⟨_, _, _, _, _, _, rfl⟩ hH dX4_mayExchange_211
                            · have hF := itn c_98 hF
                              refine lv_bipush (v := 9) hx hb dX4_mayExchange_205 kyb_9 ?_
                              refine lv_goto (tgt := 211) hx hb dX4_mayExchange_207 rfl ?_
                              obtain rfl := Option.some.inj hF
                              exact hret _ _ _ _ _ ⟨_, _, _, _, _, _, rfl⟩ hH dX4_mayExchange_211
                          · have hF := itn c_96 hF
                            refine lv_bipush (v := 7) hx hb dX4_mayExchange_183 kyb_7 ?_
                            obtain rfl := Option.some.inj hF
                            exact hret _ _ _ _ _ ⟨_, _, _, _, _, _, rfl⟩ hH dX4_mayExchange_185
                      · have hF := itp c_84 hF
                        refine lv_bipush (v := 6) hx hb dX4_mayExchange_146 kyb_6 ?_
                        obtain rfl := Option.some.inj hF
                        exact hret _ _ _ _ _ ⟨_, _, _, _, _, _, rfl⟩ hH dX4_mayExchange_148
                  · have hF := itp c_74 hF
                    refine lv_iconst (v := 5) hx hb dX4_mayExchange_94 kyi_5 ?_
                    obtain rfl := Option.some.inj hF
                    exact hret _ _ _ _ _ ⟨_, _, _, _, _, _, rfl⟩ hH dX4_mayExchange_95
                · have hF := itn c_72 hF
                  refine lv_iconst (v := 3) hx hb dX4_mayExchange_83 kyi_3 ?_
                  obtain rfl := Option.some.inj hF
                  exact hret _ _ _ _ _ ⟨_, _, _, _, _, _, rfl⟩ hH dX4_mayExchange_84
            · have hF := itp c_66 hF
              refine lv_iconst (v := 2) hx hb dX4_mayExchange_51 kyi_2 ?_
              obtain rfl := Option.some.inj hF
              exact hret _ _ _ _ _ ⟨_, _, _, _, _, _, rfl⟩ hH dX4_mayExchange_52
        · have hF := itp c_62 hF
          refine lv_iconst (v := 1) hx hb dX4_mayExchange_31 kyi_1 ?_
          obtain rfl := Option.some.inj hF
          exact hret _ _ _ _ _ ⟨_, _, _, _, _, _, rfl⟩ hH dX4_mayExchange_32
abbrev rm_X4_mayExchange_t : Room := { frames := 261, cells := 0, slots := 0, locals := 6025 }
set_option maxHeartbeats 4000000 in
theorem met_X4_mayExchange_t {l : Launch} {D : va_G} {ad : Nat → Nat} {cA : Nat → ClassId} {sA ta ba na : Nat → Nat} {gi : Nat → Option Nat} {rh : Option Nat} {g_sort : Int32} {g_size : Int32} {g_from : Int32} {g_to : Int32} {g_level : Int32} {g_full : Int32} {a_tape : Nat → Int32} {a_hAt : Nat → Int32} {a_hMany : Nat → Int32} {a_tAt : Nat → Int32} {a_tMany : Nat → Int32} {a_least : Nat → Int32} {a_place : Nat → Int32} {a_to : Nat → Int32} {a_order : Nat → Int32} {a_fails : Nat → Int32} {a_sKeys : Nat → Int64} {a_sRow : Nat → Int64} {a_sSlots : Nat → Int32} {a_bKeys : Nat → Int64} {a_bRow : Nat → Int64} {a_bSlots : Nat → Int32} {a_easy : Nat → Int32} {a_wants : Nat → Int32} {a_wantedBy : Nat → Int32} {a_ring : Nat → Int32} {a_carried : Nat → Int32} {a_latest : Nat → Int32} {v_taped : Int32} {v_faultKind : Int32} {v_faultPlace : Int32} {v_x : Int32} {v_ordered : Int32} {v_sought : Int32} {v_lastSought : Int32} {v_hMoved : Int32} {v_hWithout : Int32} {v_tMoved : Int32} {v_tWithout : Int32} {v_places : Int32} {v_elsewhere : Int32} {v_sMany : Int32} {v_bMany : Int32} {v_year : Int32} {y_lies : Int64} {a_rsort : Nat → Int32} {a_rmany : Nat → Int32} {a_nums : Nat → Nat → Int64} {t : Nat → Int32} {nb : Int32} {bv : Nat → Int32 → Int32 → Int32 → Int32 → Int32 → Int32 → Bool} {pl : va_W} {tb : Nat → Nat} {u : Nat → Int32}  {p1 : Int32} {p2 : Int32} {res : Int32} {E : EvT} (hE : EvN E) (hPO : PO cA pl ta ba t nb bv) (hU : TownAt cA pl tb u) (hF : FX4_mayExchange u a_tAt a_tMany v_tMoved nb bv p1 p2 = some res) : MX l yX4_mayExchange (ws_ yX4_mayExchange cX4_mayExchange 3 (Option.some Jvm.ClassFile.FieldType.int)) rm_X4_mayExchange_t D vwA (cT cA) E [.ref (ad 7), .int p1, .int p2] (cW ad cA sA ta ba na gi rh (some (tb 0)) g_sort g_size g_from g_to g_level g_full a_tape a_hAt a_hMany a_tAt a_tMany a_least a_place a_to a_order a_fails a_sKeys a_sRow a_sSlots a_bKeys a_bRow a_bSlots a_easy a_wants a_wantedBy a_ring a_carried a_latest v_taped v_faultKind v_faultPlace v_x v_ordered v_sought v_lastSought v_hMoved v_hWithout v_tMoved v_tWithout v_places v_elsewhere v_sMany v_bMany v_year y_lies a_rsort a_rmany a_nums pl) (fun z => ∃ g_sort' : Int32, ∃ g_size' : Int32, ∃ g_from' : Int32, ∃ g_to' : Int32, ∃ g_level' : Int32, ∃ g_full' : Int32, z = (cW ad cA sA ta ba na gi rh (some (tb 0)) g_sort' g_size' g_from' g_to' g_level' g_full' a_tape a_hAt a_hMany a_tAt a_tMany a_least a_place a_to a_order a_fails a_sKeys a_sRow a_sSlots a_bKeys a_bRow a_bSlots a_easy a_wants a_wantedBy a_ring a_carried a_latest v_taped v_faultKind v_faultPlace v_x v_ordered v_sought v_lastSought v_hMoved v_hWithout v_tMoved v_tWithout v_places v_elsewhere v_sMany v_bMany v_year y_lies a_rsort a_rmany a_nums pl)) (some (.int res)) := by
  refine MX.ofI (by decide) (Nat.le_of_ble_eq_true rfl) ?_
  intro p e s m args below meth c Q A hX hK hE0 hname hret H locs ls hH hl
  have hX : CallFix p m c cX4_mayExchange 3 s args lw_all RX4 := hX
  have hx := hX.1
  have hb := hX.2.1
  have hown := hX.2.2.2.1
  have hts := hX.2.2.2.2
  have hl : lv_has ls 3 [(0, .ref (ad 7)), (1, .int p1), (2, .int p2)] := hl
  have hEv := hE.1
  have hNW := hE.2.1 _ _ _ hE0
  have hT := hPO.1
  have hB := hPO.2
  delta FX4_mayExchange at hF
  refine lv_aload_n hx hb dX4_mayExchange_0 rfl (lv_at hl 0 rfl) ?_
  refine lv_iload_n hx hb dX4_mayExchange_1 rfl (lv_at hl 1 rfl) ?_
  obtain ⟨b_57, he, hF⟩ := bd1e hF
  refine mxV hX hK hEv hE0 hH (met_X4_isRow_t hE hPO hU he) (crecv hK hH 7 4 rfl rfl) gw_StoneYear_Stacks_135 hd_yX4_isRow ⟨Nat.le_of_ble_eq_true rfl, Nat.le_of_ble_eq_true rfl⟩ rfl rfl hl (Nat.le_of_ble_eq_true rfl) dX4_mayExchange_2 ⟨Nat.le_of_ble_eq_true rfl, Nat.le_of_ble_eq_true rfl⟩ (fun w2 H locs hw hH => ?_)
  subst hw
  refine lv_if_eq (tgt := 31) hx hb dX4_mayExchange_5 rfl (fun c_58 => ?_) (fun c_58 => ?_)
  · have hF := itp c_58 hF
    refine lv_iconst (v := 1) hx hb dX4_mayExchange_31 kyi_1 ?_
    obtain rfl := Option.some.inj hF
    exact hret _ _ _ _ _ ⟨_, _, _, _, _, _, rfl⟩ hH dX4_mayExchange_32
  · have hF := itn c_58 hF
    refine lv_aload_n hx hb dX4_mayExchange_8 rfl (lv_at hl 0 rfl) ?_
    refine lv_iload_n hx hb dX4_mayExchange_9 rfl (lv_at hl 2 rfl) ?_
    obtain ⟨b_59, he, hF⟩ := bd1e hF
    refine mxV hX hK hEv hE0 hH (met_X4_isRow_t hE hPO hU he) (crecv hK hH 7 4 rfl rfl) gw_StoneYear_Stacks_135 hd_yX4_isRow ⟨Nat.le_of_ble_eq_true rfl, Nat.le_of_ble_eq_true rfl⟩ rfl rfl hl (Nat.le_of_ble_eq_true rfl) dX4_mayExchange_10 ⟨Nat.le_of_ble_eq_true rfl, Nat.le_of_ble_eq_true rfl⟩ (fun w2 H locs hw hH => ?_)
    subst hw
    refine lv_if_eq (tgt := 31) hx hb dX4_mayExchange_13 rfl (fun c_60 => ?_) (fun c_60 => ?_)
    · have hF := itp c_60 hF
      refine lv_iconst (v := 1) hx hb dX4_mayExchange_31 kyi_1 ?_
      obtain rfl := Option.some.inj hF
      exact hret _ _ _ _ _ ⟨_, _, _, _, _, _, rfl⟩ hH dX4_mayExchange_32
    · have hF := itn c_60 hF
      refine lv_iload_n hx hb dX4_mayExchange_16 rfl (lv_at hl 1 rfl) ?_
      refine lv_iload_n hx hb dX4_mayExchange_17 rfl (lv_at hl 2 rfl) ?_
      refine lv_icmp_eq (tgt := 31) hx hb dX4_mayExchange_18 rfl (fun c_61 => ?_) (fun c_61 => ?_)
      · have hF := itp c_61 hF
        refine lv_iconst (v := 1) hx hb dX4_mayExchange_31 kyi_1 ?_
        obtain rfl := Option.some.inj hF
        exact hret _ _ _ _ _ ⟨_, _, _, _, _, _, rfl⟩ hH dX4_mayExchange_32
      · have hF := itn c_61 hF
        refine lv_aload_n hx hb dX4_mayExchange_21 rfl (lv_at hl 0 rfl) ?_
        refine cg_Y_Stacks_stkt_town hX hK hNW hH dX4_mayExchange_22 ?_
        refine cg_Y_Stacks_town_rings hU (fun _ h => cW_pl h) hX hK hNW hH dX4_mayExchange_25 ?_
        refine lv_if_ne (tgt := 33) hx hb dX4_mayExchange_28 rfl (fun c_62 => ?_) (fun c_62 => ?_)
        · have hF := itn c_62 hF
          refine lv_aload_n hx hb dX4_mayExchange_33 rfl (lv_at hl 0 rfl) ?_
          refine cg_Y_Stacks_stkt_many hX hK hNW hH dX4_mayExchange_34 ?_
          refine lv_iload_n hx hb dX4_mayExchange_37 rfl (lv_at hl 1 rfl) ?_
          obtain ⟨x_63, he, hF⟩ := bd1e hF
          refine cl_tMany hX hK hH he dX4_mayExchange_38 ?_
          refine lv_if_eq (tgt := 51) hx hb dX4_mayExchange_39 rfl (fun c_64 => ?_) (fun c_64 => ?_)
          · have hF := itp c_64 hF
            refine lv_iconst (v := 2) hx hb dX4_mayExchange_51 kyi_2 ?_
            obtain rfl := Option.some.inj hF
            exact hret _ _ _ _ _ ⟨_, _, _, _, _, _, rfl⟩ hH dX4_mayExchange_52
          · have hF := itn c_64 hF
            refine lv_aload_n hx hb dX4_mayExchange_42 rfl (lv_at hl 0 rfl) ?_
            refine cg_Y_Stacks_stkt_many hX hK hNW hH dX4_mayExchange_43 ?_
            refine lv_iload_n hx hb dX4_mayExchange_46 rfl (lv_at hl 2 rfl) ?_
            obtain ⟨x_65, he, hF⟩ := bd1e hF
            refine cl_tMany hX hK hH he dX4_mayExchange_47 ?_
            refine lv_if_ne (tgt := 53) hx hb dX4_mayExchange_48 rfl (fun c_66 => ?_) (fun c_66 => ?_)
            · have hF := itn c_66 hF
              refine lv_aload_n hx hb dX4_mayExchange_53 rfl (lv_at hl 0 rfl) ?_
              refine cg_Y_Stacks_stkt_moved hX hK hNW hH dX4_mayExchange_54 ?_
              refine lv_aload_n hx hb dX4_mayExchange_57 rfl (lv_at hl 0 rfl) ?_
              refine lv_iload_n hx hb dX4_mayExchange_58 rfl (lv_at hl 1 rfl) ?_
              obtain ⟨x_67, he, hF⟩ := bd1e hF
              refine mxV hX hK hEv hE0 hH (met_X4_top_t hE hPO hU he) (crecv hK hH 7 4 rfl rfl) gw_StoneYear_Stacks_82 hd_yX4_top ⟨Nat.le_of_ble_eq_true rfl, Nat.le_of_ble_eq_true rfl⟩ rfl rfl hl (Nat.le_of_ble_eq_true rfl) dX4_mayExchange_59 ⟨Nat.le_of_ble_eq_true rfl, Nat.le_of_ble_eq_true rfl⟩ (fun w2 H locs hw hH => ?_)
              subst hw
              obtain ⟨b_68, he, hF⟩ := bd1e hF
              refine mxSN hX hK hEv hE0 hH (met_X0_has hE hPO he) (lw_meth q1040) (hNW _ nw_q1038) q129 q1039 hd_yX0_has ⟨Nat.le_of_ble_eq_true rfl, Nat.le_of_ble_eq_true rfl⟩ rfl rfl hl (Nat.le_of_ble_eq_true rfl) dX4_mayExchange_62 ⟨Nat.le_of_ble_eq_true rfl, Nat.le_of_ble_eq_true rfl⟩ (fun w2 H locs hw hH => ?_)
              subst hw
              refine lv_if_ne (tgt := 83) hx hb dX4_mayExchange_65 rfl (fun c_69 => ?_) (fun c_69 => ?_)
              · have hF := itn c_69 hF
                refine lv_iconst (v := 3) hx hb dX4_mayExchange_83 kyi_3 ?_
                obtain rfl := Option.some.inj hF
                exact hret _ _ _ _ _ ⟨_, _, _, _, _, _, rfl⟩ hH dX4_mayExchange_84
              · have hF := itp c_69 hF
                refine lv_aload_n hx hb dX4_mayExchange_68 rfl (lv_at hl 0 rfl) ?_
                refine cg_Y_Stacks_stkt_moved hX hK hNW hH dX4_mayExchange_69 ?_
                refine lv_aload_n hx hb dX4_mayExchange_72 rfl (lv_at hl 0 rfl) ?_
                refine lv_iload_n hx hb dX4_mayExchange_73 rfl (lv_at hl 2 rfl) ?_
                obtain ⟨x_70, he, hF⟩ := bd1e hF
                refine mxV hX hK hEv hE0 hH (met_X4_top_t hE hPO hU he) (crecv hK hH 7 4 rfl rfl) gw_StoneYear_Stacks_82 hd_yX4_top ⟨Nat.le_of_ble_eq_true rfl, Nat.le_of_ble_eq_true rfl⟩ rfl rfl hl (Nat.le_of_ble_eq_true rfl) dX4_mayExchange_74 ⟨Nat.le_of_ble_eq_true rfl, Nat.le_of_ble_eq_true rfl⟩ (fun w2 H locs hw hH => ?_)
                subst hw
                obtain ⟨b_71, he, hF⟩ := bd1e hF
                refine mxSN hX hK hEv hE0 hH (met_X0_has hE hPO he) (lw_meth q1040) (hNW _ nw_q1038) q129 q1039 hd_yX0_has ⟨Nat.le_of_ble_eq_true rfl, Nat.le_of_ble_eq_true rfl⟩ rfl rfl hl (Nat.le_of_ble_eq_true rfl) dX4_mayExchange_77 ⟨Nat.le_of_ble_eq_true rfl, Nat.le_of_ble_eq_true rfl⟩ (fun w2 H locs hw hH => ?_)
                subst hw
                refine lv_if_eq (tgt := 85) hx hb dX4_mayExchange_80 rfl (fun c_72 => ?_) (fun c_72 => ?_)
                · have hF := itp c_72 hF
                  refine lv_aload_n hx hb dX4_mayExchange_85 rfl (lv_at hl 0 rfl) ?_
                  refine lv_iload_n hx hb dX4_mayExchange_86 rfl (lv_at hl 1 rfl) ?_
                  refine lv_iload_n hx hb dX4_mayExchange_87 rfl (lv_at hl 2 rfl) ?_
                  obtain ⟨b_73, he, hF⟩ := bd1e hF
                  refine mxV hX hK hEv hE0 hH (met_X4_isFree_t hE hPO hU he) (crecv hK hH 7 4 rfl rfl) gw_StoneYear_Stacks_145 hd_yX4_isFree ⟨Nat.le_of_ble_eq_true rfl, Nat.le_of_ble_eq_true rfl⟩ rfl rfl hl (Nat.le_of_ble_eq_true rfl) dX4_mayExchange_88 ⟨Nat.le_of_ble_eq_true rfl, Nat.le_of_ble_eq_true rfl⟩ (fun w2 H locs hw hH => ?_)
                  subst hw
                  refine lv_if_ne (tgt := 96) hx hb dX4_mayExchange_91 rfl (fun c_74 => ?_) (fun c_74 => ?_)
                  · have hF := itn c_74 hF
                    refine lv_aload_n hx hb dX4_mayExchange_96 rfl (lv_at hl 0 rfl) ?_
                    refine lv_iload_n hx hb dX4_mayExchange_97 rfl (lv_at hl 1 rfl) ?_
                    refine lv_aload_n hx hb dX4_mayExchange_98 rfl (lv_at hl 0 rfl) ?_
                    refine cg_Y_Stacks_stkt_many hX hK hNW hH dX4_mayExchange_99 ?_
                    refine lv_iload_n hx hb dX4_mayExchange_102 rfl (lv_at hl 1 rfl) ?_
                    obtain ⟨x_75, he, hF⟩ := bd1e hF
                    refine cl_tMany hX hK hH he dX4_mayExchange_103 ?_
                    refine lv_iconst (v := 1) hx hb dX4_mayExchange_104 kyi_1 ?_
                    refine lv_isub hx hb dX4_mayExchange_105 ?_
                    refine lv_aload_n hx hb dX4_mayExchange_106 rfl (lv_at hl 0 rfl) ?_
                    refine lv_aload_n hx hb dX4_mayExchange_107 rfl (lv_at hl 0 rfl) ?_
                    refine lv_iload_n hx hb dX4_mayExchange_108 rfl (lv_at hl 2 rfl) ?_
                    obtain ⟨x_76, he, hF⟩ := bd1e hF
                    refine mxV hX hK hEv hE0 hH (met_X4_top_t hE hPO hU he) (crecv hK hH 7 4 rfl rfl) gw_StoneYear_Stacks_82 hd_yX4_top ⟨Nat.le_of_ble_eq_true rfl, Nat.le_of_ble_eq_true rfl⟩ rfl rfl hl (Nat.le_of_ble_eq_true rfl) dX4_mayExchange_109 ⟨Nat.le_of_ble_eq_true rfl, Nat.le_of_ble_eq_true rfl⟩ (fun w2 H locs hw hH => ?_)
                    subst hw
                    obtain ⟨x_77, he, hF⟩ := bd1e hF
                    refine mxV hX hK hEv hE0 hH (met_X4_size_t hE hPO hU he) (crecv hK hH 7 4 rfl rfl) gw_StoneYear_Stacks_67 hd_yX4_size ⟨Nat.le_of_ble_eq_true rfl, Nat.le_of_ble_eq_true rfl⟩ rfl rfl hl (Nat.le_of_ble_eq_true rfl) dX4_mayExchange_112 ⟨Nat.le_of_ble_eq_true rfl, Nat.le_of_ble_eq_true rfl⟩ (fun w2 H locs hw hH => ?_)
                    subst hw
                    obtain ⟨b_78, he, hF⟩ := bd1e hF
                    refine mxV hX hK hEv hE0 hH (met_X4_bears_t hE hPO hU he) (crecv hK hH 7 4 rfl rfl) gw_StoneYear_Stacks_148 hd_yX4_bears ⟨Nat.le_of_ble_eq_true rfl, Nat.le_of_ble_eq_true rfl⟩ rfl rfl hl (Nat.le_of_ble_eq_true rfl) dX4_mayExchange_115 ⟨Nat.le_of_ble_eq_true rfl, Nat.le_of_ble_eq_true rfl⟩ (fun w2 H locs hw hH => ?_)
                    subst hw
                    refine lv_if_eq (tgt := 146) hx hb dX4_mayExchange_118 rfl (fun c_79 => ?_) (fun c_79 => ?_)
                    · have hF := itp c_79 hF
                      refine lv_bipush (v := 6) hx hb dX4_mayExchange_146 kyb_6 ?_
                      obtain rfl := Option.some.inj hF
                      exact hret _ _ _ _ _ ⟨_, _, _, _, _, _, rfl⟩ hH dX4_mayExchange_148
                    · have hF := itn c_79 hF
                      refine lv_aload_n hx hb dX4_mayExchange_121 rfl (lv_at hl 0 rfl) ?_
                      refine lv_iload_n hx hb dX4_mayExchange_122 rfl (lv_at hl 2 rfl) ?_
                      refine lv_aload_n hx hb dX4_mayExchange_123 rfl (lv_at hl 0 rfl) ?_
                      refine cg_Y_Stacks_stkt_many hX hK hNW hH dX4_mayExchange_124 ?_
                      refine lv_iload_n hx hb dX4_mayExchange_127 rfl (lv_at hl 2 rfl) ?_
                      obtain ⟨x_80, he, hF⟩ := bd1e hF
                      refine cl_tMany hX hK hH he dX4_mayExchange_128 ?_
                      refine lv_iconst (v := 1) hx hb dX4_mayExchange_129 kyi_1 ?_
                      refine lv_isub hx hb dX4_mayExchange_130 ?_
                      refine lv_aload_n hx hb dX4_mayExchange_131 rfl (lv_at hl 0 rfl) ?_
                      refine lv_aload_n hx hb dX4_mayExchange_132 rfl (lv_at hl 0 rfl) ?_
                      refine lv_iload_n hx hb dX4_mayExchange_133 rfl (lv_at hl 1 rfl) ?_
                      obtain ⟨x_81, he, hF⟩ := bd1e hF
                      refine mxV hX hK hEv hE0 hH (met_X4_top_t hE hPO hU he) (crecv hK hH 7 4 rfl rfl) gw_StoneYear_Stacks_82 hd_yX4_top ⟨Nat.le_of_ble_eq_true rfl, Nat.le_of_ble_eq_true rfl⟩ rfl rfl hl (Nat.le_of_ble_eq_true rfl) dX4_mayExchange_134 ⟨Nat.le_of_ble_eq_true rfl, Nat.le_of_ble_eq_true rfl⟩ (fun w2 H locs hw hH => ?_)
                      subst hw
                      obtain ⟨x_82, he, hF⟩ := bd1e hF
                      refine mxV hX hK hEv hE0 hH (met_X4_size_t hE hPO hU he) (crecv hK hH 7 4 rfl rfl) gw_StoneYear_Stacks_67 hd_yX4_size ⟨Nat.le_of_ble_eq_true rfl, Nat.le_of_ble_eq_true rfl⟩ rfl rfl hl (Nat.le_of_ble_eq_true rfl) dX4_mayExchange_137 ⟨Nat.le_of_ble_eq_true rfl, Nat.le_of_ble_eq_true rfl⟩ (fun w2 H locs hw hH => ?_)
                      subst hw
                      obtain ⟨b_83, he, hF⟩ := bd1e hF
                      refine mxV hX hK hEv hE0 hH (met_X4_bears_t hE hPO hU he) (crecv hK hH 7 4 rfl rfl) gw_StoneYear_Stacks_148 hd_yX4_bears ⟨Nat.le_of_ble_eq_true rfl, Nat.le_of_ble_eq_true rfl⟩ rfl rfl hl (Nat.le_of_ble_eq_true rfl) dX4_mayExchange_140 ⟨Nat.le_of_ble_eq_true rfl, Nat.le_of_ble_eq_true rfl⟩ (fun w2 H locs hw hH => ?_)
                      subst hw
                      refine lv_if_ne (tgt := 149) hx hb dX4_mayExchange_143 rfl (fun c_84 => ?_) (fun c_84 => ?_)
                      · have hF := itn c_84 hF
                        refine lv_aload_n hx hb dX4_mayExchange_149 rfl (lv_at hl 0 rfl) ?_
                        refine lv_iload_n hx hb dX4_mayExchange_150 rfl (lv_at hl 1 rfl) ?_
                        refine lv_iload_n hx hb dX4_mayExchange_151 rfl (lv_at hl 2 rfl) ?_
                        refine lv_aload_n hx hb dX4_mayExchange_152 rfl (lv_at hl 0 rfl) ?_
                        refine cg_Y_Stacks_stkt_many hX hK hNW hH dX4_mayExchange_153 ?_
                        refine lv_iload_n hx hb dX4_mayExchange_156 rfl (lv_at hl 2 rfl) ?_
                        obtain ⟨x_85, he, hF⟩ := bd1e hF
                        refine cl_tMany hX hK hH he dX4_mayExchange_157 ?_
                        refine lv_iconst (v := 1) hx hb dX4_mayExchange_158 kyi_1 ?_
                        refine lv_isub hx hb dX4_mayExchange_159 ?_
                        obtain ⟨b_86, he, hF⟩ := bd1e hF
                        refine mxV hX hK hEv hE0 hH (met_X4_isBarred_t hE hPO hU he) (crecv hK hH 7 4 rfl rfl) gw_StoneYear_Stacks_151 hd_yX4_isBarred ⟨Nat.le_of_ble_eq_true rfl, Nat.le_of_ble_eq_true rfl⟩ rfl rfl hl (Nat.le_of_ble_eq_true rfl) dX4_mayExchange_160 ⟨Nat.le_of_ble_eq_true rfl, Nat.le_of_ble_eq_true rfl⟩ (fun w2 H locs hw hH => ?_)
                        obtain ⟨g_sort_87, g_size_88, g_level_89, rfl⟩ := hw
                        refine lv_if_ne (tgt := 183) hx hb dX4_mayExchange_163 rfl (fun c_90 => ?_) (fun c_90 => ?_)
                        · have hF := itn c_90 hF
                          refine lv_bipush (v := 7) hx hb dX4_mayExchange_183 kyb_7 ?_
                          obtain rfl := Option.some.inj hF
                          exact hret _ _ _ _ _ ⟨_, _, _, _, _, _, rfl⟩ hH dX4_mayExchange_185
                        · have hF := itp c_90 hF
                          refine lv_aload_n hx hb dX4_mayExchange_166 rfl (lv_at hl 0 rfl) ?_
                          refine lv_iload_n hx hb dX4_mayExchange_167 rfl (lv_at hl 2 rfl) ?_
                          refine lv_iload_n hx hb dX4_mayExchange_168 rfl (lv_at hl 1 rfl) ?_
                          refine lv_aload_n hx hb dX4_mayExchange_169 rfl (lv_at hl 0 rfl) ?_
                          refine cg_Y_Stacks_stkt_many hX hK hNW hH dX4_mayExchange_170 ?_
                          refine lv_iload_n hx hb dX4_mayExchange_173 rfl (lv_at hl 1 rfl) ?_
                          obtain ⟨x_91, he, hF⟩ := bd1e hF
                          refine cl_tMany hX hK hH he dX4_mayExchange_174 ?_
                          refine lv_iconst (v := 1) hx hb dX4_mayExchange_175 kyi_1 ?_
                          refine lv_isub hx hb dX4_mayExchange_176 ?_
                          obtain ⟨b_92, he, hF⟩ := bd1e hF
                          refine mxV hX hK hEv hE0 hH (met_X4_isBarred_t hE hPO hU he) (crecv hK hH 7 4 rfl rfl) gw_StoneYear_Stacks_151 hd_yX4_isBarred ⟨Nat.le_of_ble_eq_true rfl, Nat.le_of_ble_eq_true rfl⟩ rfl rfl hl (Nat.le_of_ble_eq_true rfl) dX4_mayExchange_177 ⟨Nat.le_of_ble_eq_true rfl, Nat.le_of_ble_eq_true rfl⟩ (fun w2 H locs hw hH => ?_)
                          obtain ⟨g_sort_93, g_size_94, g_level_95, rfl⟩ := hw
                          refine lv_if_eq (tgt := 186) hx hb dX4_mayExchange_180 rfl (fun c_96 => ?_) (fun c_96 => ?_)
                          · have hF := itp c_96 hF
                            refine lv_aload_n hx hb dX4_mayExchange_186 rfl (lv_at hl 0 rfl) ?_
                            refine cg_Y_Stacks_stkt_moved hX hK hNW hH dX4_mayExchange_187 ?_
                            obtain ⟨x_97, he, hF⟩ := bd1e hF
                            refine mxS hX hK hEv hE0 hH (met_J11_bitCount (EvG_of hEv) he).toX gw_StoneYear_Stacks_157 hd_yJ11_bitCount ⟨Nat.le_of_ble_eq_true rfl, Nat.le_of_ble_eq_true rfl⟩ rfl rfl hl (Nat.le_of_ble_eq_true rfl) dX4_mayExchange_190 ⟨Nat.le_of_ble_eq_true rfl, Nat.le_of_ble_eq_true rfl⟩ (fun w2 H locs hw hH => ?_)
                            subst hw
                            refine lv_iconst (v := 2) hx hb dX4_mayExchange_193 kyi_2 ?_
                            refine lv_iadd hx hb dX4_mayExchange_194 ?_
                            refine lv_aload_n hx hb dX4_mayExchange_195 rfl (lv_at hl 0 rfl) ?_
                            refine cg_Y_Stacks_stkt_town hX hK hNW hH dX4_mayExchange_196 ?_
                            refine cg_Y_Stacks_town_most hU (fun _ h => cW_pl h) hX hK hNW hH dX4_mayExchange_199 ?_
                            refine lv_icmp_le (tgt := 210) hx hb dX4_mayExchange_202 rfl (fun c_98 => ?_) (fun c_98 => ?_)
                            · have hF := itp c_98 hF
                              refine lv_iconst (v := 0) hx hb dX4_mayExchange_210 kyi_0 ?_
                              obtain rfl := Option.some.inj hF
                              exact hret _ _ _ _ _ ⟨_, _, _, _, _, _, rfl⟩ hH dX4_mayExchange_211
                            · have hF := itn c_98 hF
                              refine lv_bipush (v := 9) hx hb dX4_mayExchange_205 kyb_9 ?_
                              refine lv_goto (tgt := 211) hx hb dX4_mayExchange_207 rfl ?_
                              obtain rfl := Option.some.inj hF
                              exact hret _ _ _ _ _ ⟨_, _, _, _, _, _, rfl⟩ hH dX4_mayExchange_211
                          · have hF := itn c_96 hF
                            refine lv_bipush (v := 7) hx hb dX4_mayExchange_183 kyb_7 ?_
                            obtain rfl := Option.some.inj hF
                            exact hret _ _ _ _ _ ⟨_, _, _, _, _, _, rfl⟩ hH dX4_mayExchange_185
                      · have hF := itp c_84 hF
                        refine lv_bipush (v := 6) hx hb dX4_mayExchange_146 kyb_6 ?_
                        obtain rfl := Option.some.inj hF
                        exact hret _ _ _ _ _ ⟨_, _, _, _, _, _, rfl⟩ hH dX4_mayExchange_148
                  · have hF := itp c_74 hF
                    refine lv_iconst (v := 5) hx hb dX4_mayExchange_94 kyi_5 ?_
                    obtain rfl := Option.some.inj hF
                    exact hret _ _ _ _ _ ⟨_, _, _, _, _, _, rfl⟩ hH dX4_mayExchange_95
                · have hF := itn c_72 hF
                  refine lv_iconst (v := 3) hx hb dX4_mayExchange_83 kyi_3 ?_
                  obtain rfl := Option.some.inj hF
                  exact hret _ _ _ _ _ ⟨_, _, _, _, _, _, rfl⟩ hH dX4_mayExchange_84
            · have hF := itp c_66 hF
              refine lv_iconst (v := 2) hx hb dX4_mayExchange_51 kyi_2 ?_
              obtain rfl := Option.some.inj hF
              exact hret _ _ _ _ _ ⟨_, _, _, _, _, _, rfl⟩ hH dX4_mayExchange_52
        · have hF := itp c_62 hF
          refine lv_iconst (v := 1) hx hb dX4_mayExchange_31 kyi_1 ?_
          obtain rfl := Option.some.inj hF
          exact hret _ _ _ _ _ ⟨_, _, _, _, _, _, rfl⟩ hH dX4_mayExchange_32
abbrev rm_X0_mayExchange : Room := { frames := 262, cells := 0, slots := 0, locals := 6047 }
set_option maxHeartbeats 4000000 in
theorem met_X0_mayExchange {l : Launch} {D : va_G} {ad : Nat → Nat} {cA : Nat → ClassId} {sA ta ba na : Nat → Nat} {gi : Nat → Option Nat} {rh : Option Nat} {rt : Option Nat} {g_sort : Int32} {g_size : Int32} {g_from : Int32} {g_to : Int32} {g_level : Int32} {g_full : Int32} {a_tape : Nat → Int32} {a_hAt : Nat → Int32} {a_hMany : Nat → Int32} {a_tAt : Nat → Int32} {a_tMany : Nat → Int32} {a_least : Nat → Int32} {a_place : Nat → Int32} {a_to : Nat → Int32} {a_order : Nat → Int32} {a_fails : Nat → Int32} {a_sKeys : Nat → Int64} {a_sRow : Nat → Int64} {a_sSlots : Nat → Int32} {a_bKeys : Nat → Int64} {a_bRow : Nat → Int64} {a_bSlots : Nat → Int32} {a_easy : Nat → Int32} {a_wants : Nat → Int32} {a_wantedBy : Nat → Int32} {a_ring : Nat → Int32} {a_carried : Nat → Int32} {a_latest : Nat → Int32} {v_taped : Int32} {v_faultKind : Int32} {v_faultPlace : Int32} {v_x : Int32} {v_ordered : Int32} {v_sought : Int32} {v_lastSought : Int32} {v_hMoved : Int32} {v_hWithout : Int32} {v_tMoved : Int32} {v_tWithout : Int32} {v_places : Int32} {v_elsewhere : Int32} {v_sMany : Int32} {v_bMany : Int32} {v_year : Int32} {y_lies : Int64} {a_rsort : Nat → Int32} {a_rmany : Nat → Int32} {a_nums : Nat → Nat → Int64} {t : Nat → Int32} {nb : Int32} {bv : Nat → Int32 → Int32 → Int32 → Int32 → Int32 → Int32 → Bool} {pl : va_W}  {p1 : Int32} {p2 : Int32} {res : Int32} {ra_hAt : Nat → Int32} {ra_hMany : Nat → Int32} {rv_hMoved : Int32} {E : EvT} (hE : EvN E) (hPO : PO cA pl ta ba t nb bv) (hF : FX0_mayExchange a_hAt a_hMany y_lies t nb bv p1 p2 = some (res, ra_hAt, ra_hMany, rv_hMoved)) : MX l yX0_mayExchange (ws_ yX0_mayExchange cX0_mayExchange 3 (Option.some Jvm.ClassFile.FieldType.int)) rm_X0_mayExchange D vwA (cT cA) E [.ref (ad 0), .int p1, .int p2] (cW ad cA sA ta ba na gi rh rt g_sort g_size g_from g_to g_level g_full a_tape a_hAt a_hMany a_tAt a_tMany a_least a_place a_to a_order a_fails a_sKeys a_sRow a_sSlots a_bKeys a_bRow a_bSlots a_easy a_wants a_wantedBy a_ring a_carried a_latest v_taped v_faultKind v_faultPlace v_x v_ordered v_sought v_lastSought v_hMoved v_hWithout v_tMoved v_tWithout v_places v_elsewhere v_sMany v_bMany v_year y_lies a_rsort a_rmany a_nums pl) (fun z => ∃ g_sort' : Int32, ∃ g_size' : Int32, ∃ g_from' : Int32, ∃ g_to' : Int32, ∃ g_level' : Int32, ∃ g_full' : Int32, z = (cW ad cA sA ta ba na gi (some (ta 0)) rt g_sort' g_size' g_from' g_to' g_level' g_full' a_tape ra_hAt ra_hMany a_tAt a_tMany a_least a_place a_to a_order a_fails a_sKeys a_sRow a_sSlots a_bKeys a_bRow a_bSlots a_easy a_wants a_wantedBy a_ring a_carried a_latest v_taped v_faultKind v_faultPlace v_x v_ordered v_sought v_lastSought rv_hMoved v_hWithout v_tMoved v_tWithout v_places v_elsewhere v_sMany v_bMany v_year y_lies a_rsort a_rmany a_nums pl)) (some (.int res)) := by
  refine MX.ofI (by decide) (Nat.le_of_ble_eq_true rfl) ?_
  intro p e s m args below meth c Q A hX hK hE0 hname hret H locs ls hH hl
  have hX : CallFix p m c cX0_mayExchange 3 s args lw_all RX0 := hX
  have hx := hX.1
  have hb := hX.2.1
  have hown := hX.2.2.2.1
  have hts := hX.2.2.2.2
  have hl : lv_has ls 3 [(0, .ref (ad 0)), (1, .int p1), (2, .int p2)] := hl
  have hEv := hE.1
  have hNW := hE.2.1 _ _ _ hE0
  have hT := hPO.1
  have hB := hPO.2
  delta FX0_mayExchange at hF
  refine lv_aload_n hx hb dX0_mayExchange_0 rfl (lv_at hl 0 rfl) ?_
  obtain ⟨a_hAt_56, a_hMany_57, v_hMoved_58, he, hF⟩ := bd3e hF
  refine mxV hX hK hEv hE0 hH (met_X0_here hE hPO he) (crecv hK hH 0 0 rfl rfl) gw_StoneYear_195 hd_yX0_here ⟨Nat.le_of_ble_eq_true rfl, Nat.le_of_ble_eq_true rfl⟩ rfl rfl hl (Nat.le_of_ble_eq_true rfl) dX0_mayExchange_1 ⟨Nat.le_of_ble_eq_true rfl, Nat.le_of_ble_eq_true rfl⟩ (fun w2 H locs hw hH => ?_)
  subst hw
  refine lv_iload_n hx hb dX0_mayExchange_4 rfl (lv_at hl 1 rfl) ?_
  refine lv_iload_n hx hb dX0_mayExchange_5 rfl (lv_at hl 2 rfl) ?_
  obtain ⟨x_59, he, hF⟩ := bd1e hF
  refine mxV hX hK hEv hE0 hH (met_X4_mayExchange_h hE hPO hT he) (crecv hK hH 4 4 rfl rfl) gw_StoneYear_230 hd_yX4_mayExchange ⟨Nat.le_of_ble_eq_true rfl, Nat.le_of_ble_eq_true rfl⟩ rfl rfl hl (Nat.le_of_ble_eq_true rfl) dX0_mayExchange_6 ⟨Nat.le_of_ble_eq_true rfl, Nat.le_of_ble_eq_true rfl⟩ (fun w2 H locs hw hH => ?_)
  obtain ⟨g_sort_60, g_size_61, g_from_62, g_to_63, g_level_64, g_full_65, rfl⟩ := hw
  obtain ⟨rfl, rfl, rfl, rfl⟩ := re4 hF
  exact hret _ _ _ _ _ ⟨_, _, _, _, _, _, rfl⟩ hH dX0_mayExchange_9
abbrev rm_X0_counts : Room := { frames := 0, cells := 0, slots := 0, locals := 0 }
set_option maxHeartbeats 4000000 in
theorem met_X0_counts {l : Launch} {D : va_G} {ad : Nat → Nat} {cA : Nat → ClassId} {sA ta ba na : Nat → Nat} {gi : Nat → Option Nat} {rh : Option Nat} {rt : Option Nat} {g_sort : Int32} {g_size : Int32} {g_from : Int32} {g_to : Int32} {g_level : Int32} {g_full : Int32} {a_tape : Nat → Int32} {a_hAt : Nat → Int32} {a_hMany : Nat → Int32} {a_tAt : Nat → Int32} {a_tMany : Nat → Int32} {a_least : Nat → Int32} {a_place : Nat → Int32} {a_to : Nat → Int32} {a_order : Nat → Int32} {a_fails : Nat → Int32} {a_sKeys : Nat → Int64} {a_sRow : Nat → Int64} {a_sSlots : Nat → Int32} {a_bKeys : Nat → Int64} {a_bRow : Nat → Int64} {a_bSlots : Nat → Int32} {a_easy : Nat → Int32} {a_wants : Nat → Int32} {a_wantedBy : Nat → Int32} {a_ring : Nat → Int32} {a_carried : Nat → Int32} {a_latest : Nat → Int32} {v_taped : Int32} {v_faultKind : Int32} {v_faultPlace : Int32} {v_x : Int32} {v_ordered : Int32} {v_sought : Int32} {v_lastSought : Int32} {v_hMoved : Int32} {v_hWithout : Int32} {v_tMoved : Int32} {v_tWithout : Int32} {v_places : Int32} {v_elsewhere : Int32} {v_sMany : Int32} {v_bMany : Int32} {v_year : Int32} {y_lies : Int64} {a_rsort : Nat → Int32} {a_rmany : Nat → Int32} {a_nums : Nat → Nat → Int64} {t : Nat → Int32} {nb : Int32} {bv : Nat → Int32 → Int32 → Int32 → Int32 → Int32 → Int32 → Bool} {pl : va_W}  {p1 : Int32} {ra_carried : Nat → Int32} {ra_latest : Nat → Int32} {E : EvT} (hE : EvN E) (hPO : PO cA pl ta ba t nb bv) (hF : FX0_counts a_carried a_latest v_year p1 = some (ra_carried, ra_latest)) : MX l yX0_counts (ws_ yX0_counts cX0_counts 2 (Option.none : Option Jvm.ClassFile.FieldType)) rm_X0_counts D vwA (cT cA) E [.ref (ad 0), .int p1] (cW ad cA sA ta ba na gi rh rt g_sort g_size g_from g_to g_level g_full a_tape a_hAt a_hMany a_tAt a_tMany a_least a_place a_to a_order a_fails a_sKeys a_sRow a_sSlots a_bKeys a_bRow a_bSlots a_easy a_wants a_wantedBy a_ring a_carried a_latest v_taped v_faultKind v_faultPlace v_x v_ordered v_sought v_lastSought v_hMoved v_hWithout v_tMoved v_tWithout v_places v_elsewhere v_sMany v_bMany v_year y_lies a_rsort a_rmany a_nums pl) (fun z => z = (cW ad cA sA ta ba na gi rh rt g_sort g_size g_from g_to g_level g_full a_tape a_hAt a_hMany a_tAt a_tMany a_least a_place a_to a_order a_fails a_sKeys a_sRow a_sSlots a_bKeys a_bRow a_bSlots a_easy a_wants a_wantedBy a_ring ra_carried ra_latest v_taped v_faultKind v_faultPlace v_x v_ordered v_sought v_lastSought v_hMoved v_hWithout v_tMoved v_tWithout v_places v_elsewhere v_sMany v_bMany v_year y_lies a_rsort a_rmany a_nums pl)) none := by
  refine MX.ofV (by decide) (Nat.le_of_ble_eq_true rfl) ?_
  intro p e s m args below meth c Q A hX hK hE0 hname hret H locs ls hH hl
  have hX : CallFix p m c cX0_counts 2 s args lw_all RX0 := hX
  have hx := hX.1
  have hb := hX.2.1
  have hown := hX.2.2.2.1
  have hts := hX.2.2.2.2
  have hl : lv_has ls 2 [(0, .ref (ad 0)), (1, .int p1)] := hl
  have hEv := hE.1
  have hNW := hE.2.1 _ _ _ hE0
  have hT := hPO.1
  have hB := hPO.2
  delta FX0_counts at hF
  refine lv_aload_n hx hb dX0_counts_0 rfl (lv_at hl 0 rfl) ?_
  refine cg_Y_this_s hX hK hNW hH dX0_counts_1 ?_
  refine cg_Y_state_carried hX hK hNW hH dX0_counts_4 ?_
  refine lv_iload_n hx hb dX0_counts_7 rfl (lv_at hl 1 rfl) ?_
  refine lv_dup2_11 hx hb dX0_counts_8 rfl rfl ?_
  obtain ⟨x_55, he, hF⟩ := bd1e hF
  refine cl_carried hX hK hH he dX0_counts_9 ?_
  refine lv_iconst (v := 1) hx hb dX0_counts_10 kyi_1 ?_
  refine lv_iadd hx hb dX0_counts_11 ?_
  obtain ⟨a_carried_56, he, hF⟩ := bd1e hF
  refine cs_carried hX hK hH he dX0_counts_12 (fun H locs hH => ?_)
  refine lv_aload_n hx hb dX0_counts_13 rfl (lv_at hl 0 rfl) ?_
  refine cg_Y_this_s hX hK hNW hH dX0_counts_14 ?_
  refine cg_Y_state_latest hX hK hNW hH dX0_counts_17 ?_
  refine lv_iload_n hx hb dX0_counts_20 rfl (lv_at hl 1 rfl) ?_
  refine lv_aload_n hx hb dX0_counts_21 rfl (lv_at hl 0 rfl) ?_
  refine cg_Y_this_s hX hK hNW hH dX0_counts_22 ?_
  refine cg_Y_state_year hX hK hNW hH dX0_counts_25 ?_
  obtain ⟨a_latest_57, he, hF⟩ := bd1e hF
  refine cs_latest hX hK hH he dX0_counts_28 (fun H locs hH => ?_)
  obtain ⟨rfl, rfl⟩ := re2 hF
  exact hret _ _ _ _ _ rfl hH dX0_counts_29
abbrev rm_X4_carries_h : Room := { frames := 1, cells := 0, slots := 0, locals := 21 }
set_option maxHeartbeats 4000000 in
theorem met_X4_carries_h {l : Launch} {D : va_G} {ad : Nat → Nat} {cA : Nat → ClassId} {sA ta ba na : Nat → Nat} {gi : Nat → Option Nat} {rt : Option Nat} {g_sort : Int32} {g_size : Int32} {g_from : Int32} {g_to : Int32} {g_level : Int32} {g_full : Int32} {a_tape : Nat → Int32} {a_hAt : Nat → Int32} {a_hMany : Nat → Int32} {a_tAt : Nat → Int32} {a_tMany : Nat → Int32} {a_least : Nat → Int32} {a_place : Nat → Int32} {a_to : Nat → Int32} {a_order : Nat → Int32} {a_fails : Nat → Int32} {a_sKeys : Nat → Int64} {a_sRow : Nat → Int64} {a_sSlots : Nat → Int32} {a_bKeys : Nat → Int64} {a_bRow : Nat → Int64} {a_bSlots : Nat → Int32} {a_easy : Nat → Int32} {a_wants : Nat → Int32} {a_wantedBy : Nat → Int32} {a_ring : Nat → Int32} {a_carried : Nat → Int32} {a_latest : Nat → Int32} {v_taped : Int32} {v_faultKind : Int32} {v_faultPlace : Int32} {v_x : Int32} {v_ordered : Int32} {v_sought : Int32} {v_lastSought : Int32} {v_hMoved : Int32} {v_hWithout : Int32} {v_tMoved : Int32} {v_tWithout : Int32} {v_places : Int32} {v_elsewhere : Int32} {v_sMany : Int32} {v_bMany : Int32} {v_year : Int32} {y_lies : Int64} {a_rsort : Nat → Int32} {a_rmany : Nat → Int32} {a_nums : Nat → Nat → Int64} {t : Nat → Int32} {nb : Int32} {bv : Nat → Int32 → Int32 → Int32 → Int32 → Int32 → Int32 → Bool} {pl : va_W} {tb : Nat → Nat} {u : Nat → Int32}  {p1 : Int32} {p2 : Int32} {p3 : Int32} {res : Int32} {ra_hAt : Nat → Int32} {ra_hMany : Nat → Int32} {rv_hMoved : Int32} {E : EvT} (hE : EvN E) (hPO : PO cA pl ta ba t nb bv) (hU : TownAt cA pl tb u) (hF : FX4_carries a_hAt a_hMany v_hMoved p1 p2 p3 = some (res, ra_hAt, ra_hMany, rv_hMoved)) : MX l yX4_carries (ws_ yX4_carries cX4_carries 5 (Option.some Jvm.ClassFile.FieldType.int)) rm_X4_carries_h D vwA (cT cA) E [.ref (ad 4), .int p1, .int p2, .int p3] (cW ad cA sA ta ba na gi (some (tb 0)) rt g_sort g_size g_from g_to g_level g_full a_tape a_hAt a_hMany a_tAt a_tMany a_least a_place a_to a_order a_fails a_sKeys a_sRow a_sSlots a_bKeys a_bRow a_bSlots a_easy a_wants a_wantedBy a_ring a_carried a_latest v_taped v_faultKind v_faultPlace v_x v_ordered v_sought v_lastSought v_hMoved v_hWithout v_tMoved v_tWithout v_places v_elsewhere v_sMany v_bMany v_year y_lies a_rsort a_rmany a_nums pl) (fun z => z = (cW ad cA sA ta ba na gi (some (tb 0)) rt g_sort g_size g_from g_to g_level g_full a_tape ra_hAt ra_hMany a_tAt a_tMany a_least a_place a_to a_order a_fails a_sKeys a_sRow a_sSlots a_bKeys a_bRow a_bSlots a_easy a_wants a_wantedBy a_ring a_carried a_latest v_taped v_faultKind v_faultPlace v_x v_ordered v_sought v_lastSought rv_hMoved v_hWithout v_tMoved v_tWithout v_places v_elsewhere v_sMany v_bMany v_year y_lies a_rsort a_rmany a_nums pl)) (some (.int res)) := by
  refine MX.ofI (by decide) (Nat.le_of_ble_eq_true rfl) ?_
  intro p e s m args below meth c Q A hX hK hE0 hname hret H locs ls hH hl
  have hX : CallFix p m c cX4_carries 5 s args lw_all RX4 := hX
  have hx := hX.1
  have hb := hX.2.1
  have hown := hX.2.2.2.1
  have hts := hX.2.2.2.2
  have hl : lv_has ls 5 [(0, .ref (ad 4)), (1, .int p1), (2, .int p2), (3, .int p3)] := hl
  have hEv := hE.1
  have hNW := hE.2.1 _ _ _ hE0
  have hT := hPO.1
  have hB := hPO.2
  delta FX4_carries at hF
  refine lv_aload_n hx hb dX4_carries_0 rfl (lv_at hl 0 rfl) ?_
  refine lv_iload_n hx hb dX4_carries_1 rfl (lv_at hl 1 rfl) ?_
  obtain ⟨x_58, he, hF⟩ := bd1e hF
  refine mxV hX hK hEv hE0 hH (met_X4_top_h hE hPO hU he) (crecv hK hH 4 4 rfl rfl) gw_StoneYear_Stacks_82 hd_yX4_top ⟨Nat.le_of_ble_eq_true rfl, Nat.le_of_ble_eq_true rfl⟩ rfl rfl hl (Nat.le_of_ble_eq_true rfl) dX4_carries_2 ⟨Nat.le_of_ble_eq_true rfl, Nat.le_of_ble_eq_true rfl⟩ (fun w2 H locs hw hH => ?_)
  subst hw
  refine lv_istore (lv' := [(4, .int x_58), (0, .ref (ad 4)), (1, .int p1), (2, .int p2), (3, .int p3)]) hx hb dX4_carries_5 hl (by decide) rfl (fun ls hl => ?_)
  refine lv_aload_n hx hb dX4_carries_7 rfl (lv_at hl 1 rfl) ?_
  refine cg_Y_Stacks_stkh_at hX hK hNW hH dX4_carries_8 ?_
  refine lv_iconst (v := 3) hx hb dX4_carries_11 kyi_3 ?_
  refine lv_iload_n hx hb dX4_carries_12 rfl (lv_at hl 2 rfl) ?_
  refine lv_imul hx hb dX4_carries_13 ?_
  refine lv_aload_n hx hb dX4_carries_14 rfl (lv_at hl 1 rfl) ?_
  refine cg_Y_Stacks_stkh_many hX hK hNW hH dX4_carries_15 ?_
  refine lv_iload_n hx hb dX4_carries_18 rfl (lv_at hl 2 rfl) ?_
  obtain ⟨x_59, he, hF⟩ := bd1e hF
  refine cl_hMany hX hK hH he dX4_carries_19 ?_
  refine lv_iadd hx hb dX4_carries_20 ?_
  refine lv_iconst (v := 1) hx hb dX4_carries_21 kyi_1 ?_
  refine lv_isub hx hb dX4_carries_22 ?_
  refine lv_iconst (v := (-1)) hx hb dX4_carries_23 kyi_m1 ?_
  obtain ⟨a_hAt_60, he, hF⟩ := bd1e hF
  refine cs_hAt hX hK hH he dX4_carries_24 (fun H locs hH => ?_)
  refine lv_aload_n hx hb dX4_carries_25 rfl (lv_at hl 1 rfl) ?_
  refine cg_Y_Stacks_stkh_many hX hK hNW hH dX4_carries_26 ?_
  refine lv_iload_n hx hb dX4_carries_29 rfl (lv_at hl 2 rfl) ?_
  refine lv_dup2_11 hx hb dX4_carries_30 rfl rfl ?_
  obtain ⟨x_61, he, hF⟩ := bd1e hF
  refine cl_hMany hX hK hH he dX4_carries_31 ?_
  refine lv_iconst (v := 1) hx hb dX4_carries_32 kyi_1 ?_
  refine lv_isub hx hb dX4_carries_33 ?_
  obtain ⟨a_hMany_62, he, hF⟩ := bd1e hF
  refine cs_hMany hX hK hH he dX4_carries_34 (fun H locs hH => ?_)
  refine lv_aload_n hx hb dX4_carries_35 rfl (lv_at hl 1 rfl) ?_
  refine cg_Y_Stacks_stkh_at hX hK hNW hH dX4_carries_36 ?_
  refine lv_iconst (v := 3) hx hb dX4_carries_39 kyi_3 ?_
  refine lv_iload_n hx hb dX4_carries_40 rfl (lv_at hl 3 rfl) ?_
  refine lv_imul hx hb dX4_carries_41 ?_
  refine lv_aload_n hx hb dX4_carries_42 rfl (lv_at hl 1 rfl) ?_
  refine cg_Y_Stacks_stkh_many hX hK hNW hH dX4_carries_43 ?_
  refine lv_iload_n hx hb dX4_carries_46 rfl (lv_at hl 3 rfl) ?_
  obtain ⟨x_63, he, hF⟩ := bd1e hF
  refine cl_hMany hX hK hH he dX4_carries_47 ?_
  refine lv_iadd hx hb dX4_carries_48 ?_
  refine lv_iload hx hb dX4_carries_49 (lv_at hl 0 rfl) ?_
  obtain ⟨a_hAt_64, he, hF⟩ := bd1e hF
  refine cs_hAt hX hK hH he dX4_carries_51 (fun H locs hH => ?_)
  refine lv_aload_n hx hb dX4_carries_52 rfl (lv_at hl 1 rfl) ?_
  refine cg_Y_Stacks_stkh_many hX hK hNW hH dX4_carries_53 ?_
  refine lv_iload_n hx hb dX4_carries_56 rfl (lv_at hl 3 rfl) ?_
  refine lv_dup2_11 hx hb dX4_carries_57 rfl rfl ?_
  obtain ⟨x_65, he, hF⟩ := bd1e hF
  refine cl_hMany hX hK hH he dX4_carries_58 ?_
  refine lv_iconst (v := 1) hx hb dX4_carries_59 kyi_1 ?_
  refine lv_iadd hx hb dX4_carries_60 ?_
  obtain ⟨a_hMany_66, he, hF⟩ := bd1e hF
  refine cs_hMany hX hK hH he dX4_carries_61 (fun H locs hH => ?_)
  refine lv_iload_n hx hb dX4_carries_62 rfl (lv_at hl 4 rfl) ?_
  refine lv_if_eq (tgt := 79) hx hb dX4_carries_63 rfl (fun c_67 => ?_) (fun c_67 => ?_)
  · have hF := itp c_67 hF
    refine lv_iload hx hb dX4_carries_79 (lv_at hl 0 rfl) ?_
    obtain ⟨rfl, rfl, rfl, rfl⟩ := re4 hF
    exact hret _ _ _ _ _ rfl hH dX4_carries_81
  · have hF := itn c_67 hF
    refine lv_aload_n hx hb dX4_carries_66 rfl (lv_at hl 1 rfl) ?_
    refine lv_dup hx hb dX4_carries_67 rfl ?_
    refine cg_Y_Stacks_stkh_moved hX hK hNW hH dX4_carries_68 ?_
    refine lv_iconst (v := 1) hx hb dX4_carries_71 kyi_1 ?_
    refine lv_iload hx hb dX4_carries_72 (lv_at hl 0 rfl) ?_
    refine lv_ishl hx hb dX4_carries_74 ?_
    refine lv_ior hx hb dX4_carries_75 ?_
    refine cp_Y_Stacks_stkh_moved hX hK hNW hH dX4_carries_76 (fun H locs hH => ?_)
    refine lv_iload hx hb dX4_carries_79 (lv_at hl 0 rfl) ?_
    obtain ⟨rfl, rfl, rfl, rfl⟩ := re4 hF
    exact hret _ _ _ _ _ rfl hH dX4_carries_81
abbrev rm_X4_carries_t : Room := { frames := 1, cells := 0, slots := 0, locals := 21 }
set_option maxHeartbeats 4000000 in
theorem met_X4_carries_t {l : Launch} {D : va_G} {ad : Nat → Nat} {cA : Nat → ClassId} {sA ta ba na : Nat → Nat} {gi : Nat → Option Nat} {rh : Option Nat} {g_sort : Int32} {g_size : Int32} {g_from : Int32} {g_to : Int32} {g_level : Int32} {g_full : Int32} {a_tape : Nat → Int32} {a_hAt : Nat → Int32} {a_hMany : Nat → Int32} {a_tAt : Nat → Int32} {a_tMany : Nat → Int32} {a_least : Nat → Int32} {a_place : Nat → Int32} {a_to : Nat → Int32} {a_order : Nat → Int32} {a_fails : Nat → Int32} {a_sKeys : Nat → Int64} {a_sRow : Nat → Int64} {a_sSlots : Nat → Int32} {a_bKeys : Nat → Int64} {a_bRow : Nat → Int64} {a_bSlots : Nat → Int32} {a_easy : Nat → Int32} {a_wants : Nat → Int32} {a_wantedBy : Nat → Int32} {a_ring : Nat → Int32} {a_carried : Nat → Int32} {a_latest : Nat → Int32} {v_taped : Int32} {v_faultKind : Int32} {v_faultPlace : Int32} {v_x : Int32} {v_ordered : Int32} {v_sought : Int32} {v_lastSought : Int32} {v_hMoved : Int32} {v_hWithout : Int32} {v_tMoved : Int32} {v_tWithout : Int32} {v_places : Int32} {v_elsewhere : Int32} {v_sMany : Int32} {v_bMany : Int32} {v_year : Int32} {y_lies : Int64} {a_rsort : Nat → Int32} {a_rmany : Nat → Int32} {a_nums : Nat → Nat → Int64} {t : Nat → Int32} {nb : Int32} {bv : Nat → Int32 → Int32 → Int32 → Int32 → Int32 → Int32 → Bool} {pl : va_W} {tb : Nat → Nat} {u : Nat → Int32}  {p1 : Int32} {p2 : Int32} {p3 : Int32} {res : Int32} {ra_tAt : Nat → Int32} {ra_tMany : Nat → Int32} {rv_tMoved : Int32} {E : EvT} (hE : EvN E) (hPO : PO cA pl ta ba t nb bv) (hU : TownAt cA pl tb u) (hF : FX4_carries a_tAt a_tMany v_tMoved p1 p2 p3 = some (res, ra_tAt, ra_tMany, rv_tMoved)) : MX l yX4_carries (ws_ yX4_carries cX4_carries 5 (Option.some Jvm.ClassFile.FieldType.int)) rm_X4_carries_t D vwA (cT cA) E [.ref (ad 7), .int p1, .int p2, .int p3] (cW ad cA sA ta ba na gi rh (some (tb 0)) g_sort g_size g_from g_to g_level g_full a_tape a_hAt a_hMany a_tAt a_tMany a_least a_place a_to a_order a_fails a_sKeys a_sRow a_sSlots a_bKeys a_bRow a_bSlots a_easy a_wants a_wantedBy a_ring a_carried a_latest v_taped v_faultKind v_faultPlace v_x v_ordered v_sought v_lastSought v_hMoved v_hWithout v_tMoved v_tWithout v_places v_elsewhere v_sMany v_bMany v_year y_lies a_rsort a_rmany a_nums pl) (fun z => z = (cW ad cA sA ta ba na gi rh (some (tb 0)) g_sort g_size g_from g_to g_level g_full a_tape a_hAt a_hMany ra_tAt ra_tMany a_least a_place a_to a_order a_fails a_sKeys a_sRow a_sSlots a_bKeys a_bRow a_bSlots a_easy a_wants a_wantedBy a_ring a_carried a_latest v_taped v_faultKind v_faultPlace v_x v_ordered v_sought v_lastSought v_hMoved v_hWithout rv_tMoved v_tWithout v_places v_elsewhere v_sMany v_bMany v_year y_lies a_rsort a_rmany a_nums pl)) (some (.int res)) := by
  refine MX.ofI (by decide) (Nat.le_of_ble_eq_true rfl) ?_
  intro p e s m args below meth c Q A hX hK hE0 hname hret H locs ls hH hl
  have hX : CallFix p m c cX4_carries 5 s args lw_all RX4 := hX
  have hx := hX.1
  have hb := hX.2.1
  have hown := hX.2.2.2.1
  have hts := hX.2.2.2.2
  have hl : lv_has ls 5 [(0, .ref (ad 7)), (1, .int p1), (2, .int p2), (3, .int p3)] := hl
  have hEv := hE.1
  have hNW := hE.2.1 _ _ _ hE0
  have hT := hPO.1
  have hB := hPO.2
  delta FX4_carries at hF
  refine lv_aload_n hx hb dX4_carries_0 rfl (lv_at hl 0 rfl) ?_
  refine lv_iload_n hx hb dX4_carries_1 rfl (lv_at hl 1 rfl) ?_
  obtain ⟨x_58, he, hF⟩ := bd1e hF
  refine mxV hX hK hEv hE0 hH (met_X4_top_t hE hPO hU he) (crecv hK hH 7 4 rfl rfl) gw_StoneYear_Stacks_82 hd_yX4_top ⟨Nat.le_of_ble_eq_true rfl, Nat.le_of_ble_eq_true rfl⟩ rfl rfl hl (Nat.le_of_ble_eq_true rfl) dX4_carries_2 ⟨Nat.le_of_ble_eq_true rfl, Nat.le_of_ble_eq_true rfl⟩ (fun w2 H locs hw hH => ?_)
  subst hw
  refine lv_istore (lv' := [(4, .int x_58), (0, .ref (ad 7)), (1, .int p1), (2, .int p2), (3, .int p3)]) hx hb dX4_carries_5 hl (by decide) rfl (fun ls hl => ?_)
  refine lv_aload_n hx hb dX4_carries_7 rfl (lv_at hl 1 rfl) ?_
  refine cg_Y_Stacks_stkt_at hX hK hNW hH dX4_carries_8 ?_
  refine lv_iconst (v := 3) hx hb dX4_carries_11 kyi_3 ?_
  refine lv_iload_n hx hb dX4_carries_12 rfl (lv_at hl 2 rfl) ?_
  refine lv_imul hx hb dX4_carries_13 ?_
  refine lv_aload_n hx hb dX4_carries_14 rfl (lv_at hl 1 rfl) ?_
  refine cg_Y_Stacks_stkt_many hX hK hNW hH dX4_carries_15 ?_
  refine lv_iload_n hx hb dX4_carries_18 rfl (lv_at hl 2 rfl) ?_
  obtain ⟨x_59, he, hF⟩ := bd1e hF
  refine cl_tMany hX hK hH he dX4_carries_19 ?_
  refine lv_iadd hx hb dX4_carries_20 ?_
  refine lv_iconst (v := 1) hx hb dX4_carries_21 kyi_1 ?_
  refine lv_isub hx hb dX4_carries_22 ?_
  refine lv_iconst (v := (-1)) hx hb dX4_carries_23 kyi_m1 ?_
  obtain ⟨a_tAt_60, he, hF⟩ := bd1e hF
  refine cs_tAt hX hK hH he dX4_carries_24 (fun H locs hH => ?_)
  refine lv_aload_n hx hb dX4_carries_25 rfl (lv_at hl 1 rfl) ?_
  refine cg_Y_Stacks_stkt_many hX hK hNW hH dX4_carries_26 ?_
  refine lv_iload_n hx hb dX4_carries_29 rfl (lv_at hl 2 rfl) ?_
  refine lv_dup2_11 hx hb dX4_carries_30 rfl rfl ?_
  obtain ⟨x_61, he, hF⟩ := bd1e hF
  refine cl_tMany hX hK hH he dX4_carries_31 ?_
  refine lv_iconst (v := 1) hx hb dX4_carries_32 kyi_1 ?_
  refine lv_isub hx hb dX4_carries_33 ?_
  obtain ⟨a_tMany_62, he, hF⟩ := bd1e hF
  refine cs_tMany hX hK hH he dX4_carries_34 (fun H locs hH => ?_)
  refine lv_aload_n hx hb dX4_carries_35 rfl (lv_at hl 1 rfl) ?_
  refine cg_Y_Stacks_stkt_at hX hK hNW hH dX4_carries_36 ?_
  refine lv_iconst (v := 3) hx hb dX4_carries_39 kyi_3 ?_
  refine lv_iload_n hx hb dX4_carries_40 rfl (lv_at hl 3 rfl) ?_
  refine lv_imul hx hb dX4_carries_41 ?_
  refine lv_aload_n hx hb dX4_carries_42 rfl (lv_at hl 1 rfl) ?_
  refine cg_Y_Stacks_stkt_many hX hK hNW hH dX4_carries_43 ?_
  refine lv_iload_n hx hb dX4_carries_46 rfl (lv_at hl 3 rfl) ?_
  obtain ⟨x_63, he, hF⟩ := bd1e hF
  refine cl_tMany hX hK hH he dX4_carries_47 ?_
  refine lv_iadd hx hb dX4_carries_48 ?_
  refine lv_iload hx hb dX4_carries_49 (lv_at hl 0 rfl) ?_
  obtain ⟨a_tAt_64, he, hF⟩ := bd1e hF
  refine cs_tAt hX hK hH he dX4_carries_51 (fun H locs hH => ?_)
  refine lv_aload_n hx hb dX4_carries_52 rfl (lv_at hl 1 rfl) ?_
  refine cg_Y_Stacks_stkt_many hX hK hNW hH dX4_carries_53 ?_
  refine lv_iload_n hx hb dX4_carries_56 rfl (lv_at hl 3 rfl) ?_
  refine lv_dup2_11 hx hb dX4_carries_57 rfl rfl ?_
  obtain ⟨x_65, he, hF⟩ := bd1e hF
  refine cl_tMany hX hK hH he dX4_carries_58 ?_
  refine lv_iconst (v := 1) hx hb dX4_carries_59 kyi_1 ?_
  refine lv_iadd hx hb dX4_carries_60 ?_
  obtain ⟨a_tMany_66, he, hF⟩ := bd1e hF
  refine cs_tMany hX hK hH he dX4_carries_61 (fun H locs hH => ?_)
  refine lv_iload_n hx hb dX4_carries_62 rfl (lv_at hl 4 rfl) ?_
  refine lv_if_eq (tgt := 79) hx hb dX4_carries_63 rfl (fun c_67 => ?_) (fun c_67 => ?_)
  · have hF := itp c_67 hF
    refine lv_iload hx hb dX4_carries_79 (lv_at hl 0 rfl) ?_
    obtain ⟨rfl, rfl, rfl, rfl⟩ := re4 hF
    exact hret _ _ _ _ _ rfl hH dX4_carries_81
  · have hF := itn c_67 hF
    refine lv_aload_n hx hb dX4_carries_66 rfl (lv_at hl 1 rfl) ?_
    refine lv_dup hx hb dX4_carries_67 rfl ?_
    refine cg_Y_Stacks_stkt_moved hX hK hNW hH dX4_carries_68 ?_
    refine lv_iconst (v := 1) hx hb dX4_carries_71 kyi_1 ?_
    refine lv_iload hx hb dX4_carries_72 (lv_at hl 0 rfl) ?_
    refine lv_ishl hx hb dX4_carries_74 ?_
    refine lv_ior hx hb dX4_carries_75 ?_
    refine cp_Y_Stacks_stkt_moved hX hK hNW hH dX4_carries_76 (fun H locs hH => ?_)
    refine lv_iload hx hb dX4_carries_79 (lv_at hl 0 rfl) ?_
    obtain ⟨rfl, rfl, rfl, rfl⟩ := re4 hF
    exact hret _ _ _ _ _ rfl hH dX4_carries_81
abbrev rm_X4_lies_h : Room := { frames := 0, cells := 0, slots := 0, locals := 0 }
set_option maxHeartbeats 4000000 in
theorem met_X4_lies_h {l : Launch} {D : va_G} {ad : Nat → Nat} {cA : Nat → ClassId} {sA ta ba na : Nat → Nat} {gi : Nat → Option Nat} {rt : Option Nat} {g_sort : Int32} {g_size : Int32} {g_from : Int32} {g_to : Int32} {g_level : Int32} {g_full : Int32} {a_tape : Nat → Int32} {a_hAt : Nat → Int32} {a_hMany : Nat → Int32} {a_tAt : Nat → Int32} {a_tMany : Nat → Int32} {a_least : Nat → Int32} {a_place : Nat → Int32} {a_to : Nat → Int32} {a_order : Nat → Int32} {a_fails : Nat → Int32} {a_sKeys : Nat → Int64} {a_sRow : Nat → Int64} {a_sSlots : Nat → Int32} {a_bKeys : Nat → Int64} {a_bRow : Nat → Int64} {a_bSlots : Nat → Int32} {a_easy : Nat → Int32} {a_wants : Nat → Int32} {a_wantedBy : Nat → Int32} {a_ring : Nat → Int32} {a_carried : Nat → Int32} {a_latest : Nat → Int32} {v_taped : Int32} {v_faultKind : Int32} {v_faultPlace : Int32} {v_x : Int32} {v_ordered : Int32} {v_sought : Int32} {v_lastSought : Int32} {v_hMoved : Int32} {v_hWithout : Int32} {v_tMoved : Int32} {v_tWithout : Int32} {v_places : Int32} {v_elsewhere : Int32} {v_sMany : Int32} {v_bMany : Int32} {v_year : Int32} {y_lies : Int64} {a_rsort : Nat → Int32} {a_rmany : Nat → Int32} {a_nums : Nat → Nat → Int64} {t : Nat → Int32} {nb : Int32} {bv : Nat → Int32 → Int32 → Int32 → Int32 → Int32 → Int32 → Bool} {pl : va_W} {tb : Nat → Nat} {u : Nat → Int32}  {p1 : Int64} {res : Int64} {E : EvT} (hE : EvN E) (hPO : PO cA pl ta ba t nb bv) (hU : TownAt cA pl tb u) (hF : FX4_lies a_hAt v_hMoved p1 = some res) : MX l yX4_lies (ws_ yX4_lies cX4_lies 8 (Option.some Jvm.ClassFile.FieldType.long)) rm_X4_lies_h D vwA (cT cA) E [.ref (ad 4), .long p1] (cW ad cA sA ta ba na gi (some (tb 0)) rt g_sort g_size g_from g_to g_level g_full a_tape a_hAt a_hMany a_tAt a_tMany a_least a_place a_to a_order a_fails a_sKeys a_sRow a_sSlots a_bKeys a_bRow a_bSlots a_easy a_wants a_wantedBy a_ring a_carried a_latest v_taped v_faultKind v_faultPlace v_x v_ordered v_sought v_lastSought v_hMoved v_hWithout v_tMoved v_tWithout v_places v_elsewhere v_sMany v_bMany v_year y_lies a_rsort a_rmany a_nums pl) (fun z => z = (cW ad cA sA ta ba na gi (some (tb 0)) rt g_sort g_size g_from g_to g_level g_full a_tape a_hAt a_hMany a_tAt a_tMany a_least a_place a_to a_order a_fails a_sKeys a_sRow a_sSlots a_bKeys a_bRow a_bSlots a_easy a_wants a_wantedBy a_ring a_carried a_latest v_taped v_faultKind v_faultPlace v_x v_ordered v_sought v_lastSought v_hMoved v_hWithout v_tMoved v_tWithout v_places v_elsewhere v_sMany v_bMany v_year y_lies a_rsort a_rmany a_nums pl)) (some (.long res)) := by
  refine MX.ofL (by decide) (Nat.le_of_ble_eq_true rfl) ?_
  intro p e s m args below meth c Q A hX hK hE0 hname hret H locs ls hH hl
  have hX : CallFix p m c cX4_lies 8 s args lw_all RX4 := hX
  have hx := hX.1
  have hb := hX.2.1
  have hown := hX.2.2.2.1
  have hts := hX.2.2.2.2
  have hl : lv_has ls 8 [(0, .ref (ad 4)), (1, .long p1)] := hl
  have hEv := hE.1
  have hNW := hE.2.1 _ _ _ hE0
  have hT := hPO.1
  have hB := hPO.2
  delta FX4_lies at hF
  refine lv_aload_n hx hb dX4_lies_0 rfl (lv_at hl 0 rfl) ?_
  refine cg_Y_Stacks_stkh_moved hX hK hNW hH dX4_lies_1 ?_
  refine lv_i2l (v := (Int32.toInt64 v_hMoved)) hx hb dX4_lies_4 rfl ?_
  refine lv_bipush (v := 32) hx hb dX4_lies_5 kyb_32 ?_
  refine lv_lshl hx hb dX4_lies_7 rfl ?_
  refine lv_lstore_n (lv' := [(3, .long (shlL (Int32.toInt64 v_hMoved) 32)), (0, .ref (ad 4)), (1, .long p1)]) hx hb dX4_lies_8 rfl hl (by decide) rfl (fun ls hl => ?_)
  refine lv_iconst (v := 0) hx hb dX4_lies_9 kyi_0 ?_
  refine lv_istore (lv' := [(5, .int 0), (3, .long (shlL (Int32.toInt64 v_hMoved) 32)), (0, .ref (ad 4)), (1, .long p1)]) hx hb dX4_lies_10 hl (by decide) rfl (fun ls hl => ?_)
  obtain ⟨xx12, ee12, kk12_0⟩ := bd1L hF
  have k12_0 : ∀ (y_82 : Int64), xx12 = y_82 → ∀ (H : Heap) (locs : List Loc) (ls : Array Slot), MH D vwA A s.heap (cW ad cA sA ta ba na gi (some (tb 0)) rt g_sort g_size g_from g_to g_level g_full a_tape a_hAt a_hMany a_tAt a_tMany a_least a_place a_to a_order a_fails a_sKeys a_sRow a_sSlots a_bKeys a_bRow a_bSlots a_easy a_wants a_wantedBy a_ring a_carried a_latest v_taped v_faultKind v_faultPlace v_x v_ordered v_sought v_lastSought v_hMoved v_hWithout v_tMoved v_tWithout v_places v_elsewhere v_sMany v_bMany v_year y_lies a_rsort a_rmany a_nums pl) H locs → lv_has ls 8 [(3, .long y_82)] → W p l e rm_X4_lies_h s m args below meth c H locs 0 0 Q (F0 m 72 ls []) := by
    intro y_82 hxx H locs ls hH hl
    have hF := un1e (kk12_0 y_82 hxx)
    refine lv_lload_n hx hb dX4_lies_72 rfl (lv_at hl 0 rfl) ?_
    obtain rfl := Option.some.inj hF
    exact hret _ _ _ _ _ rfl hH dX4_lies_73
  obtain ⟨nn12, en12⟩ := loopC_some ee12
  have l12 : ∀ (n : Nat) (y_68 : Int64) (x_69 : Int32), loopN (fun s => FX4_lies_b12 a_hAt s.1 s.2) n (y_68, x_69) = some xx12 → ∀ (H : Heap) (locs : List Loc) (ls : Array Slot), MH D vwA A s.heap (cW ad cA sA ta ba na gi (some (tb 0)) rt g_sort g_size g_from g_to g_level g_full a_tape a_hAt a_hMany a_tAt a_tMany a_least a_place a_to a_order a_fails a_sKeys a_sRow a_sSlots a_bKeys a_bRow a_bSlots a_easy a_wants a_wantedBy a_ring a_carried a_latest v_taped v_faultKind v_faultPlace v_x v_ordered v_sought v_lastSought v_hMoved v_hWithout v_tMoved v_tWithout v_places v_elsewhere v_sMany v_bMany v_year y_lies a_rsort a_rmany a_nums pl) H locs → lv_has ls 8 [(0, .ref (ad 4)), (3, .long y_68), (5, .int x_69)] → W p l e rm_X4_lies_h s m args below meth c H locs 0 0 Q (F0 m 12 ls []) := by
    intro n
    induction n with
    | zero =>
      intro y_68 x_69 hN
      exact absurd hN loopN_zero
    | succ n ih =>
      intro y_68 x_69 hN H locs ls hH hl
      obtain ⟨yy12, hB12, hY12⟩ := loopN_succ hN
      have hF : FX4_lies_b12 a_hAt y_68 x_69 = some yy12 := hB12
      delta FX4_lies_b12 at hF
      refine lv_iload hx hb dX4_lies_12 (lv_at hl 2 rfl) ?_
      refine lv_bipush (v := 8) hx hb dX4_lies_14 kyb_8 ?_
      refine lv_icmp_ge (tgt := 72) hx hb dX4_lies_16 rfl (fun c_70 => ?_) (fun c_70 => ?_)
      · have hF := itp c_70 hF
        obtain rfl := Option.some.inj hF
        exact k12_0 y_68 hY12 _ _ _ hH (lv_sub hl [1] rfl)
      · have hF := itn c_70 hF
        refine lv_bipush (v := 15) hx hb dX4_lies_19 kyb_15 ?_
        refine lv_istore (lv' := [(6, .int 15), (0, .ref (ad 4)), (3, .long y_68), (5, .int x_69)]) hx hb dX4_lies_21 hl (by decide) rfl (fun ls hl => ?_)
        refine lv_iconst (v := 0) hx hb dX4_lies_23 kyi_0 ?_
        refine lv_istore (lv' := [(7, .int 0), (6, .int 15), (0, .ref (ad 4)), (3, .long y_68), (5, .int x_69)]) hx hb dX4_lies_24 hl (by decide) rfl (fun ls hl => ?_)
        obtain ⟨xx26, ee26, kk26_0⟩ := bd1L hF
        have k26_0 : ∀ (x_81 : Int32), xx26 = x_81 → ∀ (H : Heap) (locs : List Loc) (ls : Array Slot), MH D vwA A s.heap (cW ad cA sA ta ba na gi (some (tb 0)) rt g_sort g_size g_from g_to g_level g_full a_tape a_hAt a_hMany a_tAt a_tMany a_least a_place a_to a_order a_fails a_sKeys a_sRow a_sSlots a_bKeys a_bRow a_bSlots a_easy a_wants a_wantedBy a_ring a_carried a_latest v_taped v_faultKind v_faultPlace v_x v_ordered v_sought v_lastSought v_hMoved v_hWithout v_tMoved v_tWithout v_places v_elsewhere v_sMany v_bMany v_year y_lies a_rsort a_rmany a_nums pl) H locs → lv_has ls 8 [(0, .ref (ad 4)), (3, .long y_68), (5, .int x_69), (6, .int x_81)] → W p l e rm_X4_lies_h s m args below meth c H locs 0 0 Q (F0 m 55 ls []) := by
          intro x_81 hxx H locs ls hH hl
          have hF := un1e (kk26_0 x_81 hxx)
          refine lv_lload_n hx hb dX4_lies_55 rfl (lv_at hl 1 rfl) ?_
          refine lv_iload hx hb dX4_lies_56 (lv_at hl 3 rfl) ?_
          refine lv_i2l (v := (Int32.toInt64 x_81)) hx hb dX4_lies_58 rfl ?_
          refine lv_iconst (v := 4) hx hb dX4_lies_59 kyi_4 ?_
          refine lv_iload hx hb dX4_lies_60 (lv_at hl 2 rfl) ?_
          refine lv_imul hx hb dX4_lies_62 ?_
          refine lv_lshl hx hb dX4_lies_63 rfl ?_
          refine lv_lor hx hb dX4_lies_64 ?_
          refine lv_lstore_n (lv' := [(3, .long (y_68 ||| (shlL (Int32.toInt64 x_81) (4 * x_69)))), (0, .ref (ad 4)), (5, .int x_69), (6, .int x_81)]) hx hb dX4_lies_65 rfl hl (by decide) rfl (fun ls hl => ?_)
          refine lv_iinc (v := (x_69 + 1)) (lv' := [(5, .int (x_69 + 1)), (3, .long (y_68 ||| (shlL (Int32.toInt64 x_81) (4 * x_69)))), (0, .ref (ad 4)), (6, .int x_81)]) hx hb dX4_lies_66 hl (k := 2) rfl (syc kyi_1) (by decide) rfl (fun ls hl => ?_)
          refine lv_goto (tgt := 12) hx hb dX4_lies_69 rfl ?_
          obtain rfl := Option.some.inj hF
          exact ih (y_68 ||| (shlL (Int32.toInt64 x_81) (4 * x_69))) (x_69 + 1) hY12 _ _ _ hH (lv_sub hl [2, 1, 0] rfl)
        obtain ⟨nn26, en26⟩ := loopC_some ee26
        have l26 : ∀ (n : Nat) (x_75 : Int32) (x_76 : Int32), loopN (fun s => FX4_lies_b26 a_hAt x_69 s.1 s.2) n (x_75, x_76) = some xx26 → ∀ (H : Heap) (locs : List Loc) (ls : Array Slot), MH D vwA A s.heap (cW ad cA sA ta ba na gi (some (tb 0)) rt g_sort g_size g_from g_to g_level g_full a_tape a_hAt a_hMany a_tAt a_tMany a_least a_place a_to a_order a_fails a_sKeys a_sRow a_sSlots a_bKeys a_bRow a_bSlots a_easy a_wants a_wantedBy a_ring a_carried a_latest v_taped v_faultKind v_faultPlace v_x v_ordered v_sought v_lastSought v_hMoved v_hWithout v_tMoved v_tWithout v_places v_elsewhere v_sMany v_bMany v_year y_lies a_rsort a_rmany a_nums pl) H locs → lv_has ls 8 [(0, .ref (ad 4)), (3, .long y_68), (5, .int x_69), (6, .int x_75), (7, .int x_76)] → W p l e rm_X4_lies_h s m args below meth c H locs 0 0 Q (F0 m 26 ls []) := by
          intro n
          induction n with
          | zero =>
            intro x_75 x_76 hN
            exact absurd hN loopN_zero
          | succ n ih =>
            intro x_75 x_76 hN H locs ls hH hl
            obtain ⟨yy26, hB26, hY26⟩ := loopN_succ hN
            have hF : FX4_lies_b26 a_hAt x_69 x_75 x_76 = some yy26 := hB26
            delta FX4_lies_b26 at hF
            refine lv_iload hx hb dX4_lies_26 (lv_at hl 4 rfl) ?_
            refine lv_bipush (v := 15) hx hb dX4_lies_28 kyb_15 ?_
            refine lv_icmp_ge (tgt := 55) hx hb dX4_lies_30 rfl (fun c_77 => ?_) (fun c_77 => ?_)
            · have hF := itp c_77 hF
              obtain rfl := Option.some.inj hF
              exact k26_0 x_75 hY26 _ _ _ hH (lv_sub hl [0, 1, 2, 3] rfl)
            · have hF := itn c_77 hF
              refine lv_aload_n hx hb dX4_lies_33 rfl (lv_at hl 0 rfl) ?_
              refine cg_Y_Stacks_stkh_at hX hK hNW hH dX4_lies_34 ?_
              refine lv_iload hx hb dX4_lies_37 (lv_at hl 4 rfl) ?_
              obtain ⟨x_78, he, hF⟩ := bd1e hF
              refine cl_hAt hX hK hH he dX4_lies_39 ?_
              refine lv_iload hx hb dX4_lies_40 (lv_at hl 2 rfl) ?_
              have j49 : ∀ (x_80 : Int32), FX4_lies_j49 x_76 x_80 = some yy26 → ∀ (H : Heap) (locs : List Loc) (ls : Array Slot), MH D vwA A s.heap (cW ad cA sA ta ba na gi (some (tb 0)) rt g_sort g_size g_from g_to g_level g_full a_tape a_hAt a_hMany a_tAt a_tMany a_least a_place a_to a_order a_fails a_sKeys a_sRow a_sSlots a_bKeys a_bRow a_bSlots a_easy a_wants a_wantedBy a_ring a_carried a_latest v_taped v_faultKind v_faultPlace v_x v_ordered v_sought v_lastSought v_hMoved v_hWithout v_tMoved v_tWithout v_places v_elsewhere v_sMany v_bMany v_year y_lies a_rsort a_rmany a_nums pl) H locs → lv_has ls 8 [(0, .ref (ad 4)), (3, .long y_68), (5, .int x_69), (6, .int x_80), (7, .int x_76)] → W p l e rm_X4_lies_h s m args below meth c H locs 0 0 Q (F0 m 49 ls []) := by
                intro x_80 hF H locs ls hH hl
                delta FX4_lies_j49 at hF
                refine lv_iinc (v := (x_76 + 1)) (lv' := [(7, .int (x_76 + 1)), (0, .ref (ad 4)), (3, .long y_68), (5, .int x_69), (6, .int x_80)]) hx hb dX4_lies_49 hl (k := 4) rfl (syc kyi_1) (by decide) rfl (fun ls hl => ?_)
                refine lv_goto (tgt := 26) hx hb dX4_lies_52 rfl ?_
                obtain rfl := Option.some.inj hF
                exact ih x_80 (x_76 + 1) hY26 _ _ _ hH (lv_sub hl [1, 2, 3, 4, 0] rfl)
              refine lv_icmp_ne (tgt := 49) hx hb dX4_lies_42 rfl (fun c_79 => ?_) (fun c_79 => ?_)
              · have hF := itn c_79 hF
                exact j49 x_75 hF _ _ _ hH (lv_sub hl [0, 1, 2, 3, 4] rfl)
              · have hF := itp c_79 hF
                refine lv_iload hx hb dX4_lies_45 (lv_at hl 4 rfl) ?_
                refine lv_istore (lv' := [(6, .int x_76), (0, .ref (ad 4)), (3, .long y_68), (5, .int x_69), (7, .int x_76)]) hx hb dX4_lies_47 hl (by decide) rfl (fun ls hl => ?_)
                exact j49 x_76 hF _ _ _ hH (lv_sub hl [1, 2, 3, 0, 4] rfl)
        exact l26 nn26 15 0 en26 _ _ _ hH (lv_sub hl [2, 3, 4, 1, 0] rfl)
  exact l12 nn12 (shlL (Int32.toInt64 v_hMoved) 32) 0 en12 _ _ _ hH (lv_sub hl [2, 1, 0] rfl)
abbrev rm_X4_lies_t : Room := { frames := 0, cells := 0, slots := 0, locals := 0 }
set_option maxHeartbeats 4000000 in
theorem met_X4_lies_t {l : Launch} {D : va_G} {ad : Nat → Nat} {cA : Nat → ClassId} {sA ta ba na : Nat → Nat} {gi : Nat → Option Nat} {rh : Option Nat} {g_sort : Int32} {g_size : Int32} {g_from : Int32} {g_to : Int32} {g_level : Int32} {g_full : Int32} {a_tape : Nat → Int32} {a_hAt : Nat → Int32} {a_hMany : Nat → Int32} {a_tAt : Nat → Int32} {a_tMany : Nat → Int32} {a_least : Nat → Int32} {a_place : Nat → Int32} {a_to : Nat → Int32} {a_order : Nat → Int32} {a_fails : Nat → Int32} {a_sKeys : Nat → Int64} {a_sRow : Nat → Int64} {a_sSlots : Nat → Int32} {a_bKeys : Nat → Int64} {a_bRow : Nat → Int64} {a_bSlots : Nat → Int32} {a_easy : Nat → Int32} {a_wants : Nat → Int32} {a_wantedBy : Nat → Int32} {a_ring : Nat → Int32} {a_carried : Nat → Int32} {a_latest : Nat → Int32} {v_taped : Int32} {v_faultKind : Int32} {v_faultPlace : Int32} {v_x : Int32} {v_ordered : Int32} {v_sought : Int32} {v_lastSought : Int32} {v_hMoved : Int32} {v_hWithout : Int32} {v_tMoved : Int32} {v_tWithout : Int32} {v_places : Int32} {v_elsewhere : Int32} {v_sMany : Int32} {v_bMany : Int32} {v_year : Int32} {y_lies : Int64} {a_rsort : Nat → Int32} {a_rmany : Nat → Int32} {a_nums : Nat → Nat → Int64} {t : Nat → Int32} {nb : Int32} {bv : Nat → Int32 → Int32 → Int32 → Int32 → Int32 → Int32 → Bool} {pl : va_W} {tb : Nat → Nat} {u : Nat → Int32}  {p1 : Int64} {res : Int64} {E : EvT} (hE : EvN E) (hPO : PO cA pl ta ba t nb bv) (hU : TownAt cA pl tb u) (hF : FX4_lies a_tAt v_tMoved p1 = some res) : MX l yX4_lies (ws_ yX4_lies cX4_lies 8 (Option.some Jvm.ClassFile.FieldType.long)) rm_X4_lies_t D vwA (cT cA) E [.ref (ad 7), .long p1] (cW ad cA sA ta ba na gi rh (some (tb 0)) g_sort g_size g_from g_to g_level g_full a_tape a_hAt a_hMany a_tAt a_tMany a_least a_place a_to a_order a_fails a_sKeys a_sRow a_sSlots a_bKeys a_bRow a_bSlots a_easy a_wants a_wantedBy a_ring a_carried a_latest v_taped v_faultKind v_faultPlace v_x v_ordered v_sought v_lastSought v_hMoved v_hWithout v_tMoved v_tWithout v_places v_elsewhere v_sMany v_bMany v_year y_lies a_rsort a_rmany a_nums pl) (fun z => z = (cW ad cA sA ta ba na gi rh (some (tb 0)) g_sort g_size g_from g_to g_level g_full a_tape a_hAt a_hMany a_tAt a_tMany a_least a_place a_to a_order a_fails a_sKeys a_sRow a_sSlots a_bKeys a_bRow a_bSlots a_easy a_wants a_wantedBy a_ring a_carried a_latest v_taped v_faultKind v_faultPlace v_x v_ordered v_sought v_lastSought v_hMoved v_hWithout v_tMoved v_tWithout v_places v_elsewhere v_sMany v_bMany v_year y_lies a_rsort a_rmany a_nums pl)) (some (.long res)) := by
  refine MX.ofL (by decide) (Nat.le_of_ble_eq_true rfl) ?_
  intro p e s m args below meth c Q A hX hK hE0 hname hret H locs ls hH hl
  have hX : CallFix p m c cX4_lies 8 s args lw_all RX4 := hX
  have hx := hX.1
  have hb := hX.2.1
  have hown := hX.2.2.2.1
  have hts := hX.2.2.2.2
  have hl : lv_has ls 8 [(0, .ref (ad 7)), (1, .long p1)] := hl
  have hEv := hE.1
  have hNW := hE.2.1 _ _ _ hE0
  have hT := hPO.1
  have hB := hPO.2
  delta FX4_lies at hF
  refine lv_aload_n hx hb dX4_lies_0 rfl (lv_at hl 0 rfl) ?_
  refine cg_Y_Stacks_stkt_moved hX hK hNW hH dX4_lies_1 ?_
  refine lv_i2l (v := (Int32.toInt64 v_tMoved)) hx hb dX4_lies_4 rfl ?_
  refine lv_bipush (v := 32) hx hb dX4_lies_5 kyb_32 ?_
  refine lv_lshl hx hb dX4_lies_7 rfl ?_
  refine lv_lstore_n (lv' := [(3, .long (shlL (Int32.toInt64 v_tMoved) 32)), (0, .ref (ad 7)), (1, .long p1)]) hx hb dX4_lies_8 rfl hl (by decide) rfl (fun ls hl => ?_)
  refine lv_iconst (v := 0) hx hb dX4_lies_9 kyi_0 ?_
  refine lv_istore (lv' := [(5, .int 0), (3, .long (shlL (Int32.toInt64 v_tMoved) 32)), (0, .ref (ad 7)), (1, .long p1)]) hx hb dX4_lies_10 hl (by decide) rfl (fun ls hl => ?_)
  obtain ⟨xx12, ee12, kk12_0⟩ := bd1L hF
  have k12_0 : ∀ (y_82 : Int64), xx12 = y_82 → ∀ (H : Heap) (locs : List Loc) (ls : Array Slot), MH D vwA A s.heap (cW ad cA sA ta ba na gi rh (some (tb 0)) g_sort g_size g_from g_to g_level g_full a_tape a_hAt a_hMany a_tAt a_tMany a_least a_place a_to a_order a_fails a_sKeys a_sRow a_sSlots a_bKeys a_bRow a_bSlots a_easy a_wants a_wantedBy a_ring a_carried a_latest v_taped v_faultKind v_faultPlace v_x v_ordered v_sought v_lastSought v_hMoved v_hWithout v_tMoved v_tWithout v_places v_elsewhere v_sMany v_bMany v_year y_lies a_rsort a_rmany a_nums pl) H locs → lv_has ls 8 [(3, .long y_82)] → W p l e rm_X4_lies_t s m args below meth c H locs 0 0 Q (F0 m 72 ls []) := by
    intro y_82 hxx H locs ls hH hl
    have hF := un1e (kk12_0 y_82 hxx)
    refine lv_lload_n hx hb dX4_lies_72 rfl (lv_at hl 0 rfl) ?_
    obtain rfl := Option.some.inj hF
    exact hret _ _ _ _ _ rfl hH dX4_lies_73
  obtain ⟨nn12, en12⟩ := loopC_some ee12
  have l12 : ∀ (n : Nat) (y_68 : Int64) (x_69 : Int32), loopN (fun s => FX4_lies_b12 a_tAt s.1 s.2) n (y_68, x_69) = some xx12 → ∀ (H : Heap) (locs : List Loc) (ls : Array Slot), MH D vwA A s.heap (cW ad cA sA ta ba na gi rh (some (tb 0)) g_sort g_size g_from g_to g_level g_full a_tape a_hAt a_hMany a_tAt a_tMany a_least a_place a_to a_order a_fails a_sKeys a_sRow a_sSlots a_bKeys a_bRow a_bSlots a_easy a_wants a_wantedBy a_ring a_carried a_latest v_taped v_faultKind v_faultPlace v_x v_ordered v_sought v_lastSought v_hMoved v_hWithout v_tMoved v_tWithout v_places v_elsewhere v_sMany v_bMany v_year y_lies a_rsort a_rmany a_nums pl) H locs → lv_has ls 8 [(0, .ref (ad 7)), (3, .long y_68), (5, .int x_69)] → W p l e rm_X4_lies_t s m args below meth c H locs 0 0 Q (F0 m 12 ls []) := by
    intro n
    induction n with
    | zero =>
      intro y_68 x_69 hN
      exact absurd hN loopN_zero
    | succ n ih =>
      intro y_68 x_69 hN H locs ls hH hl
      obtain ⟨yy12, hB12, hY12⟩ := loopN_succ hN
      have hF : FX4_lies_b12 a_tAt y_68 x_69 = some yy12 := hB12
      delta FX4_lies_b12 at hF
      refine lv_iload hx hb dX4_lies_12 (lv_at hl 2 rfl) ?_
      refine lv_bipush (v := 8) hx hb dX4_lies_14 kyb_8 ?_
      refine lv_icmp_ge (tgt := 72) hx hb dX4_lies_16 rfl (fun c_70 => ?_) (fun c_70 => ?_)
      · have hF := itp c_70 hF
        obtain rfl := Option.some.inj hF
        exact k12_0 y_68 hY12 _ _ _ hH (lv_sub hl [1] rfl)
      · have hF := itn c_70 hF
        refine lv_bipush (v := 15) hx hb dX4_lies_19 kyb_15 ?_
        refine lv_istore (lv' := [(6, .int 15), (0, .ref (ad 7)), (3, .long y_68), (5, .int x_69)]) hx hb dX4_lies_21 hl (by decide) rfl (fun ls hl => ?_)
        refine lv_iconst (v := 0) hx hb dX4_lies_23 kyi_0 ?_
        refine lv_istore (lv' := [(7, .int 0), (6, .int 15), (0, .ref (ad 7)), (3, .long y_68), (5, .int x_69)]) hx hb dX4_lies_24 hl (by decide) rfl (fun ls hl => ?_)
        obtain ⟨xx26, ee26, kk26_0⟩ := bd1L hF
        have k26_0 : ∀ (x_81 : Int32), xx26 = x_81 → ∀ (H : Heap) (locs : List Loc) (ls : Array Slot), MH D vwA A s.heap (cW ad cA sA ta ba na gi rh (some (tb 0)) g_sort g_size g_from g_to g_level g_full a_tape a_hAt a_hMany a_tAt a_tMany a_least a_place a_to a_order a_fails a_sKeys a_sRow a_sSlots a_bKeys a_bRow a_bSlots a_easy a_wants a_wantedBy a_ring a_carried a_latest v_taped v_faultKind v_faultPlace v_x v_ordered v_sought v_lastSought v_hMoved v_hWithout v_tMoved v_tWithout v_places v_elsewhere v_sMany v_bMany v_year y_lies a_rsort a_rmany a_nums pl) H locs → lv_has ls 8 [(0, .ref (ad 7)), (3, .long y_68), (5, .int x_69), (6, .int x_81)] → W p l e rm_X4_lies_t s m args below meth c H locs 0 0 Q (F0 m 55 ls []) := by
          intro x_81 hxx H locs ls hH hl
          have hF := un1e (kk26_0 x_81 hxx)
          refine lv_lload_n hx hb dX4_lies_55 rfl (lv_at hl 1 rfl) ?_
          refine lv_iload hx hb dX4_lies_56 (lv_at hl 3 rfl) ?_
          refine lv_i2l (v := (Int32.toInt64 x_81)) hx hb dX4_lies_58 rfl ?_
          refine lv_iconst (v := 4) hx hb dX4_lies_59 kyi_4 ?_
          refine lv_iload hx hb dX4_lies_60 (lv_at hl 2 rfl) ?_
          refine lv_imul hx hb dX4_lies_62 ?_
          refine lv_lshl hx hb dX4_lies_63 rfl ?_
          refine lv_lor hx hb dX4_lies_64 ?_
          refine lv_lstore_n (lv' := [(3, .long (y_68 ||| (shlL (Int32.toInt64 x_81) (4 * x_69)))), (0, .ref (ad 7)), (5, .int x_69), (6, .int x_81)]) hx hb dX4_lies_65 rfl hl (by decide) rfl (fun ls hl => ?_)
          refine lv_iinc (v := (x_69 + 1)) (lv' := [(5, .int (x_69 + 1)), (3, .long (y_68 ||| (shlL (Int32.toInt64 x_81) (4 * x_69)))), (0, .ref (ad 7)), (6, .int x_81)]) hx hb dX4_lies_66 hl (k := 2) rfl (syc kyi_1) (by decide) rfl (fun ls hl => ?_)
          refine lv_goto (tgt := 12) hx hb dX4_lies_69 rfl ?_
          obtain rfl := Option.some.inj hF
          exact ih (y_68 ||| (shlL (Int32.toInt64 x_81) (4 * x_69))) (x_69 + 1) hY12 _ _ _ hH (lv_sub hl [2, 1, 0] rfl)
        obtain ⟨nn26, en26⟩ := loopC_some ee26
        have l26 : ∀ (n : Nat) (x_75 : Int32) (x_76 : Int32), loopN (fun s => FX4_lies_b26 a_tAt x_69 s.1 s.2) n (x_75, x_76) = some xx26 → ∀ (H : Heap) (locs : List Loc) (ls : Array Slot), MH D vwA A s.heap (cW ad cA sA ta ba na gi rh (some (tb 0)) g_sort g_size g_from g_to g_level g_full a_tape a_hAt a_hMany a_tAt a_tMany a_least a_place a_to a_order a_fails a_sKeys a_sRow a_sSlots a_bKeys a_bRow a_bSlots a_easy a_wants a_wantedBy a_ring a_carried a_latest v_taped v_faultKind v_faultPlace v_x v_ordered v_sought v_lastSought v_hMoved v_hWithout v_tMoved v_tWithout v_places v_elsewhere v_sMany v_bMany v_year y_lies a_rsort a_rmany a_nums pl) H locs → lv_has ls 8 [(0, .ref (ad 7)), (3, .long y_68), (5, .int x_69), (6, .int x_75), (7, .int x_76)] → W p l e rm_X4_lies_t s m args below meth c H locs 0 0 Q (F0 m 26 ls []) := by
          intro n
          induction n with
          | zero =>
            intro x_75 x_76 hN
            exact absurd hN loopN_zero
          | succ n ih =>
            intro x_75 x_76 hN H locs ls hH hl
            obtain ⟨yy26, hB26, hY26⟩ := loopN_succ hN
            have hF : FX4_lies_b26 a_tAt x_69 x_75 x_76 = some yy26 := hB26
            delta FX4_lies_b26 at hF
            refine lv_iload hx hb dX4_lies_26 (lv_at hl 4 rfl) ?_
            refine lv_bipush (v := 15) hx hb dX4_lies_28 kyb_15 ?_
            refine lv_icmp_ge (tgt := 55) hx hb dX4_lies_30 rfl (fun c_77 => ?_) (fun c_77 => ?_)
            · have hF := itp c_77 hF
              obtain rfl := Option.some.inj hF
              exact k26_0 x_75 hY26 _ _ _ hH (lv_sub hl [0, 1, 2, 3] rfl)
            · have hF := itn c_77 hF
              refine lv_aload_n hx hb dX4_lies_33 rfl (lv_at hl 0 rfl) ?_
              refine cg_Y_Stacks_stkt_at hX hK hNW hH dX4_lies_34 ?_
              refine lv_iload hx hb dX4_lies_37 (lv_at hl 4 rfl) ?_
              obtain ⟨x_78, he, hF⟩ := bd1e hF
              refine cl_tAt hX hK hH he dX4_lies_39 ?_
              refine lv_iload hx hb dX4_lies_40 (lv_at hl 2 rfl) ?_
              have j49 : ∀ (x_80 : Int32), FX4_lies_j49 x_76 x_80 = some yy26 → ∀ (H : Heap) (locs : List Loc) (ls : Array Slot), MH D vwA A s.heap (cW ad cA sA ta ba na gi rh (some (tb 0)) g_sort g_size g_from g_to g_level g_full a_tape a_hAt a_hMany a_tAt a_tMany a_least a_place a_to a_order a_fails a_sKeys a_sRow a_sSlots a_bKeys a_bRow a_bSlots a_easy a_wants a_wantedBy a_ring a_carried a_latest v_taped v_faultKind v_faultPlace v_x v_ordered v_sought v_lastSought v_hMoved v_hWithout v_tMoved v_tWithout v_places v_elsewhere v_sMany v_bMany v_year y_lies a_rsort a_rmany a_nums pl) H locs → lv_has ls 8 [(0, .ref (ad 7)), (3, .long y_68), (5, .int x_69), (6, .int x_80), (7, .int x_76)] → W p l e rm_X4_lies_t s m args below meth c H locs 0 0 Q (F0 m 49 ls []) := by
                intro x_80 hF H locs ls hH hl
                delta FX4_lies_j49 at hF
                refine lv_iinc (v := (x_76 + 1)) (lv' := [(7, .int (x_76 + 1)), (0, .ref (ad 7)), (3, .long y_68), (5, .int x_69), (6, .int x_80)]) hx hb dX4_lies_49 hl (k := 4) rfl (syc kyi_1) (by decide) rfl (fun ls hl => ?_)
                refine lv_goto (tgt := 26) hx hb dX4_lies_52 rfl ?_
                obtain rfl := Option.some.inj hF
                exact ih x_80 (x_76 + 1) hY26 _ _ _ hH (lv_sub hl [1, 2, 3, 4, 0] rfl)
              refine lv_icmp_ne (tgt := 49) hx hb dX4_lies_42 rfl (fun c_79 => ?_) (fun c_79 => ?_)
              · have hF := itn c_79 hF
                exact j49 x_75 hF _ _ _ hH (lv_sub hl [0, 1, 2, 3, 4] rfl)
              · have hF := itp c_79 hF
                refine lv_iload hx hb dX4_lies_45 (lv_at hl 4 rfl) ?_
                refine lv_istore (lv' := [(6, .int x_76), (0, .ref (ad 7)), (3, .long y_68), (5, .int x_69), (7, .int x_76)]) hx hb dX4_lies_47 hl (by decide) rfl (fun ls hl => ?_)
                exact j49 x_76 hF _ _ _ hH (lv_sub hl [1, 2, 3, 0, 4] rfl)
        exact l26 nn26 15 0 en26 _ _ _ hH (lv_sub hl [2, 3, 4, 1, 0] rfl)
  exact l12 nn12 (shlL (Int32.toInt64 v_tMoved) 32) 0 en12 _ _ _ hH (lv_sub hl [2, 1, 0] rfl)
abbrev rm_X0_carry : Room := { frames := 262, cells := 0, slots := 0, locals := 6047 }
set_option maxHeartbeats 4000000 in
theorem met_X0_carry {l : Launch} {D : va_G} {ad : Nat → Nat} {cA : Nat → ClassId} {sA ta ba na : Nat → Nat} {gi : Nat → Option Nat} {rh : Option Nat} {rt : Option Nat} {g_sort : Int32} {g_size : Int32} {g_from : Int32} {g_to : Int32} {g_level : Int32} {g_full : Int32} {a_tape : Nat → Int32} {a_hAt : Nat → Int32} {a_hMany : Nat → Int32} {a_tAt : Nat → Int32} {a_tMany : Nat → Int32} {a_least : Nat → Int32} {a_place : Nat → Int32} {a_to : Nat → Int32} {a_order : Nat → Int32} {a_fails : Nat → Int32} {a_sKeys : Nat → Int64} {a_sRow : Nat → Int64} {a_sSlots : Nat → Int32} {a_bKeys : Nat → Int64} {a_bRow : Nat → Int64} {a_bSlots : Nat → Int32} {a_easy : Nat → Int32} {a_wants : Nat → Int32} {a_wantedBy : Nat → Int32} {a_ring : Nat → Int32} {a_carried : Nat → Int32} {a_latest : Nat → Int32} {v_taped : Int32} {v_faultKind : Int32} {v_faultPlace : Int32} {v_x : Int32} {v_ordered : Int32} {v_sought : Int32} {v_lastSought : Int32} {v_hMoved : Int32} {v_hWithout : Int32} {v_tMoved : Int32} {v_tWithout : Int32} {v_places : Int32} {v_elsewhere : Int32} {v_sMany : Int32} {v_bMany : Int32} {v_year : Int32} {y_lies : Int64} {a_rsort : Nat → Int32} {a_rmany : Nat → Int32} {a_nums : Nat → Nat → Int64} {t : Nat → Int32} {nb : Int32} {bv : Nat → Int32 → Int32 → Int32 → Int32 → Int32 → Int32 → Bool} {pl : va_W}  {p1 : Int32} {p2 : Int32} {res : Int32} {ra_hAt : Nat → Int32} {ra_hMany : Nat → Int32} {ra_carried : Nat → Int32} {ra_latest : Nat → Int32} {rv_hMoved : Int32} {ry_lies : Int64} {E : EvT} (hE : EvN E) (hPO : PO cA pl ta ba t nb bv) (hF : FX0_carry a_hAt a_hMany a_carried a_latest v_hWithout v_year y_lies t nb bv p1 p2 = some (res, ra_hAt, ra_hMany, ra_carried, ra_latest, rv_hMoved, ry_lies)) : MX l yX0_carry (ws_ yX0_carry cX0_carry 5 (Option.some Jvm.ClassFile.FieldType.int)) rm_X0_carry D vwA (cT cA) E [.ref (ad 0), .int p1, .int p2] (cW ad cA sA ta ba na gi rh rt g_sort g_size g_from g_to g_level g_full a_tape a_hAt a_hMany a_tAt a_tMany a_least a_place a_to a_order a_fails a_sKeys a_sRow a_sSlots a_bKeys a_bRow a_bSlots a_easy a_wants a_wantedBy a_ring a_carried a_latest v_taped v_faultKind v_faultPlace v_x v_ordered v_sought v_lastSought v_hMoved v_hWithout v_tMoved v_tWithout v_places v_elsewhere v_sMany v_bMany v_year y_lies a_rsort a_rmany a_nums pl) (fun z => ∃ g_sort' : Int32, ∃ g_size' : Int32, ∃ g_from' : Int32, ∃ g_to' : Int32, ∃ g_level' : Int32, ∃ g_full' : Int32, z = (cW ad cA sA ta ba na gi (some (ta 0)) rt g_sort' g_size' g_from' g_to' g_level' g_full' a_tape ra_hAt ra_hMany a_tAt a_tMany a_least a_place a_to a_order a_fails a_sKeys a_sRow a_sSlots a_bKeys a_bRow a_bSlots a_easy a_wants a_wantedBy a_ring ra_carried ra_latest v_taped v_faultKind v_faultPlace v_x v_ordered v_sought v_lastSought rv_hMoved v_hWithout v_tMoved v_tWithout v_places v_elsewhere v_sMany v_bMany v_year ry_lies a_rsort a_rmany a_nums pl)) (some (.int res)) := by
  refine MX.ofI (by decide) (Nat.le_of_ble_eq_true rfl) ?_
  intro p e s m args below meth c Q A hX hK hE0 hname hret H locs ls hH hl
  have hX : CallFix p m c cX0_carry 5 s args lw_all RX0 := hX
  have hx := hX.1
  have hb := hX.2.1
  have hown := hX.2.2.2.1
  have hts := hX.2.2.2.2
  have hl : lv_has ls 5 [(0, .ref (ad 0)), (1, .int p1), (2, .int p2)] := hl
  have hEv := hE.1
  have hNW := hE.2.1 _ _ _ hE0
  have hT := hPO.1
  have hB := hPO.2
  delta FX0_carry at hF
  refine lv_aload_n hx hb dX0_carry_0 rfl (lv_at hl 0 rfl) ?_
  obtain ⟨a_hAt_56, a_hMany_57, v_hMoved_58, he, hF⟩ := bd3e hF
  refine mxV hX hK hEv hE0 hH (met_X0_here hE hPO he) (crecv hK hH 0 0 rfl rfl) gw_StoneYear_195 hd_yX0_here ⟨Nat.le_of_ble_eq_true rfl, Nat.le_of_ble_eq_true rfl⟩ rfl rfl hl (Nat.le_of_ble_eq_true rfl) dX0_carry_1 ⟨Nat.le_of_ble_eq_true rfl, Nat.le_of_ble_eq_true rfl⟩ (fun w2 H locs hw hH => ?_)
  subst hw
  refine lv_iload_n hx hb dX0_carry_4 rfl (lv_at hl 1 rfl) ?_
  refine lv_iload_n hx hb dX0_carry_5 rfl (lv_at hl 2 rfl) ?_
  obtain ⟨x_59, he, hF⟩ := bd1e hF
  refine mxV hX hK hEv hE0 hH (met_X4_may_h hE hPO hT he) (crecv hK hH 4 4 rfl rfl) gw_StoneYear_227 hd_yX4_may ⟨Nat.le_of_ble_eq_true rfl, Nat.le_of_ble_eq_true rfl⟩ rfl rfl hl (Nat.le_of_ble_eq_true rfl) dX0_carry_6 ⟨Nat.le_of_ble_eq_true rfl, Nat.le_of_ble_eq_true rfl⟩ (fun w2 H locs hw hH => ?_)
  obtain ⟨g_sort_60, g_size_61, g_from_62, g_to_63, g_level_64, g_full_65, rfl⟩ := hw
  refine lv_istore_n (lv' := [(3, .int x_59), (0, .ref (ad 0)), (1, .int p1), (2, .int p2)]) hx hb dX0_carry_9 rfl hl (by decide) rfl (fun ls hl => ?_)
  refine lv_iload_n hx hb dX0_carry_10 rfl (lv_at hl 0 rfl) ?_
  refine lv_if_eq (tgt := 19) hx hb dX0_carry_11 rfl (fun c_66 => ?_) (fun c_66 => ?_)
  · have hF := itp c_66 hF
    refine lv_aload_n hx hb dX0_carry_19 rfl (lv_at hl 1 rfl) ?_
    refine cg_Y_this_here hX hK hNW hH dX0_carry_20 ?_
    refine lv_iload_n hx hb dX0_carry_23 rfl (lv_at hl 2 rfl) ?_
    refine lv_iload_n hx hb dX0_carry_24 rfl (lv_at hl 3 rfl) ?_
    refine lv_iconst (v := 1) hx hb dX0_carry_25 kyi_1 ?_
    obtain ⟨x_67, a_hAt_68, a_hMany_69, v_hMoved_70, he, hF⟩ := bd4e hF
    refine mxV hX hK hEv hE0 hH (met_X4_carries_h hE hPO hT he) (crecv hK hH 4 4 rfl rfl) gw_StoneYear_236 hd_yX4_carries ⟨Nat.le_of_ble_eq_true rfl, Nat.le_of_ble_eq_true rfl⟩ rfl rfl hl (Nat.le_of_ble_eq_true rfl) dX0_carry_26 ⟨Nat.le_of_ble_eq_true rfl, Nat.le_of_ble_eq_true rfl⟩ (fun w2 H locs hw hH => ?_)
    subst hw
    refine lv_istore (lv' := [(4, .int x_67), (3, .int x_59), (0, .ref (ad 0)), (1, .int p1), (2, .int p2)]) hx hb dX0_carry_29 hl (by decide) rfl (fun ls hl => ?_)
    refine lv_aload_n hx hb dX0_carry_31 rfl (lv_at hl 2 rfl) ?_
    refine lv_iload hx hb dX0_carry_32 (lv_at hl 0 rfl) ?_
    obtain ⟨a_carried_71, a_latest_72, he, hF⟩ := bd2e hF
    refine mxV hX hK hEv hE0 hH (met_X0_counts hE hPO he) (crecv hK hH 0 0 rfl rfl) gw_StoneYear_240 hd_yX0_counts ⟨Nat.le_of_ble_eq_true rfl, Nat.le_of_ble_eq_true rfl⟩ rfl rfl hl (Nat.le_of_ble_eq_true rfl) dX0_carry_34 ⟨Nat.le_of_ble_eq_true rfl, Nat.le_of_ble_eq_true rfl⟩ (fun w2 H locs hw hH => ?_)
    subst hw
    refine lv_aload_n hx hb dX0_carry_37 rfl (lv_at hl 2 rfl) ?_
    refine cg_Y_this_s hX hK hNW hH dX0_carry_38 ?_
    refine lv_aload_n hx hb dX0_carry_41 rfl (lv_at hl 2 rfl) ?_
    refine cg_Y_this_here hX hK hNW hH dX0_carry_42 ?_
    refine lv_aload_n hx hb dX0_carry_45 rfl (lv_at hl 2 rfl) ?_
    refine cg_Y_this_s hX hK hNW hH dX0_carry_46 ?_
    refine cg_Y_state_lies hX hK hNW hH dX0_carry_49 ?_
    obtain ⟨y_73, he, hF⟩ := bd1e hF
    refine mxV hX hK hEv hE0 hH (met_X4_lies_h hE hPO hT he) (crecv hK hH 4 4 rfl rfl) gw_StoneYear_243 hd_yX4_lies ⟨Nat.le_of_ble_eq_true rfl, Nat.le_of_ble_eq_true rfl⟩ rfl rfl hl (Nat.le_of_ble_eq_true rfl) dX0_carry_52 ⟨Nat.le_of_ble_eq_true rfl, Nat.le_of_ble_eq_true rfl⟩ (fun w2 H locs hw hH => ?_)
    subst hw
    refine cp_Y_state_lies hX hK hNW hH dX0_carry_55 (fun H locs hH => ?_)
    refine lv_iload hx hb dX0_carry_58 (lv_at hl 0 rfl) ?_
    obtain ⟨rfl, rfl, rfl, rfl, rfl, rfl, rfl⟩ := re7 hF
    exact hret _ _ _ _ _ ⟨_, _, _, _, _, _, rfl⟩ hH dX0_carry_60
  · have hF := itn c_66 hF
    refine lv_bipush (v := (-10)) hx hb dX0_carry_14 kyb_m10 ?_
    refine lv_iload_n hx hb dX0_carry_16 rfl (lv_at hl 0 rfl) ?_
    refine lv_isub hx hb dX0_carry_17 ?_
    obtain ⟨rfl, rfl, rfl, rfl, rfl, rfl, rfl⟩ := re7 hF
    exact hret _ _ _ _ _ ⟨_, _, _, _, _, _, rfl⟩ hH dX0_carry_18
abbrev rm_X4_exchanges_h : Room := { frames := 1, cells := 0, slots := 0, locals := 21 }
set_option maxHeartbeats 4000000 in
theorem met_X4_exchanges_h {l : Launch} {D : va_G} {ad : Nat → Nat} {cA : Nat → ClassId} {sA ta ba na : Nat → Nat} {gi : Nat → Option Nat} {rt : Option Nat} {g_sort : Int32} {g_size : Int32} {g_from : Int32} {g_to : Int32} {g_level : Int32} {g_full : Int32} {a_tape : Nat → Int32} {a_hAt : Nat → Int32} {a_hMany : Nat → Int32} {a_tAt : Nat → Int32} {a_tMany : Nat → Int32} {a_least : Nat → Int32} {a_place : Nat → Int32} {a_to : Nat → Int32} {a_order : Nat → Int32} {a_fails : Nat → Int32} {a_sKeys : Nat → Int64} {a_sRow : Nat → Int64} {a_sSlots : Nat → Int32} {a_bKeys : Nat → Int64} {a_bRow : Nat → Int64} {a_bSlots : Nat → Int32} {a_easy : Nat → Int32} {a_wants : Nat → Int32} {a_wantedBy : Nat → Int32} {a_ring : Nat → Int32} {a_carried : Nat → Int32} {a_latest : Nat → Int32} {v_taped : Int32} {v_faultKind : Int32} {v_faultPlace : Int32} {v_x : Int32} {v_ordered : Int32} {v_sought : Int32} {v_lastSought : Int32} {v_hMoved : Int32} {v_hWithout : Int32} {v_tMoved : Int32} {v_tWithout : Int32} {v_places : Int32} {v_elsewhere : Int32} {v_sMany : Int32} {v_bMany : Int32} {v_year : Int32} {y_lies : Int64} {a_rsort : Nat → Int32} {a_rmany : Nat → Int32} {a_nums : Nat → Nat → Int64} {t : Nat → Int32} {nb : Int32} {bv : Nat → Int32 → Int32 → Int32 → Int32 → Int32 → Int32 → Bool} {pl : va_W} {tb : Nat → Nat} {u : Nat → Int32}  {p1 : Int32} {p2 : Int32} {res : Int32} {ra_hAt : Nat → Int32} {rv_hMoved : Int32} {E : EvT} (hE : EvN E) (hPO : PO cA pl ta ba t nb bv) (hU : TownAt cA pl tb u) (hF : FX4_exchanges a_hAt a_hMany v_hMoved p1 p2 = some (res, ra_hAt, rv_hMoved)) : MX l yX4_exchanges (ws_ yX4_exchanges cX4_exchanges 5 (Option.some Jvm.ClassFile.FieldType.int)) rm_X4_exchanges_h D vwA (cT cA) E [.ref (ad 4), .int p1, .int p2] (cW ad cA sA ta ba na gi (some (tb 0)) rt g_sort g_size g_from g_to g_level g_full a_tape a_hAt a_hMany a_tAt a_tMany a_least a_place a_to a_order a_fails a_sKeys a_sRow a_sSlots a_bKeys a_bRow a_bSlots a_easy a_wants a_wantedBy a_ring a_carried a_latest v_taped v_faultKind v_faultPlace v_x v_ordered v_sought v_lastSought v_hMoved v_hWithout v_tMoved v_tWithout v_places v_elsewhere v_sMany v_bMany v_year y_lies a_rsort a_rmany a_nums pl) (fun z => z = (cW ad cA sA ta ba na gi (some (tb 0)) rt g_sort g_size g_from g_to g_level g_full a_tape ra_hAt a_hMany a_tAt a_tMany a_least a_place a_to a_order a_fails a_sKeys a_sRow a_sSlots a_bKeys a_bRow a_bSlots a_easy a_wants a_wantedBy a_ring a_carried a_latest v_taped v_faultKind v_faultPlace v_x v_ordered v_sought v_lastSought rv_hMoved v_hWithout v_tMoved v_tWithout v_places v_elsewhere v_sMany v_bMany v_year y_lies a_rsort a_rmany a_nums pl)) (some (.int res)) := by
  refine MX.ofI (by decide) (Nat.le_of_ble_eq_true rfl) ?_
  intro p e s m args below meth c Q A hX hK hE0 hname hret H locs ls hH hl
  have hX : CallFix p m c cX4_exchanges 5 s args lw_all RX4 := hX
  have hx := hX.1
  have hb := hX.2.1
  have hown := hX.2.2.2.1
  have hts := hX.2.2.2.2
  have hl : lv_has ls 5 [(0, .ref (ad 4)), (1, .int p1), (2, .int p2)] := hl
  have hEv := hE.1
  have hNW := hE.2.1 _ _ _ hE0
  have hT := hPO.1
  have hB := hPO.2
  delta FX4_exchanges at hF
  refine lv_aload_n hx hb dX4_exchanges_0 rfl (lv_at hl 0 rfl) ?_
  refine lv_iload_n hx hb dX4_exchanges_1 rfl (lv_at hl 1 rfl) ?_
  obtain ⟨x_57, he, hF⟩ := bd1e hF
  refine mxV hX hK hEv hE0 hH (met_X4_top_h hE hPO hU he) (crecv hK hH 4 4 rfl rfl) gw_StoneYear_Stacks_82 hd_yX4_top ⟨Nat.le_of_ble_eq_true rfl, Nat.le_of_ble_eq_true rfl⟩ rfl rfl hl (Nat.le_of_ble_eq_true rfl) dX4_exchanges_2 ⟨Nat.le_of_ble_eq_true rfl, Nat.le_of_ble_eq_true rfl⟩ (fun w2 H locs hw hH => ?_)
  subst hw
  refine lv_istore_n (lv' := [(3, .int x_57), (0, .ref (ad 4)), (1, .int p1), (2, .int p2)]) hx hb dX4_exchanges_5 rfl hl (by decide) rfl (fun ls hl => ?_)
  refine lv_aload_n hx hb dX4_exchanges_6 rfl (lv_at hl 1 rfl) ?_
  refine lv_iload_n hx hb dX4_exchanges_7 rfl (lv_at hl 3 rfl) ?_
  obtain ⟨x_58, he, hF⟩ := bd1e hF
  refine mxV hX hK hEv hE0 hH (met_X4_top_h hE hPO hU he) (crecv hK hH 4 4 rfl rfl) gw_StoneYear_Stacks_82 hd_yX4_top ⟨Nat.le_of_ble_eq_true rfl, Nat.le_of_ble_eq_true rfl⟩ rfl rfl hl (Nat.le_of_ble_eq_true rfl) dX4_exchanges_8 ⟨Nat.le_of_ble_eq_true rfl, Nat.le_of_ble_eq_true rfl⟩ (fun w2 H locs hw hH => ?_)
  subst hw
  refine lv_istore (lv' := [(4, .int x_58), (3, .int x_57), (0, .ref (ad 4)), (1, .int p1), (2, .int p2)]) hx hb dX4_exchanges_11 hl (by decide) rfl (fun ls hl => ?_)
  refine lv_aload_n hx hb dX4_exchanges_13 rfl (lv_at hl 2 rfl) ?_
  refine cg_Y_Stacks_stkh_at hX hK hNW hH dX4_exchanges_14 ?_
  refine lv_iconst (v := 3) hx hb dX4_exchanges_17 kyi_3 ?_
  refine lv_iload_n hx hb dX4_exchanges_18 rfl (lv_at hl 3 rfl) ?_
  refine lv_imul hx hb dX4_exchanges_19 ?_
  refine lv_aload_n hx hb dX4_exchanges_20 rfl (lv_at hl 2 rfl) ?_
  refine cg_Y_Stacks_stkh_many hX hK hNW hH dX4_exchanges_21 ?_
  refine lv_iload_n hx hb dX4_exchanges_24 rfl (lv_at hl 3 rfl) ?_
  obtain ⟨x_59, he, hF⟩ := bd1e hF
  refine cl_hMany hX hK hH he dX4_exchanges_25 ?_
  refine lv_iadd hx hb dX4_exchanges_26 ?_
  refine lv_iconst (v := 1) hx hb dX4_exchanges_27 kyi_1 ?_
  refine lv_isub hx hb dX4_exchanges_28 ?_
  refine lv_iload hx hb dX4_exchanges_29 (lv_at hl 0 rfl) ?_
  obtain ⟨a_hAt_60, he, hF⟩ := bd1e hF
  refine cs_hAt hX hK hH he dX4_exchanges_31 (fun H locs hH => ?_)
  refine lv_aload_n hx hb dX4_exchanges_32 rfl (lv_at hl 2 rfl) ?_
  refine cg_Y_Stacks_stkh_at hX hK hNW hH dX4_exchanges_33 ?_
  refine lv_iconst (v := 3) hx hb dX4_exchanges_36 kyi_3 ?_
  refine lv_iload_n hx hb dX4_exchanges_37 rfl (lv_at hl 4 rfl) ?_
  refine lv_imul hx hb dX4_exchanges_38 ?_
  refine lv_aload_n hx hb dX4_exchanges_39 rfl (lv_at hl 2 rfl) ?_
  refine cg_Y_Stacks_stkh_many hX hK hNW hH dX4_exchanges_40 ?_
  refine lv_iload_n hx hb dX4_exchanges_43 rfl (lv_at hl 4 rfl) ?_
  obtain ⟨x_61, he, hF⟩ := bd1e hF
  refine cl_hMany hX hK hH he dX4_exchanges_44 ?_
  refine lv_iadd hx hb dX4_exchanges_45 ?_
  refine lv_iconst (v := 1) hx hb dX4_exchanges_46 kyi_1 ?_
  refine lv_isub hx hb dX4_exchanges_47 ?_
  refine lv_iload_n hx hb dX4_exchanges_48 rfl (lv_at hl 1 rfl) ?_
  obtain ⟨a_hAt_62, he, hF⟩ := bd1e hF
  refine cs_hAt hX hK hH he dX4_exchanges_49 (fun H locs hH => ?_)
  refine lv_aload_n hx hb dX4_exchanges_50 rfl (lv_at hl 2 rfl) ?_
  refine lv_dup hx hb dX4_exchanges_51 rfl ?_
  refine cg_Y_Stacks_stkh_moved hX hK hNW hH dX4_exchanges_52 ?_
  refine lv_iconst (v := 1) hx hb dX4_exchanges_55 kyi_1 ?_
  refine lv_iload_n hx hb dX4_exchanges_56 rfl (lv_at hl 1 rfl) ?_
  refine lv_ishl hx hb dX4_exchanges_57 ?_
  refine lv_iconst (v := 1) hx hb dX4_exchanges_58 kyi_1 ?_
  refine lv_iload hx hb dX4_exchanges_59 (lv_at hl 0 rfl) ?_
  refine lv_ishl hx hb dX4_exchanges_61 ?_
  refine lv_ior hx hb dX4_exchanges_62 ?_
  refine lv_ior hx hb dX4_exchanges_63 ?_
  refine cp_Y_Stacks_stkh_moved hX hK hNW hH dX4_exchanges_64 (fun H locs hH => ?_)
  refine lv_iload_n hx hb dX4_exchanges_67 rfl (lv_at hl 1 rfl) ?_
  obtain ⟨rfl, rfl, rfl⟩ := re3 hF
  exact hret _ _ _ _ _ rfl hH dX4_exchanges_68
abbrev rm_X4_exchanges_t : Room := { frames := 1, cells := 0, slots := 0, locals := 21 }
set_option maxHeartbeats 4000000 in
theorem met_X4_exchanges_t {l : Launch} {D : va_G} {ad : Nat → Nat} {cA : Nat → ClassId} {sA ta ba na : Nat → Nat} {gi : Nat → Option Nat} {rh : Option Nat} {g_sort : Int32} {g_size : Int32} {g_from : Int32} {g_to : Int32} {g_level : Int32} {g_full : Int32} {a_tape : Nat → Int32} {a_hAt : Nat → Int32} {a_hMany : Nat → Int32} {a_tAt : Nat → Int32} {a_tMany : Nat → Int32} {a_least : Nat → Int32} {a_place : Nat → Int32} {a_to : Nat → Int32} {a_order : Nat → Int32} {a_fails : Nat → Int32} {a_sKeys : Nat → Int64} {a_sRow : Nat → Int64} {a_sSlots : Nat → Int32} {a_bKeys : Nat → Int64} {a_bRow : Nat → Int64} {a_bSlots : Nat → Int32} {a_easy : Nat → Int32} {a_wants : Nat → Int32} {a_wantedBy : Nat → Int32} {a_ring : Nat → Int32} {a_carried : Nat → Int32} {a_latest : Nat → Int32} {v_taped : Int32} {v_faultKind : Int32} {v_faultPlace : Int32} {v_x : Int32} {v_ordered : Int32} {v_sought : Int32} {v_lastSought : Int32} {v_hMoved : Int32} {v_hWithout : Int32} {v_tMoved : Int32} {v_tWithout : Int32} {v_places : Int32} {v_elsewhere : Int32} {v_sMany : Int32} {v_bMany : Int32} {v_year : Int32} {y_lies : Int64} {a_rsort : Nat → Int32} {a_rmany : Nat → Int32} {a_nums : Nat → Nat → Int64} {t : Nat → Int32} {nb : Int32} {bv : Nat → Int32 → Int32 → Int32 → Int32 → Int32 → Int32 → Bool} {pl : va_W} {tb : Nat → Nat} {u : Nat → Int32}  {p1 : Int32} {p2 : Int32} {res : Int32} {ra_tAt : Nat → Int32} {rv_tMoved : Int32} {E : EvT} (hE : EvN E) (hPO : PO cA pl ta ba t nb bv) (hU : TownAt cA pl tb u) (hF : FX4_exchanges a_tAt a_tMany v_tMoved p1 p2 = some (res, ra_tAt, rv_tMoved)) : MX l yX4_exchanges (ws_ yX4_exchanges cX4_exchanges 5 (Option.some Jvm.ClassFile.FieldType.int)) rm_X4_exchanges_t D vwA (cT cA) E [.ref (ad 7), .int p1, .int p2] (cW ad cA sA ta ba na gi rh (some (tb 0)) g_sort g_size g_from g_to g_level g_full a_tape a_hAt a_hMany a_tAt a_tMany a_least a_place a_to a_order a_fails a_sKeys a_sRow a_sSlots a_bKeys a_bRow a_bSlots a_easy a_wants a_wantedBy a_ring a_carried a_latest v_taped v_faultKind v_faultPlace v_x v_ordered v_sought v_lastSought v_hMoved v_hWithout v_tMoved v_tWithout v_places v_elsewhere v_sMany v_bMany v_year y_lies a_rsort a_rmany a_nums pl) (fun z => z = (cW ad cA sA ta ba na gi rh (some (tb 0)) g_sort g_size g_from g_to g_level g_full a_tape a_hAt a_hMany ra_tAt a_tMany a_least a_place a_to a_order a_fails a_sKeys a_sRow a_sSlots a_bKeys a_bRow a_bSlots a_easy a_wants a_wantedBy a_ring a_carried a_latest v_taped v_faultKind v_faultPlace v_x v_ordered v_sought v_lastSought v_hMoved v_hWithout rv_tMoved v_tWithout v_places v_elsewhere v_sMany v_bMany v_year y_lies a_rsort a_rmany a_nums pl)) (some (.int res)) := by
  refine MX.ofI (by decide) (Nat.le_of_ble_eq_true rfl) ?_
  intro p e s m args below meth c Q A hX hK hE0 hname hret H locs ls hH hl
  have hX : CallFix p m c cX4_exchanges 5 s args lw_all RX4 := hX
  have hx := hX.1
  have hb := hX.2.1
  have hown := hX.2.2.2.1
  have hts := hX.2.2.2.2
  have hl : lv_has ls 5 [(0, .ref (ad 7)), (1, .int p1), (2, .int p2)] := hl
  have hEv := hE.1
  have hNW := hE.2.1 _ _ _ hE0
  have hT := hPO.1
  have hB := hPO.2
  delta FX4_exchanges at hF
  refine lv_aload_n hx hb dX4_exchanges_0 rfl (lv_at hl 0 rfl) ?_
  refine lv_iload_n hx hb dX4_exchanges_1 rfl (lv_at hl 1 rfl) ?_
  obtain ⟨x_57, he, hF⟩ := bd1e hF
  refine mxV hX hK hEv hE0 hH (met_X4_top_t hE hPO hU he) (crecv hK hH 7 4 rfl rfl) gw_StoneYear_Stacks_82 hd_yX4_top ⟨Nat.le_of_ble_eq_true rfl, Nat.le_of_ble_eq_true rfl⟩ rfl rfl hl (Nat.le_of_ble_eq_true rfl) dX4_exchanges_2 ⟨Nat.le_of_ble_eq_true rfl, Nat.le_of_ble_eq_true rfl⟩ (fun w2 H locs hw hH => ?_)
  subst hw
  refine lv_istore_n (lv' := [(3, .int x_57), (0, .ref (ad 7)), (1, .int p1), (2, .int p2)]) hx hb dX4_exchanges_5 rfl hl (by decide) rfl (fun ls hl => ?_)
  refine lv_aload_n hx hb dX4_exchanges_6 rfl (lv_at hl 1 rfl) ?_
  refine lv_iload_n hx hb dX4_exchanges_7 rfl (lv_at hl 3 rfl) ?_
  obtain ⟨x_58, he, hF⟩ := bd1e hF
  refine mxV hX hK hEv hE0 hH (met_X4_top_t hE hPO hU he) (crecv hK hH 7 4 rfl rfl) gw_StoneYear_Stacks_82 hd_yX4_top ⟨Nat.le_of_ble_eq_true rfl, Nat.le_of_ble_eq_true rfl⟩ rfl rfl hl (Nat.le_of_ble_eq_true rfl) dX4_exchanges_8 ⟨Nat.le_of_ble_eq_true rfl, Nat.le_of_ble_eq_true rfl⟩ (fun w2 H locs hw hH => ?_)
  subst hw
  refine lv_istore (lv' := [(4, .int x_58), (3, .int x_57), (0, .ref (ad 7)), (1, .int p1), (2, .int p2)]) hx hb dX4_exchanges_11 hl (by decide) rfl (fun ls hl => ?_)
  refine lv_aload_n hx hb dX4_exchanges_13 rfl (lv_at hl 2 rfl) ?_
  refine cg_Y_Stacks_stkt_at hX hK hNW hH dX4_exchanges_14 ?_
  refine lv_iconst (v := 3) hx hb dX4_exchanges_17 kyi_3 ?_
  refine lv_iload_n hx hb dX4_exchanges_18 rfl (lv_at hl 3 rfl) ?_
  refine lv_imul hx hb dX4_exchanges_19 ?_
  refine lv_aload_n hx hb dX4_exchanges_20 rfl (lv_at hl 2 rfl) ?_
  refine cg_Y_Stacks_stkt_many hX hK hNW hH dX4_exchanges_21 ?_
  refine lv_iload_n hx hb dX4_exchanges_24 rfl (lv_at hl 3 rfl) ?_
  obtain ⟨x_59, he, hF⟩ := bd1e hF
  refine cl_tMany hX hK hH he dX4_exchanges_25 ?_
  refine lv_iadd hx hb dX4_exchanges_26 ?_
  refine lv_iconst (v := 1) hx hb dX4_exchanges_27 kyi_1 ?_
  refine lv_isub hx hb dX4_exchanges_28 ?_
  refine lv_iload hx hb dX4_exchanges_29 (lv_at hl 0 rfl) ?_
  obtain ⟨a_tAt_60, he, hF⟩ := bd1e hF
  refine cs_tAt hX hK hH he dX4_exchanges_31 (fun H locs hH => ?_)
  refine lv_aload_n hx hb dX4_exchanges_32 rfl (lv_at hl 2 rfl) ?_
  refine cg_Y_Stacks_stkt_at hX hK hNW hH dX4_exchanges_33 ?_
  refine lv_iconst (v := 3) hx hb dX4_exchanges_36 kyi_3 ?_
  refine lv_iload_n hx hb dX4_exchanges_37 rfl (lv_at hl 4 rfl) ?_
  refine lv_imul hx hb dX4_exchanges_38 ?_
  refine lv_aload_n hx hb dX4_exchanges_39 rfl (lv_at hl 2 rfl) ?_
  refine cg_Y_Stacks_stkt_many hX hK hNW hH dX4_exchanges_40 ?_
  refine lv_iload_n hx hb dX4_exchanges_43 rfl (lv_at hl 4 rfl) ?_
  obtain ⟨x_61, he, hF⟩ := bd1e hF
  refine cl_tMany hX hK hH he dX4_exchanges_44 ?_
  refine lv_iadd hx hb dX4_exchanges_45 ?_
  refine lv_iconst (v := 1) hx hb dX4_exchanges_46 kyi_1 ?_
  refine lv_isub hx hb dX4_exchanges_47 ?_
  refine lv_iload_n hx hb dX4_exchanges_48 rfl (lv_at hl 1 rfl) ?_
  obtain ⟨a_tAt_62, he, hF⟩ := bd1e hF
  refine cs_tAt hX hK hH he dX4_exchanges_49 (fun H locs hH => ?_)
  refine lv_aload_n hx hb dX4_exchanges_50 rfl (lv_at hl 2 rfl) ?_
  refine lv_dup hx hb dX4_exchanges_51 rfl ?_
  refine cg_Y_Stacks_stkt_moved hX hK hNW hH dX4_exchanges_52 ?_
  refine lv_iconst (v := 1) hx hb dX4_exchanges_55 kyi_1 ?_
  refine lv_iload_n hx hb dX4_exchanges_56 rfl (lv_at hl 1 rfl) ?_
  refine lv_ishl hx hb dX4_exchanges_57 ?_
  refine lv_iconst (v := 1) hx hb dX4_exchanges_58 kyi_1 ?_
  refine lv_iload hx hb dX4_exchanges_59 (lv_at hl 0 rfl) ?_
  refine lv_ishl hx hb dX4_exchanges_61 ?_
  refine lv_ior hx hb dX4_exchanges_62 ?_
  refine lv_ior hx hb dX4_exchanges_63 ?_
  refine cp_Y_Stacks_stkt_moved hX hK hNW hH dX4_exchanges_64 (fun H locs hH => ?_)
  refine lv_iload_n hx hb dX4_exchanges_67 rfl (lv_at hl 1 rfl) ?_
  obtain ⟨rfl, rfl, rfl⟩ := re3 hF
  exact hret _ _ _ _ _ rfl hH dX4_exchanges_68
abbrev rm_X0_exchange : Room := { frames := 262, cells := 0, slots := 0, locals := 6047 }
set_option maxHeartbeats 4000000 in
theorem met_X0_exchange {l : Launch} {D : va_G} {ad : Nat → Nat} {cA : Nat → ClassId} {sA ta ba na : Nat → Nat} {gi : Nat → Option Nat} {rh : Option Nat} {rt : Option Nat} {g_sort : Int32} {g_size : Int32} {g_from : Int32} {g_to : Int32} {g_level : Int32} {g_full : Int32} {a_tape : Nat → Int32} {a_hAt : Nat → Int32} {a_hMany : Nat → Int32} {a_tAt : Nat → Int32} {a_tMany : Nat → Int32} {a_least : Nat → Int32} {a_place : Nat → Int32} {a_to : Nat → Int32} {a_order : Nat → Int32} {a_fails : Nat → Int32} {a_sKeys : Nat → Int64} {a_sRow : Nat → Int64} {a_sSlots : Nat → Int32} {a_bKeys : Nat → Int64} {a_bRow : Nat → Int64} {a_bSlots : Nat → Int32} {a_easy : Nat → Int32} {a_wants : Nat → Int32} {a_wantedBy : Nat → Int32} {a_ring : Nat → Int32} {a_carried : Nat → Int32} {a_latest : Nat → Int32} {v_taped : Int32} {v_faultKind : Int32} {v_faultPlace : Int32} {v_x : Int32} {v_ordered : Int32} {v_sought : Int32} {v_lastSought : Int32} {v_hMoved : Int32} {v_hWithout : Int32} {v_tMoved : Int32} {v_tWithout : Int32} {v_places : Int32} {v_elsewhere : Int32} {v_sMany : Int32} {v_bMany : Int32} {v_year : Int32} {y_lies : Int64} {a_rsort : Nat → Int32} {a_rmany : Nat → Int32} {a_nums : Nat → Nat → Int64} {t : Nat → Int32} {nb : Int32} {bv : Nat → Int32 → Int32 → Int32 → Int32 → Int32 → Int32 → Bool} {pl : va_W}  {p1 : Int32} {p2 : Int32} {res : Int32} {ra_hAt : Nat → Int32} {ra_hMany : Nat → Int32} {ra_carried : Nat → Int32} {ra_latest : Nat → Int32} {rv_hMoved : Int32} {ry_lies : Int64} {E : EvT} (hE : EvN E) (hPO : PO cA pl ta ba t nb bv) (hF : FX0_exchange a_hAt a_hMany a_carried a_latest v_year y_lies t nb bv p1 p2 = some (res, ra_hAt, ra_hMany, ra_carried, ra_latest, rv_hMoved, ry_lies)) : MX l yX0_exchange (ws_ yX0_exchange cX0_exchange 5 (Option.some Jvm.ClassFile.FieldType.int)) rm_X0_exchange D vwA (cT cA) E [.ref (ad 0), .int p1, .int p2] (cW ad cA sA ta ba na gi rh rt g_sort g_size g_from g_to g_level g_full a_tape a_hAt a_hMany a_tAt a_tMany a_least a_place a_to a_order a_fails a_sKeys a_sRow a_sSlots a_bKeys a_bRow a_bSlots a_easy a_wants a_wantedBy a_ring a_carried a_latest v_taped v_faultKind v_faultPlace v_x v_ordered v_sought v_lastSought v_hMoved v_hWithout v_tMoved v_tWithout v_places v_elsewhere v_sMany v_bMany v_year y_lies a_rsort a_rmany a_nums pl) (fun z => ∃ g_sort' : Int32, ∃ g_size' : Int32, ∃ g_from' : Int32, ∃ g_to' : Int32, ∃ g_level' : Int32, ∃ g_full' : Int32, z = (cW ad cA sA ta ba na gi (some (ta 0)) rt g_sort' g_size' g_from' g_to' g_level' g_full' a_tape ra_hAt ra_hMany a_tAt a_tMany a_least a_place a_to a_order a_fails a_sKeys a_sRow a_sSlots a_bKeys a_bRow a_bSlots a_easy a_wants a_wantedBy a_ring ra_carried ra_latest v_taped v_faultKind v_faultPlace v_x v_ordered v_sought v_lastSought rv_hMoved v_hWithout v_tMoved v_tWithout v_places v_elsewhere v_sMany v_bMany v_year ry_lies a_rsort a_rmany a_nums pl)) (some (.int res)) := by
  refine MX.ofI (by decide) (Nat.le_of_ble_eq_true rfl) ?_
  intro p e s m args below meth c Q A hX hK hE0 hname hret H locs ls hH hl
  have hX : CallFix p m c cX0_exchange 5 s args lw_all RX0 := hX
  have hx := hX.1
  have hb := hX.2.1
  have hown := hX.2.2.2.1
  have hts := hX.2.2.2.2
  have hl : lv_has ls 5 [(0, .ref (ad 0)), (1, .int p1), (2, .int p2)] := hl
  have hEv := hE.1
  have hNW := hE.2.1 _ _ _ hE0
  have hT := hPO.1
  have hB := hPO.2
  delta FX0_exchange at hF
  refine lv_aload_n hx hb dX0_exchange_0 rfl (lv_at hl 0 rfl) ?_
  obtain ⟨a_hAt_56, a_hMany_57, v_hMoved_58, he, hF⟩ := bd3e hF
  refine mxV hX hK hEv hE0 hH (met_X0_here hE hPO he) (crecv hK hH 0 0 rfl rfl) gw_StoneYear_195 hd_yX0_here ⟨Nat.le_of_ble_eq_true rfl, Nat.le_of_ble_eq_true rfl⟩ rfl rfl hl (Nat.le_of_ble_eq_true rfl) dX0_exchange_1 ⟨Nat.le_of_ble_eq_true rfl, Nat.le_of_ble_eq_true rfl⟩ (fun w2 H locs hw hH => ?_)
  subst hw
  refine lv_iload_n hx hb dX0_exchange_4 rfl (lv_at hl 1 rfl) ?_
  refine lv_iload_n hx hb dX0_exchange_5 rfl (lv_at hl 2 rfl) ?_
  obtain ⟨x_59, he, hF⟩ := bd1e hF
  refine mxV hX hK hEv hE0 hH (met_X4_mayExchange_h hE hPO hT he) (crecv hK hH 4 4 rfl rfl) gw_StoneYear_230 hd_yX4_mayExchange ⟨Nat.le_of_ble_eq_true rfl, Nat.le_of_ble_eq_true rfl⟩ rfl rfl hl (Nat.le_of_ble_eq_true rfl) dX0_exchange_6 ⟨Nat.le_of_ble_eq_true rfl, Nat.le_of_ble_eq_true rfl⟩ (fun w2 H locs hw hH => ?_)
  obtain ⟨g_sort_60, g_size_61, g_from_62, g_to_63, g_level_64, g_full_65, rfl⟩ := hw
  refine lv_istore_n (lv' := [(3, .int x_59), (0, .ref (ad 0)), (1, .int p1), (2, .int p2)]) hx hb dX0_exchange_9 rfl hl (by decide) rfl (fun ls hl => ?_)
  refine lv_iload_n hx hb dX0_exchange_10 rfl (lv_at hl 0 rfl) ?_
  refine lv_if_eq (tgt := 19) hx hb dX0_exchange_11 rfl (fun c_66 => ?_) (fun c_66 => ?_)
  · have hF := itp c_66 hF
    refine lv_aload_n hx hb dX0_exchange_19 rfl (lv_at hl 1 rfl) ?_
    refine cg_Y_this_here hX hK hNW hH dX0_exchange_20 ?_
    refine lv_iload_n hx hb dX0_exchange_23 rfl (lv_at hl 2 rfl) ?_
    refine lv_iload_n hx hb dX0_exchange_24 rfl (lv_at hl 3 rfl) ?_
    obtain ⟨x_67, a_hAt_68, v_hMoved_69, he, hF⟩ := bd3e hF
    refine mxV hX hK hEv hE0 hH (met_X4_exchanges_h hE hPO hT he) (crecv hK hH 4 4 rfl rfl) gw_StoneYear_246 hd_yX4_exchanges ⟨Nat.le_of_ble_eq_true rfl, Nat.le_of_ble_eq_true rfl⟩ rfl rfl hl (Nat.le_of_ble_eq_true rfl) dX0_exchange_25 ⟨Nat.le_of_ble_eq_true rfl, Nat.le_of_ble_eq_true rfl⟩ (fun w2 H locs hw hH => ?_)
    subst hw
    refine lv_istore (lv' := [(4, .int x_67), (3, .int x_59), (0, .ref (ad 0)), (1, .int p1), (2, .int p2)]) hx hb dX0_exchange_28 hl (by decide) rfl (fun ls hl => ?_)
    refine lv_aload_n hx hb dX0_exchange_30 rfl (lv_at hl 2 rfl) ?_
    refine lv_iload hx hb dX0_exchange_31 (lv_at hl 0 rfl) ?_
    obtain ⟨a_carried_70, a_latest_71, he, hF⟩ := bd2e hF
    refine mxV hX hK hEv hE0 hH (met_X0_counts hE hPO he) (crecv hK hH 0 0 rfl rfl) gw_StoneYear_240 hd_yX0_counts ⟨Nat.le_of_ble_eq_true rfl, Nat.le_of_ble_eq_true rfl⟩ rfl rfl hl (Nat.le_of_ble_eq_true rfl) dX0_exchange_33 ⟨Nat.le_of_ble_eq_true rfl, Nat.le_of_ble_eq_true rfl⟩ (fun w2 H locs hw hH => ?_)
    subst hw
    refine lv_aload_n hx hb dX0_exchange_36 rfl (lv_at hl 2 rfl) ?_
    refine lv_aload_n hx hb dX0_exchange_37 rfl (lv_at hl 2 rfl) ?_
    refine cg_Y_this_here hX hK hNW hH dX0_exchange_38 ?_
    refine lv_iload_n hx hb dX0_exchange_41 rfl (lv_at hl 3 rfl) ?_
    obtain ⟨x_72, he, hF⟩ := bd1e hF
    refine mxV hX hK hEv hE0 hH (met_X4_top_h hE hPO hT he) (crecv hK hH 4 4 rfl rfl) gw_StoneYear_249 hd_yX4_top ⟨Nat.le_of_ble_eq_true rfl, Nat.le_of_ble_eq_true rfl⟩ rfl rfl hl (Nat.le_of_ble_eq_true rfl) dX0_exchange_42 ⟨Nat.le_of_ble_eq_true rfl, Nat.le_of_ble_eq_true rfl⟩ (fun w2 H locs hw hH => ?_)
    subst hw
    obtain ⟨a_carried_73, a_latest_74, he, hF⟩ := bd2e hF
    refine mxV hX hK hEv hE0 hH (met_X0_counts hE hPO he) (crecv hK hH 0 0 rfl rfl) gw_StoneYear_240 hd_yX0_counts ⟨Nat.le_of_ble_eq_true rfl, Nat.le_of_ble_eq_true rfl⟩ rfl rfl hl (Nat.le_of_ble_eq_true rfl) dX0_exchange_45 ⟨Nat.le_of_ble_eq_true rfl, Nat.le_of_ble_eq_true rfl⟩ (fun w2 H locs hw hH => ?_)
    subst hw
    refine lv_aload_n hx hb dX0_exchange_48 rfl (lv_at hl 2 rfl) ?_
    refine cg_Y_this_s hX hK hNW hH dX0_exchange_49 ?_
    refine lv_aload_n hx hb dX0_exchange_52 rfl (lv_at hl 2 rfl) ?_
    refine cg_Y_this_here hX hK hNW hH dX0_exchange_53 ?_
    refine lv_aload_n hx hb dX0_exchange_56 rfl (lv_at hl 2 rfl) ?_
    refine cg_Y_this_s hX hK hNW hH dX0_exchange_57 ?_
    refine cg_Y_state_lies hX hK hNW hH dX0_exchange_60 ?_
    obtain ⟨y_75, he, hF⟩ := bd1e hF
    refine mxV hX hK hEv hE0 hH (met_X4_lies_h hE hPO hT he) (crecv hK hH 4 4 rfl rfl) gw_StoneYear_243 hd_yX4_lies ⟨Nat.le_of_ble_eq_true rfl, Nat.le_of_ble_eq_true rfl⟩ rfl rfl hl (Nat.le_of_ble_eq_true rfl) dX0_exchange_63 ⟨Nat.le_of_ble_eq_true rfl, Nat.le_of_ble_eq_true rfl⟩ (fun w2 H locs hw hH => ?_)
    subst hw
    refine cp_Y_state_lies hX hK hNW hH dX0_exchange_66 (fun H locs hH => ?_)
    refine lv_iload hx hb dX0_exchange_69 (lv_at hl 0 rfl) ?_
    obtain ⟨rfl, rfl, rfl, rfl, rfl, rfl, rfl⟩ := re7 hF
    exact hret _ _ _ _ _ ⟨_, _, _, _, _, _, rfl⟩ hH dX0_exchange_71
  · have hF := itn c_66 hF
    refine lv_bipush (v := (-10)) hx hb dX0_exchange_14 kyb_m10 ?_
    refine lv_iload_n hx hb dX0_exchange_16 rfl (lv_at hl 0 rfl) ?_
    refine lv_isub hx hb dX0_exchange_17 ?_
    obtain ⟨rfl, rfl, rfl, rfl, rfl, rfl, rfl⟩ := re7 hF
    exact hret _ _ _ _ _ ⟨_, _, _, _, _, _, rfl⟩ hH dX0_exchange_18
abbrev rm_X0_resting : Room := { frames := 0, cells := 0, slots := 0, locals := 0 }
set_option maxHeartbeats 4000000 in
theorem met_X0_resting {l : Launch} {D : va_G} {ad : Nat → Nat} {cA : Nat → ClassId} {sA ta ba na : Nat → Nat} {gi : Nat → Option Nat} {rh : Option Nat} {rt : Option Nat} {g_sort : Int32} {g_size : Int32} {g_from : Int32} {g_to : Int32} {g_level : Int32} {g_full : Int32} {a_tape : Nat → Int32} {a_hAt : Nat → Int32} {a_hMany : Nat → Int32} {a_tAt : Nat → Int32} {a_tMany : Nat → Int32} {a_least : Nat → Int32} {a_place : Nat → Int32} {a_to : Nat → Int32} {a_order : Nat → Int32} {a_fails : Nat → Int32} {a_sKeys : Nat → Int64} {a_sRow : Nat → Int64} {a_sSlots : Nat → Int32} {a_bKeys : Nat → Int64} {a_bRow : Nat → Int64} {a_bSlots : Nat → Int32} {a_easy : Nat → Int32} {a_wants : Nat → Int32} {a_wantedBy : Nat → Int32} {a_ring : Nat → Int32} {a_carried : Nat → Int32} {a_latest : Nat → Int32} {v_taped : Int32} {v_faultKind : Int32} {v_faultPlace : Int32} {v_x : Int32} {v_ordered : Int32} {v_sought : Int32} {v_lastSought : Int32} {v_hMoved : Int32} {v_hWithout : Int32} {v_tMoved : Int32} {v_tWithout : Int32} {v_places : Int32} {v_elsewhere : Int32} {v_sMany : Int32} {v_bMany : Int32} {v_year : Int32} {y_lies : Int64} {a_rsort : Nat → Int32} {a_rmany : Nat → Int32} {a_nums : Nat → Nat → Int64} {t : Nat → Int32} {nb : Int32} {bv : Nat → Int32 → Int32 → Int32 → Int32 → Int32 → Int32 → Bool} {pl : va_W}  {p0 : Int64} {res : Int64} {E : EvT} (hE : EvN E) (hPO : PO cA pl ta ba t nb bv) (hF : FX0_resting p0 = some res) : MX l yX0_resting (ws_ yX0_resting cX0_resting 2 (Option.some Jvm.ClassFile.FieldType.long)) rm_X0_resting D vwA (cT cA) E [.long p0] (cW ad cA sA ta ba na gi rh rt g_sort g_size g_from g_to g_level g_full a_tape a_hAt a_hMany a_tAt a_tMany a_least a_place a_to a_order a_fails a_sKeys a_sRow a_sSlots a_bKeys a_bRow a_bSlots a_easy a_wants a_wantedBy a_ring a_carried a_latest v_taped v_faultKind v_faultPlace v_x v_ordered v_sought v_lastSought v_hMoved v_hWithout v_tMoved v_tWithout v_places v_elsewhere v_sMany v_bMany v_year y_lies a_rsort a_rmany a_nums pl) (fun z => z = (cW ad cA sA ta ba na gi rh rt g_sort g_size g_from g_to g_level g_full a_tape a_hAt a_hMany a_tAt a_tMany a_least a_place a_to a_order a_fails a_sKeys a_sRow a_sSlots a_bKeys a_bRow a_bSlots a_easy a_wants a_wantedBy a_ring a_carried a_latest v_taped v_faultKind v_faultPlace v_x v_ordered v_sought v_lastSought v_hMoved v_hWithout v_tMoved v_tWithout v_places v_elsewhere v_sMany v_bMany v_year y_lies a_rsort a_rmany a_nums pl)) (some (.long res)) := by
  refine MX.ofL (by decide) (Nat.le_of_ble_eq_true rfl) ?_
  intro p e s m args below meth c Q A hX hK hE0 hname hret H locs ls hH hl
  have hX : CallFix p m c cX0_resting 2 s args lw_all RX0 := hX
  have hx := hX.1
  have hb := hX.2.1
  have hown := hX.2.2.2.1
  have hts := hX.2.2.2.2
  have hl : lv_has ls 2 [(0, .long p0)] := hl
  have hEv := hE.1
  have hNW := hE.2.1 _ _ _ hE0
  have hT := hPO.1
  have hB := hPO.2
  delta FX0_resting at hF
  refine lv_lload_n hx hb dX0_resting_0 rfl (lv_at hl 0 rfl) ?_
  refine lv_ldc2 (v := 4294967295) hx hb hown (hts _ q1128) dX0_resting_1 ?_
  refine lv_land hx hb dX0_resting_4 ?_
  obtain rfl := Option.some.inj hF
  exact hret _ _ _ _ _ rfl hH dX0_resting_5
abbrev rm_X0_year : Room := { frames := 1, cells := 0, slots := 0, locals := 21 }
set_option maxHeartbeats 4000000 in
theorem met_X0_year {l : Launch} {D : va_G} {ad : Nat → Nat} {cA : Nat → ClassId} {sA ta ba na : Nat → Nat} {gi : Nat → Option Nat} {rh : Option Nat} {rt : Option Nat} {g_sort : Int32} {g_size : Int32} {g_from : Int32} {g_to : Int32} {g_level : Int32} {g_full : Int32} {a_tape : Nat → Int32} {a_hAt : Nat → Int32} {a_hMany : Nat → Int32} {a_tAt : Nat → Int32} {a_tMany : Nat → Int32} {a_least : Nat → Int32} {a_place : Nat → Int32} {a_to : Nat → Int32} {a_order : Nat → Int32} {a_fails : Nat → Int32} {a_sKeys : Nat → Int64} {a_sRow : Nat → Int64} {a_sSlots : Nat → Int32} {a_bKeys : Nat → Int64} {a_bRow : Nat → Int64} {a_bSlots : Nat → Int32} {a_easy : Nat → Int32} {a_wants : Nat → Int32} {a_wantedBy : Nat → Int32} {a_ring : Nat → Int32} {a_carried : Nat → Int32} {a_latest : Nat → Int32} {v_taped : Int32} {v_faultKind : Int32} {v_faultPlace : Int32} {v_x : Int32} {v_ordered : Int32} {v_sought : Int32} {v_lastSought : Int32} {v_hMoved : Int32} {v_hWithout : Int32} {v_tMoved : Int32} {v_tWithout : Int32} {v_places : Int32} {v_elsewhere : Int32} {v_sMany : Int32} {v_bMany : Int32} {v_year : Int32} {y_lies : Int64} {a_rsort : Nat → Int32} {a_rmany : Nat → Int32} {a_nums : Nat → Nat → Int64} {t : Nat → Int32} {nb : Int32} {bv : Nat → Int32 → Int32 → Int32 → Int32 → Int32 → Int32 → Bool} {pl : va_W}   {res : Int32} {rv_year : Int32} {ry_lies : Int64} {E : EvT} (hE : EvN E) (hPO : PO cA pl ta ba t nb bv) (hF : FX0_year v_year y_lies = some (res, rv_year, ry_lies)) : MX l yX0_year (ws_ yX0_year cX0_year 1 (Option.some Jvm.ClassFile.FieldType.int)) rm_X0_year D vwA (cT cA) E [.ref (ad 0)] (cW ad cA sA ta ba na gi rh rt g_sort g_size g_from g_to g_level g_full a_tape a_hAt a_hMany a_tAt a_tMany a_least a_place a_to a_order a_fails a_sKeys a_sRow a_sSlots a_bKeys a_bRow a_bSlots a_easy a_wants a_wantedBy a_ring a_carried a_latest v_taped v_faultKind v_faultPlace v_x v_ordered v_sought v_lastSought v_hMoved v_hWithout v_tMoved v_tWithout v_places v_elsewhere v_sMany v_bMany v_year y_lies a_rsort a_rmany a_nums pl) (fun z => z = (cW ad cA sA ta ba na gi rh rt g_sort g_size g_from g_to g_level g_full a_tape a_hAt a_hMany a_tAt a_tMany a_least a_place a_to a_order a_fails a_sKeys a_sRow a_sSlots a_bKeys a_bRow a_bSlots a_easy a_wants a_wantedBy a_ring a_carried a_latest v_taped v_faultKind v_faultPlace v_x v_ordered v_sought v_lastSought v_hMoved v_hWithout v_tMoved v_tWithout v_places v_elsewhere v_sMany v_bMany rv_year ry_lies a_rsort a_rmany a_nums pl)) (some (.int res)) := by
  refine MX.ofI (by decide) (Nat.le_of_ble_eq_true rfl) ?_
  intro p e s m args below meth c Q A hX hK hE0 hname hret H locs ls hH hl
  have hX : CallFix p m c cX0_year 1 s args lw_all RX0 := hX
  have hx := hX.1
  have hb := hX.2.1
  have hown := hX.2.2.2.1
  have hts := hX.2.2.2.2
  have hl : lv_has ls 1 [(0, .ref (ad 0))] := hl
  have hEv := hE.1
  have hNW := hE.2.1 _ _ _ hE0
  have hT := hPO.1
  have hB := hPO.2
  delta FX0_year at hF
  refine lv_aload_n hx hb dX0_year_0 rfl (lv_at hl 0 rfl) ?_
  refine cg_Y_this_s hX hK hNW hH dX0_year_1 ?_
  refine cg_Y_state_year hX hK hNW hH dX0_year_4 ?_
  refine lv_sipush (v := 999) hx hb dX0_year_7 kys_999 ?_
  refine lv_icmp_ne (tgt := 16) hx hb dX0_year_10 rfl (fun c_54 => ?_) (fun c_54 => ?_)
  · have hF := itn c_54 hF
    refine lv_aload_n hx hb dX0_year_16 rfl (lv_at hl 0 rfl) ?_
    refine cg_Y_this_s hX hK hNW hH dX0_year_17 ?_
    refine lv_dup hx hb dX0_year_20 rfl ?_
    refine cg_Y_state_year hX hK hNW hH dX0_year_21 ?_
    refine lv_iconst (v := 1) hx hb dX0_year_24 kyi_1 ?_
    refine lv_iadd hx hb dX0_year_25 ?_
    refine cp_Y_state_year hX hK hNW hH dX0_year_26 (fun H locs hH => ?_)
    refine lv_aload_n hx hb dX0_year_29 rfl (lv_at hl 0 rfl) ?_
    refine cg_Y_this_s hX hK hNW hH dX0_year_30 ?_
    refine lv_aload_n hx hb dX0_year_33 rfl (lv_at hl 0 rfl) ?_
    refine cg_Y_this_s hX hK hNW hH dX0_year_34 ?_
    refine cg_Y_state_lies hX hK hNW hH dX0_year_37 ?_
    obtain ⟨y_55, he, hF⟩ := bd1e hF
    refine mxS hX hK hEv hE0 hH (met_X0_resting hE hPO he) gw_StoneYear_255 hd_yX0_resting ⟨Nat.le_of_ble_eq_true rfl, Nat.le_of_ble_eq_true rfl⟩ rfl rfl hl (Nat.le_of_ble_eq_true rfl) dX0_year_40 ⟨Nat.le_of_ble_eq_true rfl, Nat.le_of_ble_eq_true rfl⟩ (fun w2 H locs hw hH => ?_)
    subst hw
    refine cp_Y_state_lies hX hK hNW hH dX0_year_43 (fun H locs hH => ?_)
    refine lv_aload_n hx hb dX0_year_46 rfl (lv_at hl 0 rfl) ?_
    refine cg_Y_this_s hX hK hNW hH dX0_year_47 ?_
    refine cg_Y_state_year hX hK hNW hH dX0_year_50 ?_
    obtain ⟨rfl, rfl, rfl⟩ := re3 hF
    exact hret _ _ _ _ _ rfl hH dX0_year_53
  · have hF := itp c_54 hF
    refine lv_bipush (v := (-5)) hx hb dX0_year_13 kyb_m5 ?_
    obtain ⟨rfl, rfl, rfl⟩ := re3 hF
    exact hret _ _ _ _ _ rfl hH dX0_year_15
abbrev rm_X0_draw : Room := { frames := 0, cells := 0, slots := 0, locals := 0 }
set_option maxHeartbeats 4000000 in
theorem met_X0_draw {l : Launch} {D : va_G} {ad : Nat → Nat} {cA : Nat → ClassId} {sA ta ba na : Nat → Nat} {gi : Nat → Option Nat} {rh : Option Nat} {rt : Option Nat} {g_sort : Int32} {g_size : Int32} {g_from : Int32} {g_to : Int32} {g_level : Int32} {g_full : Int32} {a_tape : Nat → Int32} {a_hAt : Nat → Int32} {a_hMany : Nat → Int32} {a_tAt : Nat → Int32} {a_tMany : Nat → Int32} {a_least : Nat → Int32} {a_place : Nat → Int32} {a_to : Nat → Int32} {a_order : Nat → Int32} {a_fails : Nat → Int32} {a_sKeys : Nat → Int64} {a_sRow : Nat → Int64} {a_sSlots : Nat → Int32} {a_bKeys : Nat → Int64} {a_bRow : Nat → Int64} {a_bSlots : Nat → Int32} {a_easy : Nat → Int32} {a_wants : Nat → Int32} {a_wantedBy : Nat → Int32} {a_ring : Nat → Int32} {a_carried : Nat → Int32} {a_latest : Nat → Int32} {v_taped : Int32} {v_faultKind : Int32} {v_faultPlace : Int32} {v_x : Int32} {v_ordered : Int32} {v_sought : Int32} {v_lastSought : Int32} {v_hMoved : Int32} {v_hWithout : Int32} {v_tMoved : Int32} {v_tWithout : Int32} {v_places : Int32} {v_elsewhere : Int32} {v_sMany : Int32} {v_bMany : Int32} {v_year : Int32} {y_lies : Int64} {a_rsort : Nat → Int32} {a_rmany : Nat → Int32} {a_nums : Nat → Nat → Int64} {t : Nat → Int32} {nb : Int32} {bv : Nat → Int32 → Int32 → Int32 → Int32 → Int32 → Int32 → Bool} {pl : va_W}  {p1 : Int32} {res : Int32} {rv_x : Int32} {E : EvT} (hE : EvN E) (hPO : PO cA pl ta ba t nb bv) (hF : FX0_draw v_x p1 = some (res, rv_x)) : MX l yX0_draw (ws_ yX0_draw cX0_draw 2 (Option.some Jvm.ClassFile.FieldType.int)) rm_X0_draw D vwA (cT cA) E [.ref (ad 0), .int p1] (cW ad cA sA ta ba na gi rh rt g_sort g_size g_from g_to g_level g_full a_tape a_hAt a_hMany a_tAt a_tMany a_least a_place a_to a_order a_fails a_sKeys a_sRow a_sSlots a_bKeys a_bRow a_bSlots a_easy a_wants a_wantedBy a_ring a_carried a_latest v_taped v_faultKind v_faultPlace v_x v_ordered v_sought v_lastSought v_hMoved v_hWithout v_tMoved v_tWithout v_places v_elsewhere v_sMany v_bMany v_year y_lies a_rsort a_rmany a_nums pl) (fun z => z = (cW ad cA sA ta ba na gi rh rt g_sort g_size g_from g_to g_level g_full a_tape a_hAt a_hMany a_tAt a_tMany a_least a_place a_to a_order a_fails a_sKeys a_sRow a_sSlots a_bKeys a_bRow a_bSlots a_easy a_wants a_wantedBy a_ring a_carried a_latest v_taped v_faultKind v_faultPlace rv_x v_ordered v_sought v_lastSought v_hMoved v_hWithout v_tMoved v_tWithout v_places v_elsewhere v_sMany v_bMany v_year y_lies a_rsort a_rmany a_nums pl)) (some (.int res)) := by
  refine MX.ofI (by decide) (Nat.le_of_ble_eq_true rfl) ?_
  intro p e s m args below meth c Q A hX hK hE0 hname hret H locs ls hH hl
  have hX : CallFix p m c cX0_draw 2 s args lw_all RX0 := hX
  have hx := hX.1
  have hb := hX.2.1
  have hown := hX.2.2.2.1
  have hts := hX.2.2.2.2
  have hl : lv_has ls 2 [(0, .ref (ad 0)), (1, .int p1)] := hl
  have hEv := hE.1
  have hNW := hE.2.1 _ _ _ hE0
  have hT := hPO.1
  have hB := hPO.2
  delta FX0_draw at hF
  refine lv_aload_n hx hb dX0_draw_0 rfl (lv_at hl 0 rfl) ?_
  refine lv_ldcw (v := 1103515245) hx hb hown (hts _ q1137) dX0_draw_1 ?_
  refine lv_aload_n hx hb dX0_draw_4 rfl (lv_at hl 0 rfl) ?_
  refine cg_Y_this_x hX hK hNW hH dX0_draw_5 ?_
  refine lv_imul hx hb dX0_draw_8 ?_
  refine lv_sipush (v := 12345) hx hb dX0_draw_9 kys_12345 ?_
  refine lv_iadd hx hb dX0_draw_12 ?_
  refine cp_Y_this_x hX hK hNW hH dX0_draw_13 (fun H locs hH => ?_)
  refine lv_aload_n hx hb dX0_draw_16 rfl (lv_at hl 0 rfl) ?_
  refine cg_Y_this_x hX hK hNW hH dX0_draw_17 ?_
  refine lv_bipush (v := 16) hx hb dX0_draw_20 kyb_16 ?_
  refine lv_iushr hx hb dX0_draw_22 rfl ?_
  refine lv_iload_n hx hb dX0_draw_23 rfl (lv_at hl 1 rfl) ?_
  obtain ⟨hz, hF⟩ := bd0e hF
  refine lv_irem hx hb dX0_draw_24 (nz_of hz) ?_
  obtain ⟨rfl, rfl⟩ := re2 hF
  exact hret _ _ _ _ _ rfl hH dX0_draw_25
abbrev rm_X0_flood : Room := { frames := 6, cells := 0, slots := 0, locals := 188 }
set_option maxHeartbeats 4000000 in
theorem met_X0_flood {l : Launch} {D : va_G} {ad : Nat → Nat} {cA : Nat → ClassId} {sA ta ba na : Nat → Nat} {gi : Nat → Option Nat} {rh : Option Nat} {rt : Option Nat} {g_sort : Int32} {g_size : Int32} {g_from : Int32} {g_to : Int32} {g_level : Int32} {g_full : Int32} {a_tape : Nat → Int32} {a_hAt : Nat → Int32} {a_hMany : Nat → Int32} {a_tAt : Nat → Int32} {a_tMany : Nat → Int32} {a_least : Nat → Int32} {a_place : Nat → Int32} {a_to : Nat → Int32} {a_order : Nat → Int32} {a_fails : Nat → Int32} {a_sKeys : Nat → Int64} {a_sRow : Nat → Int64} {a_sSlots : Nat → Int32} {a_bKeys : Nat → Int64} {a_bRow : Nat → Int64} {a_bSlots : Nat → Int32} {a_easy : Nat → Int32} {a_wants : Nat → Int32} {a_wantedBy : Nat → Int32} {a_ring : Nat → Int32} {a_carried : Nat → Int32} {a_latest : Nat → Int32} {v_taped : Int32} {v_faultKind : Int32} {v_faultPlace : Int32} {v_x : Int32} {v_ordered : Int32} {v_sought : Int32} {v_lastSought : Int32} {v_hMoved : Int32} {v_hWithout : Int32} {v_tMoved : Int32} {v_tWithout : Int32} {v_places : Int32} {v_elsewhere : Int32} {v_sMany : Int32} {v_bMany : Int32} {v_year : Int32} {y_lies : Int64} {a_rsort : Nat → Int32} {a_rmany : Nat → Int32} {a_nums : Nat → Nat → Int64} {t : Nat → Int32} {nb : Int32} {bv : Nat → Int32 → Int32 → Int32 → Int32 → Int32 → Int32 → Bool} {pl : va_W}  {p1 : Int32} {res : Int32} {ra_hAt : Nat → Int32} {ra_hMany : Nat → Int32} {ra_carried : Nat → Int32} {ra_latest : Nat → Int32} {rv_x : Int32} {rv_hMoved : Int32} {ry_lies : Int64} {E : EvT} (hE : EvN E) (hPO : PO cA pl ta ba t nb bv) (hF : FX0_flood a_hAt a_hMany a_carried a_latest v_year y_lies t p1 = some (res, ra_hAt, ra_hMany, ra_carried, ra_latest, rv_x, rv_hMoved, ry_lies)) : MX l yX0_flood (ws_ yX0_flood cX0_flood 7 (Option.some Jvm.ClassFile.FieldType.int)) rm_X0_flood D vwA (cT cA) E [.ref (ad 0), .int p1] (cW ad cA sA ta ba na gi rh rt g_sort g_size g_from g_to g_level g_full a_tape a_hAt a_hMany a_tAt a_tMany a_least a_place a_to a_order a_fails a_sKeys a_sRow a_sSlots a_bKeys a_bRow a_bSlots a_easy a_wants a_wantedBy a_ring a_carried a_latest v_taped v_faultKind v_faultPlace v_x v_ordered v_sought v_lastSought v_hMoved v_hWithout v_tMoved v_tWithout v_places v_elsewhere v_sMany v_bMany v_year y_lies a_rsort a_rmany a_nums pl) (fun z => z = (cW ad cA sA ta ba na gi (some (ta 0)) rt g_sort g_size g_from g_to g_level g_full a_tape ra_hAt ra_hMany a_tAt a_tMany a_least a_place a_to a_order a_fails a_sKeys a_sRow a_sSlots a_bKeys a_bRow a_bSlots a_easy a_wants a_wantedBy a_ring ra_carried ra_latest v_taped v_faultKind v_faultPlace rv_x v_ordered v_sought v_lastSought rv_hMoved v_hWithout v_tMoved v_tWithout v_places v_elsewhere v_sMany v_bMany v_year ry_lies a_rsort a_rmany a_nums pl)) (some (.int res)) := by
  refine MX.ofI (by decide) (Nat.le_of_ble_eq_true rfl) ?_
  intro p e s m args below meth c Q A hX hK hE0 hname hret H locs ls hH hl
  have hX : CallFix p m c cX0_flood 7 s args lw_all RX0 := hX
  have hx := hX.1
  have hb := hX.2.1
  have hown := hX.2.2.2.1
  have hts := hX.2.2.2.2
  have hl : lv_has ls 7 [(0, .ref (ad 0)), (1, .int p1)] := hl
  have hEv := hE.1
  have hNW := hE.2.1 _ _ _ hE0
  have hT := hPO.1
  have hB := hPO.2
  delta FX0_flood at hF
  refine lv_aload_n hx hb dX0_flood_0 rfl (lv_at hl 0 rfl) ?_
  obtain ⟨a_hAt_55, a_hMany_56, v_hMoved_57, he, hF⟩ := bd3e hF
  refine mxV hX hK hEv hE0 hH (met_X0_here hE hPO he) (crecv hK hH 0 0 rfl rfl) gw_StoneYear_195 hd_yX0_here ⟨Nat.le_of_ble_eq_true rfl, Nat.le_of_ble_eq_true rfl⟩ rfl rfl hl (Nat.le_of_ble_eq_true rfl) dX0_flood_1 ⟨Nat.le_of_ble_eq_true rfl, Nat.le_of_ble_eq_true rfl⟩ (fun w2 H locs hw hH => ?_)
  subst hw
  refine lv_astore_n (lv' := [(2, .ref (ad 4)), (0, .ref (ad 0)), (1, .int p1)]) hx hb dX0_flood_4 rfl hl (by decide) rfl (fun ls hl => ?_)
  refine lv_aload_n hx hb dX0_flood_5 rfl (lv_at hl 1 rfl) ?_
  refine lv_iload_n hx hb dX0_flood_6 rfl (lv_at hl 2 rfl) ?_
  refine cp_Y_this_x hX hK hNW hH dX0_flood_7 (fun H locs hH => ?_)
  refine lv_iconst (v := 0) hx hb dX0_flood_10 kyi_0 ?_
  refine lv_istore_n (lv' := [(3, .int 0), (2, .ref (ad 4)), (0, .ref (ad 0)), (1, .int p1)]) hx hb dX0_flood_11 rfl hl (by decide) rfl (fun ls hl => ?_)
  refine lv_iconst (v := 0) hx hb dX0_flood_12 kyi_0 ?_
  refine lv_istore (lv' := [(4, .int 0), (3, .int 0), (2, .ref (ad 4)), (0, .ref (ad 0)), (1, .int p1)]) hx hb dX0_flood_13 hl (by decide) rfl (fun ls hl => ?_)
  obtain ⟨xx15, ee15, kk15_0⟩ := bd7L hF
  have k15_0 : ∀ (x_128 : Int32) (a_hAt_129 : Nat → Int32) (a_hMany_130 : Nat → Int32) (a_carried_131 : Nat → Int32) (a_latest_132 : Nat → Int32) (v_x_133 : Int32) (v_hMoved_134 : Int32), xx15 = (x_128, a_hAt_129, a_hMany_130, a_carried_131, a_latest_132, v_x_133, v_hMoved_134) → ∀ (H : Heap) (locs : List Loc) (ls : Array Slot), MH D vwA A s.heap (cW ad cA sA ta ba na gi (some (ta 0)) rt g_sort g_size g_from g_to g_level g_full a_tape a_hAt_129 a_hMany_130 a_tAt a_tMany a_least a_place a_to a_order a_fails a_sKeys a_sRow a_sSlots a_bKeys a_bRow a_bSlots a_easy a_wants a_wantedBy a_ring a_carried_131 a_latest_132 v_taped v_faultKind v_faultPlace v_x_133 v_ordered v_sought v_lastSought v_hMoved_134 v_hWithout v_tMoved v_tWithout v_places v_elsewhere v_sMany v_bMany v_year y_lies a_rsort a_rmany a_nums pl) H locs → lv_has ls 7 [(0, .ref (ad 0)), (2, .ref (ad 4)), (3, .int x_128)] → W p l e rm_X0_flood s m args below meth c H locs 0 0 Q (F0 m 168 ls []) := by
    intro x_128 a_hAt_129 a_hMany_130 a_carried_131 a_latest_132 v_x_133 v_hMoved_134 hxx H locs ls hH hl
    have hF := un7e (kk15_0 (x_128, a_hAt_129, a_hMany_130, a_carried_131, a_latest_132, v_x_133, v_hMoved_134) hxx)
    refine lv_aload_n hx hb dX0_flood_168 rfl (lv_at hl 0 rfl) ?_
    refine cg_Y_this_s hX hK hNW hH dX0_flood_169 ?_
    refine lv_aload_n hx hb dX0_flood_172 rfl (lv_at hl 1 rfl) ?_
    refine lv_aload_n hx hb dX0_flood_173 rfl (lv_at hl 0 rfl) ?_
    refine cg_Y_this_s hX hK hNW hH dX0_flood_174 ?_
    refine cg_Y_state_lies hX hK hNW hH dX0_flood_177 ?_
    obtain ⟨y_135, he, hF⟩ := bd1e hF
    refine mxV hX hK hEv hE0 hH (met_X4_lies_h hE hPO hT he) (crecv hK hH 4 4 rfl rfl) gw_StoneYear_243 hd_yX4_lies ⟨Nat.le_of_ble_eq_true rfl, Nat.le_of_ble_eq_true rfl⟩ rfl rfl hl (Nat.le_of_ble_eq_true rfl) dX0_flood_180 ⟨Nat.le_of_ble_eq_true rfl, Nat.le_of_ble_eq_true rfl⟩ (fun w2 H locs hw hH => ?_)
    subst hw
    refine cp_Y_state_lies hX hK hNW hH dX0_flood_183 (fun H locs hH => ?_)
    refine lv_iload_n hx hb dX0_flood_186 rfl (lv_at hl 2 rfl) ?_
    obtain ⟨rfl, rfl, rfl, rfl, rfl, rfl, rfl, rfl⟩ := re8 hF
    exact hret _ _ _ _ _ rfl hH dX0_flood_187
  obtain ⟨nn15, en15⟩ := loopC_some ee15
  have l15 : ∀ (n : Nat) (x_89 : Int32) (x_90 : Int32) (a_hAt_91 : Nat → Int32) (a_hMany_92 : Nat → Int32) (a_carried_93 : Nat → Int32) (a_latest_94 : Nat → Int32) (v_x_95 : Int32) (v_hMoved_96 : Int32), loopN (fun s => FX0_flood_b15 v_year t s.1 s.2.1 s.2.2.1 s.2.2.2.1 s.2.2.2.2.1 s.2.2.2.2.2.1 s.2.2.2.2.2.2.1 s.2.2.2.2.2.2.2) n (x_89, x_90, a_hAt_91, a_hMany_92, a_carried_93, a_latest_94, v_x_95, v_hMoved_96) = some xx15 → ∀ (H : Heap) (locs : List Loc) (ls : Array Slot), MH D vwA A s.heap (cW ad cA sA ta ba na gi (some (ta 0)) rt g_sort g_size g_from g_to g_level g_full a_tape a_hAt_91 a_hMany_92 a_tAt a_tMany a_least a_place a_to a_order a_fails a_sKeys a_sRow a_sSlots a_bKeys a_bRow a_bSlots a_easy a_wants a_wantedBy a_ring a_carried_93 a_latest_94 v_taped v_faultKind v_faultPlace v_x_95 v_ordered v_sought v_lastSought v_hMoved_96 v_hWithout v_tMoved v_tWithout v_places v_elsewhere v_sMany v_bMany v_year y_lies a_rsort a_rmany a_nums pl) H locs → lv_has ls 7 [(0, .ref (ad 0)), (2, .ref (ad 4)), (3, .int x_89), (4, .int x_90)] → W p l e rm_X0_flood s m args below meth c H locs 0 0 Q (F0 m 15 ls []) := by
    intro n
    induction n with
    | zero =>
      intro x_89 x_90 a_hAt_91 a_hMany_92 a_carried_93 a_latest_94 v_x_95 v_hMoved_96 hN
      exact absurd hN loopN_zero
    | succ n ih =>
      intro x_89 x_90 a_hAt_91 a_hMany_92 a_carried_93 a_latest_94 v_x_95 v_hMoved_96 hN H locs ls hH hl
      obtain ⟨yy15, hB15, hY15⟩ := loopN_succ hN
      have hF : FX0_flood_b15 v_year t x_89 x_90 a_hAt_91 a_hMany_92 a_carried_93 a_latest_94 v_x_95 v_hMoved_96 = some yy15 := hB15
      delta FX0_flood_b15 at hF
      refine lv_iload hx hb dX0_flood_15 (lv_at hl 3 rfl) ?_
      refine lv_aload_n hx hb dX0_flood_17 rfl (lv_at hl 0 rfl) ?_
      refine cg_Y_this_s hX hK hNW hH dX0_flood_18 ?_
      refine cg_Y_state_town hX hK hNW hH dX0_flood_21 ?_
      refine cg_Y_town_rows hT (fun _ h => cW_pl h) hX hK hNW hH dX0_flood_24 ?_
      refine mxV hX hK hEv hE0 hH (met_J2_size hE.1 hT.rows (fun _ h => cW_pl h)) (precv (fun _ h => cW_pl h) hK hH 17 rfl hT.rows.obj) gw_StoneYear_133 hd_yJ2_size ⟨Nat.le_of_ble_eq_true rfl, Nat.le_of_ble_eq_true rfl⟩ rfl rfl hl (Nat.le_of_ble_eq_true rfl) dX0_flood_27 ⟨Nat.le_of_ble_eq_true rfl, Nat.le_of_ble_eq_true rfl⟩ (fun w2 H locs hw hH => ?_)
      subst hw
      refine lv_icmp_ge (tgt := 168) hx hb dX0_flood_30 rfl (fun c_97 => ?_) (fun c_97 => ?_)
      · have hF := itp c_97 hF
        obtain rfl := Option.some.inj hF
        exact k15_0 x_89 a_hAt_91 a_hMany_92 a_carried_93 a_latest_94 v_x_95 v_hMoved_96 hY15 _ _ _ hH (lv_sub hl [0, 1, 2] rfl)
      · have hF := itn c_97 hF
        refine lv_aload_n hx hb dX0_flood_33 rfl (lv_at hl 1 rfl) ?_
        refine cg_Y_stkh_many hX hK hNW hH dX0_flood_34 ?_
        refine lv_iload hx hb dX0_flood_37 (lv_at hl 3 rfl) ?_
        obtain ⟨x_98, he, hF⟩ := bd1e hF
        refine cl_hMany hX hK hH he dX0_flood_39 ?_
        have j162 : ∀ (x_121 : Int32) (a_hAt_122 : Nat → Int32) (a_hMany_123 : Nat → Int32) (a_carried_124 : Nat → Int32) (a_latest_125 : Nat → Int32) (v_x_126 : Int32) (v_hMoved_127 : Int32), FX0_flood_j162 x_90 x_121 a_hAt_122 a_hMany_123 a_carried_124 a_latest_125 v_x_126 v_hMoved_127 = some yy15 → ∀ (H : Heap) (locs : List Loc) (ls : Array Slot), MH D vwA A s.heap (cW ad cA sA ta ba na gi (some (ta 0)) rt g_sort g_size g_from g_to g_level g_full a_tape a_hAt_122 a_hMany_123 a_tAt a_tMany a_least a_place a_to a_order a_fails a_sKeys a_sRow a_sSlots a_bKeys a_bRow a_bSlots a_easy a_wants a_wantedBy a_ring a_carried_124 a_latest_125 v_taped v_faultKind v_faultPlace v_x_126 v_ordered v_sought v_lastSought v_hMoved_127 v_hWithout v_tMoved v_tWithout v_places v_elsewhere v_sMany v_bMany v_year y_lies a_rsort a_rmany a_nums pl) H locs → lv_has ls 7 [(0, .ref (ad 0)), (2, .ref (ad 4)), (3, .int x_121), (4, .int x_90)] → W p l e rm_X0_flood s m args below meth c H locs 0 0 Q (F0 m 162 ls []) := by
          intro x_121 a_hAt_122 a_hMany_123 a_carried_124 a_latest_125 v_x_126 v_hMoved_127 hF H locs ls hH hl
          delta FX0_flood_j162 at hF
          refine lv_iinc (v := (x_90 + 1)) (lv' := [(4, .int (x_90 + 1)), (0, .ref (ad 0)), (2, .ref (ad 4)), (3, .int x_121)]) hx hb dX0_flood_162 hl (k := 3) rfl (syc kyi_1) (by decide) rfl (fun ls hl => ?_)
          refine lv_goto (tgt := 15) hx hb dX0_flood_165 rfl ?_
          obtain rfl := Option.some.inj hF
          exact ih x_121 (x_90 + 1) a_hAt_122 a_hMany_123 a_carried_124 a_latest_125 v_x_126 v_hMoved_127 hY15 _ _ _ hH (lv_sub hl [1, 2, 3, 0] rfl)
        refine lv_if_ne (tgt := 46) hx hb dX0_flood_40 rfl (fun c_99 => ?_) (fun c_99 => ?_)
        · have hF := itn c_99 hF
          refine lv_aload_n hx hb dX0_flood_46 rfl (lv_at hl 0 rfl) ?_
          refine lv_iconst (v := 3) hx hb dX0_flood_47 kyi_3 ?_
          obtain ⟨x_100, v_x_101, he, hF⟩ := bd2e hF
          refine mxV hX hK hEv hE0 hH (met_X0_draw hE hPO he) (crecv hK hH 0 0 rfl rfl) gw_StoneYear_262 hd_yX0_draw ⟨Nat.le_of_ble_eq_true rfl, Nat.le_of_ble_eq_true rfl⟩ rfl rfl hl (Nat.le_of_ble_eq_true rfl) dX0_flood_48 ⟨Nat.le_of_ble_eq_true rfl, Nat.le_of_ble_eq_true rfl⟩ (fun w2 H locs hw hH => ?_)
          subst hw
          refine lv_istore (lv' := [(5, .int x_100), (0, .ref (ad 0)), (2, .ref (ad 4)), (3, .int x_89), (4, .int x_90)]) hx hb dX0_flood_51 hl (by decide) rfl (fun ls hl => ?_)
          refine lv_iload hx hb dX0_flood_53 (lv_at hl 0 rfl) ?_
          refine lv_iconst (v := 1) hx hb dX0_flood_55 kyi_1 ?_
          have j70 : ∀ (x_103 : Int32), FX0_flood_j70 v_year t x_89 x_90 a_hAt_91 a_hMany_92 a_carried_93 a_latest_94 v_hMoved_96 x_100 v_x_101 x_103 = some yy15 → ∀ (H : Heap) (locs : List Loc) (ls : Array Slot), MH D vwA A s.heap (cW ad cA sA ta ba na gi (some (ta 0)) rt g_sort g_size g_from g_to g_level g_full a_tape a_hAt_91 a_hMany_92 a_tAt a_tMany a_least a_place a_to a_order a_fails a_sKeys a_sRow a_sSlots a_bKeys a_bRow a_bSlots a_easy a_wants a_wantedBy a_ring a_carried_93 a_latest_94 v_taped v_faultKind v_faultPlace v_x_101 v_ordered v_sought v_lastSought v_hMoved_96 v_hWithout v_tMoved v_tWithout v_places v_elsewhere v_sMany v_bMany v_year y_lies a_rsort a_rmany a_nums pl) H locs → lv_has ls 7 [(0, .ref (ad 0)), (2, .ref (ad 4)), (3, .int x_89), (4, .int x_90), (5, .int x_100)] → W p l e rm_X0_flood s m args below meth c H locs 0 0 Q (F0 m 70 ls [.int x_103]) := by
            intro x_103 hF H locs ls hH hl
            delta FX0_flood_j70 at hF
            refine lv_istore (lv' := [(6, .int x_103), (0, .ref (ad 0)), (2, .ref (ad 4)), (3, .int x_89), (4, .int x_90), (5, .int x_100)]) hx hb dX0_flood_70 hl (by decide) rfl (fun ls hl => ?_)
            refine lv_iload hx hb dX0_flood_72 (lv_at hl 5 rfl) ?_
            refine lv_if_eq (tgt := 162) hx hb dX0_flood_74 rfl (fun c_104 => ?_) (fun c_104 => ?_)
            · have hF := itp c_104 hF
              exact j162 x_89 a_hAt_91 a_hMany_92 a_carried_93 a_latest_94 v_x_101 v_hMoved_96 hF _ _ _ hH (lv_sub hl [1, 2, 3, 4] rfl)
            · have hF := itn c_104 hF
              refine lv_aload_n hx hb dX0_flood_77 rfl (lv_at hl 2 rfl) ?_
              refine lv_iload hx hb dX0_flood_78 (lv_at hl 0 rfl) ?_
              obtain ⟨b_105, he, hF⟩ := bd1e hF
              refine mxV hX hK hEv hE0 hH (met_X4_isRow_h hE hPO hT he) (crecv hK hH 4 4 rfl rfl) gw_StoneYear_265 hd_yX4_isRow ⟨Nat.le_of_ble_eq_true rfl, Nat.le_of_ble_eq_true rfl⟩ rfl rfl hl (Nat.le_of_ble_eq_true rfl) dX0_flood_80 ⟨Nat.le_of_ble_eq_true rfl, Nat.le_of_ble_eq_true rfl⟩ (fun w2 H locs hw hH => ?_)
              subst hw
              refine lv_if_eq (tgt := 162) hx hb dX0_flood_83 rfl (fun c_106 => ?_) (fun c_106 => ?_)
              · have hF := itp c_106 hF
                exact j162 x_89 a_hAt_91 a_hMany_92 a_carried_93 a_latest_94 v_x_101 v_hMoved_96 hF _ _ _ hH (lv_sub hl [1, 2, 3, 4] rfl)
              · have hF := itn c_106 hF
                refine lv_aload_n hx hb dX0_flood_86 rfl (lv_at hl 2 rfl) ?_
                refine cg_Y_stkh_many hX hK hNW hH dX0_flood_87 ?_
                refine lv_iload hx hb dX0_flood_90 (lv_at hl 0 rfl) ?_
                obtain ⟨x_107, he, hF⟩ := bd1e hF
                refine cl_hMany hX hK hH he dX0_flood_92 ?_
                refine lv_aload_n hx hb dX0_flood_93 rfl (lv_at hl 1 rfl) ?_
                refine cg_Y_this_s hX hK hNW hH dX0_flood_94 ?_
                refine cg_Y_state_town hX hK hNW hH dX0_flood_97 ?_
                refine lv_iload hx hb dX0_flood_100 (lv_at hl 0 rfl) ?_
                obtain ⟨x_108, he, hF⟩ := bd1e hF
                refine mxV hX hK hEv hE0 hH (met_X2_high hE hPO hT he) (precv (fun _ h => cW_pl h) hK hH 2 rfl ⟨_, hT.obj⟩) gw_StoneYear_268 hd_yX2_high ⟨Nat.le_of_ble_eq_true rfl, Nat.le_of_ble_eq_true rfl⟩ rfl rfl hl (Nat.le_of_ble_eq_true rfl) dX0_flood_102 ⟨Nat.le_of_ble_eq_true rfl, Nat.le_of_ble_eq_true rfl⟩ (fun w2 H locs hw hH => ?_)
                subst hw
                refine lv_icmp_eq (tgt := 162) hx hb dX0_flood_105 rfl (fun c_109 => ?_) (fun c_109 => ?_)
                · have hF := itp c_109 hF
                  exact j162 x_89 a_hAt_91 a_hMany_92 a_carried_93 a_latest_94 v_x_101 v_hMoved_96 hF _ _ _ hH (lv_sub hl [1, 2, 3, 4] rfl)
                · have hF := itn c_109 hF
                  refine lv_aload_n hx hb dX0_flood_108 rfl (lv_at hl 2 rfl) ?_
                  refine lv_iload hx hb dX0_flood_109 (lv_at hl 0 rfl) ?_
                  refine lv_aload_n hx hb dX0_flood_111 rfl (lv_at hl 2 rfl) ?_
                  refine cg_Y_stkh_many hX hK hNW hH dX0_flood_112 ?_
                  refine lv_iload hx hb dX0_flood_115 (lv_at hl 0 rfl) ?_
                  obtain ⟨x_110, he, hF⟩ := bd1e hF
                  refine cl_hMany hX hK hH he dX0_flood_117 ?_
                  refine lv_aload_n hx hb dX0_flood_118 rfl (lv_at hl 2 rfl) ?_
                  refine lv_aload_n hx hb dX0_flood_119 rfl (lv_at hl 2 rfl) ?_
                  refine lv_iload hx hb dX0_flood_120 (lv_at hl 4 rfl) ?_
                  obtain ⟨x_111, he, hF⟩ := bd1e hF
                  refine mxV hX hK hEv hE0 hH (met_X4_top_h hE hPO hT he) (crecv hK hH 4 4 rfl rfl) gw_StoneYear_249 hd_yX4_top ⟨Nat.le_of_ble_eq_true rfl, Nat.le_of_ble_eq_true rfl⟩ rfl rfl hl (Nat.le_of_ble_eq_true rfl) dX0_flood_122 ⟨Nat.le_of_ble_eq_true rfl, Nat.le_of_ble_eq_true rfl⟩ (fun w2 H locs hw hH => ?_)
                  subst hw
                  obtain ⟨x_112, he, hF⟩ := bd1e hF
                  refine mxVN hX hK hEv hE0 hH (met_X4_size_h hE hPO hT he) (crecv hK hH 4 4 rfl rfl) (lw_meth q1056) (hNW _ nw_q1140) q136 q1055 qs32 hd_yX4_size.2 ⟨Nat.le_of_ble_eq_true rfl, Nat.le_of_ble_eq_true rfl⟩ rfl rfl hl (Nat.le_of_ble_eq_true rfl) dX0_flood_125 ⟨Nat.le_of_ble_eq_true rfl, Nat.le_of_ble_eq_true rfl⟩ (fun w2 H locs hw hH => ?_)
                  subst hw
                  obtain ⟨b_113, he, hF⟩ := bd1e hF
                  refine mxVN hX hK hEv hE0 hH (met_X4_bears_h hE hPO hT he) (crecv hK hH 4 4 rfl rfl) (lw_meth q1061) (hNW _ nw_q1141) q136 q1060 qs33 hd_yX4_bears.2 ⟨Nat.le_of_ble_eq_true rfl, Nat.le_of_ble_eq_true rfl⟩ rfl rfl hl (Nat.le_of_ble_eq_true rfl) dX0_flood_128 ⟨Nat.le_of_ble_eq_true rfl, Nat.le_of_ble_eq_true rfl⟩ (fun w2 H locs hw hH => ?_)
                  subst hw
                  refine lv_if_ne (tgt := 137) hx hb dX0_flood_131 rfl (fun c_114 => ?_) (fun c_114 => ?_)
                  · have hF := itn c_114 hF
                    refine lv_aload_n hx hb dX0_flood_137 rfl (lv_at hl 1 rfl) ?_
                    refine lv_aload_n hx hb dX0_flood_138 rfl (lv_at hl 2 rfl) ?_
                    refine lv_iload hx hb dX0_flood_139 (lv_at hl 4 rfl) ?_
                    refine lv_iload hx hb dX0_flood_141 (lv_at hl 0 rfl) ?_
                    refine lv_aload_n hx hb dX0_flood_143 rfl (lv_at hl 1 rfl) ?_
                    refine cg_Y_this_s hX hK hNW hH dX0_flood_144 ?_
                    refine cg_Y_state_town hX hK hNW hH dX0_flood_147 ?_
                    refine cg_Y_town_floods hT (fun _ h => cW_pl h) hX hK hNW hH dX0_flood_150 ?_
                    obtain ⟨x_115, a_hAt_116, a_hMany_117, v_hMoved_118, he, hF⟩ := bd4e hF
                    refine mxV hX hK hEv hE0 hH (met_X4_carries_h hE hPO hT he) (crecv hK hH 4 4 rfl rfl) gw_StoneYear_236 hd_yX4_carries ⟨Nat.le_of_ble_eq_true rfl, Nat.le_of_ble_eq_true rfl⟩ rfl rfl hl (Nat.le_of_ble_eq_true rfl) dX0_flood_153 ⟨Nat.le_of_ble_eq_true rfl, Nat.le_of_ble_eq_true rfl⟩ (fun w2 H locs hw hH => ?_)
                    subst hw
                    obtain ⟨a_carried_119, a_latest_120, he, hF⟩ := bd2e hF
                    refine mxV hX hK hEv hE0 hH (met_X0_counts hE hPO he) (crecv hK hH 0 0 rfl rfl) gw_StoneYear_240 hd_yX0_counts ⟨Nat.le_of_ble_eq_true rfl, Nat.le_of_ble_eq_true rfl⟩ rfl rfl hl (Nat.le_of_ble_eq_true rfl) dX0_flood_156 ⟨Nat.le_of_ble_eq_true rfl, Nat.le_of_ble_eq_true rfl⟩ (fun w2 H locs hw hH => ?_)
                    subst hw
                    refine lv_iinc (v := (x_89 + 1)) (lv' := [(3, .int (x_89 + 1)), (6, .int x_103), (0, .ref (ad 0)), (2, .ref (ad 4)), (4, .int x_90), (5, .int x_100)]) hx hb dX0_flood_159 hl (k := 3) rfl (syc kyi_1) (by decide) rfl (fun ls hl => ?_)
                    exact j162 (x_89 + 1) a_hAt_116 a_hMany_117 a_carried_119 a_latest_120 v_x_101 v_hMoved_118 hF _ _ _ hH (lv_sub hl [2, 3, 0, 4] rfl)
                  · have hF := itp c_114 hF
                    refine lv_goto (tgt := 162) hx hb dX0_flood_134 rfl ?_
                    exact j162 x_89 a_hAt_91 a_hMany_92 a_carried_93 a_latest_94 v_x_101 v_hMoved_96 hF _ _ _ hH (lv_sub hl [1, 2, 3, 4] rfl)
          refine lv_icmp_ne (tgt := 66) hx hb dX0_flood_56 rfl (fun c_102 => ?_) (fun c_102 => ?_)
          · have hF := itn c_102 hF
            refine lv_iload hx hb dX0_flood_66 (lv_at hl 4 rfl) ?_
            refine lv_iconst (v := 1) hx hb dX0_flood_68 kyi_1 ?_
            refine lv_iadd hx hb dX0_flood_69 ?_
            exact j70 (x_90 + 1) hF _ _ _ hH (lv_sub hl [1, 2, 3, 4, 0] rfl)
          · have hF := itp c_102 hF
            refine lv_iload hx hb dX0_flood_59 (lv_at hl 4 rfl) ?_
            refine lv_iconst (v := 1) hx hb dX0_flood_61 kyi_1 ?_
            refine lv_isub hx hb dX0_flood_62 ?_
            refine lv_goto (tgt := 70) hx hb dX0_flood_63 rfl ?_
            exact j70 (x_90 - 1) hF _ _ _ hH (lv_sub hl [1, 2, 3, 4, 0] rfl)
        · have hF := itp c_99 hF
          refine lv_goto (tgt := 162) hx hb dX0_flood_43 rfl ?_
          exact j162 x_89 a_hAt_91 a_hMany_92 a_carried_93 a_latest_94 v_x_95 v_hMoved_96 hF _ _ _ hH (lv_sub hl [0, 1, 2, 3] rfl)
  exact l15 nn15 0 0 a_hAt_55 a_hMany_56 a_carried a_latest p1 v_hMoved_57 en15 _ _ _ hH (lv_sub hl [3, 2, 1, 0] rfl)
abbrev rm_X0_isTop : Room := { frames := 3, cells := 0, slots := 0, locals := 67 }
set_option maxHeartbeats 4000000 in
theorem met_X0_isTop {l : Launch} {D : va_G} {ad : Nat → Nat} {cA : Nat → ClassId} {sA ta ba na : Nat → Nat} {gi : Nat → Option Nat} {rh : Option Nat} {rt : Option Nat} {g_sort : Int32} {g_size : Int32} {g_from : Int32} {g_to : Int32} {g_level : Int32} {g_full : Int32} {a_tape : Nat → Int32} {a_hAt : Nat → Int32} {a_hMany : Nat → Int32} {a_tAt : Nat → Int32} {a_tMany : Nat → Int32} {a_least : Nat → Int32} {a_place : Nat → Int32} {a_to : Nat → Int32} {a_order : Nat → Int32} {a_fails : Nat → Int32} {a_sKeys : Nat → Int64} {a_sRow : Nat → Int64} {a_sSlots : Nat → Int32} {a_bKeys : Nat → Int64} {a_bRow : Nat → Int64} {a_bSlots : Nat → Int32} {a_easy : Nat → Int32} {a_wants : Nat → Int32} {a_wantedBy : Nat → Int32} {a_ring : Nat → Int32} {a_carried : Nat → Int32} {a_latest : Nat → Int32} {v_taped : Int32} {v_faultKind : Int32} {v_faultPlace : Int32} {v_x : Int32} {v_ordered : Int32} {v_sought : Int32} {v_lastSought : Int32} {v_hMoved : Int32} {v_hWithout : Int32} {v_tMoved : Int32} {v_tWithout : Int32} {v_places : Int32} {v_elsewhere : Int32} {v_sMany : Int32} {v_bMany : Int32} {v_year : Int32} {y_lies : Int64} {a_rsort : Nat → Int32} {a_rmany : Nat → Int32} {a_nums : Nat → Nat → Int64} {t : Nat → Int32} {nb : Int32} {bv : Nat → Int32 → Int32 → Int32 → Int32 → Int32 → Int32 → Bool} {pl : va_W}  {p1 : Int32} {res : Bool} {ra_hAt : Nat → Int32} {ra_hMany : Nat → Int32} {rv_hMoved : Int32} {E : EvT} (hE : EvN E) (hPO : PO cA pl ta ba t nb bv) (hF : FX0_isTop a_hAt a_hMany y_lies t p1 = some (res, ra_hAt, ra_hMany, rv_hMoved)) : MX l yX0_isTop (ws_ yX0_isTop cX0_isTop 3 (Option.some Jvm.ClassFile.FieldType.boolean)) rm_X0_isTop D vwA (cT cA) E [.ref (ad 0), .int p1] (cW ad cA sA ta ba na gi rh rt g_sort g_size g_from g_to g_level g_full a_tape a_hAt a_hMany a_tAt a_tMany a_least a_place a_to a_order a_fails a_sKeys a_sRow a_sSlots a_bKeys a_bRow a_bSlots a_easy a_wants a_wantedBy a_ring a_carried a_latest v_taped v_faultKind v_faultPlace v_x v_ordered v_sought v_lastSought v_hMoved v_hWithout v_tMoved v_tWithout v_places v_elsewhere v_sMany v_bMany v_year y_lies a_rsort a_rmany a_nums pl) (fun z => z = (cW ad cA sA ta ba na gi (some (ta 0)) rt g_sort g_size g_from g_to g_level g_full a_tape ra_hAt ra_hMany a_tAt a_tMany a_least a_place a_to a_order a_fails a_sKeys a_sRow a_sSlots a_bKeys a_bRow a_bSlots a_easy a_wants a_wantedBy a_ring a_carried a_latest v_taped v_faultKind v_faultPlace v_x v_ordered v_sought v_lastSought rv_hMoved v_hWithout v_tMoved v_tWithout v_places v_elsewhere v_sMany v_bMany v_year y_lies a_rsort a_rmany a_nums pl)) (some (.int (b2i res))) := by
  refine MX.ofZ (by decide) (Nat.le_of_ble_eq_true rfl) ?_
  intro p e s m args below meth c Q A hX hK hE0 hname hret H locs ls hH hl
  have hX : CallFix p m c cX0_isTop 3 s args lw_all RX0 := hX
  have hx := hX.1
  have hb := hX.2.1
  have hown := hX.2.2.2.1
  have hts := hX.2.2.2.2
  have hl : lv_has ls 3 [(0, .ref (ad 0)), (1, .int p1)] := hl
  have hEv := hE.1
  have hNW := hE.2.1 _ _ _ hE0
  have hT := hPO.1
  have hB := hPO.2
  delta FX0_isTop at hF
  refine lv_aload_n hx hb dX0_isTop_0 rfl (lv_at hl 0 rfl) ?_
  refine cg_Y_this_s hX hK hNW hH dX0_isTop_1 ?_
  refine cg_Y_state_lies hX hK hNW hH dX0_isTop_4 ?_
  refine lv_iload_n hx hb dX0_isTop_7 rfl (lv_at hl 1 rfl) ?_
  obtain ⟨x_55, he, hF⟩ := bd1e hF
  refine mxS hX hK hEv hE0 hH (met_X0_placeIn hE hPO he) gw_StoneYear_162 hd_yX0_placeIn ⟨Nat.le_of_ble_eq_true rfl, Nat.le_of_ble_eq_true rfl⟩ rfl rfl hl (Nat.le_of_ble_eq_true rfl) dX0_isTop_8 ⟨Nat.le_of_ble_eq_true rfl, Nat.le_of_ble_eq_true rfl⟩ (fun w2 H locs hw hH => ?_)
  subst hw
  refine lv_iconst (v := 3) hx hb dX0_isTop_11 kyi_3 ?_
  refine lv_idiv hx hb dX0_isTop_12 (by decide) ?_
  refine lv_istore_n (lv' := [(2, .int (x_55 / 3)), (0, .ref (ad 0)), (1, .int p1)]) hx hb dX0_isTop_13 rfl hl (by decide) rfl (fun ls hl => ?_)
  refine lv_aload_n hx hb dX0_isTop_14 rfl (lv_at hl 1 rfl) ?_
  obtain ⟨a_hAt_56, a_hMany_57, v_hMoved_58, he, hF⟩ := bd3e hF
  refine mxV hX hK hEv hE0 hH (met_X0_here hE hPO he) (crecv hK hH 0 0 rfl rfl) gw_StoneYear_195 hd_yX0_here ⟨Nat.le_of_ble_eq_true rfl, Nat.le_of_ble_eq_true rfl⟩ rfl rfl hl (Nat.le_of_ble_eq_true rfl) dX0_isTop_15 ⟨Nat.le_of_ble_eq_true rfl, Nat.le_of_ble_eq_true rfl⟩ (fun w2 H locs hw hH => ?_)
  subst hw
  refine lv_iload_n hx hb dX0_isTop_18 rfl (lv_at hl 0 rfl) ?_
  obtain ⟨x_59, he, hF⟩ := bd1e hF
  refine mxV hX hK hEv hE0 hH (met_X4_top_h hE hPO hT he) (crecv hK hH 4 4 rfl rfl) gw_StoneYear_249 hd_yX4_top ⟨Nat.le_of_ble_eq_true rfl, Nat.le_of_ble_eq_true rfl⟩ rfl rfl hl (Nat.le_of_ble_eq_true rfl) dX0_isTop_19 ⟨Nat.le_of_ble_eq_true rfl, Nat.le_of_ble_eq_true rfl⟩ (fun w2 H locs hw hH => ?_)
  subst hw
  refine lv_iload_n hx hb dX0_isTop_22 rfl (lv_at hl 2 rfl) ?_
  refine lv_icmp_ne (tgt := 30) hx hb dX0_isTop_23 rfl (fun c_60 => ?_) (fun c_60 => ?_)
  · have hF := itn c_60 hF
    refine lv_iconst (v := 0) hx hb dX0_isTop_30 kyi_0 ?_
    obtain ⟨rfl, rfl, rfl, rfl⟩ := re4 hF
    exact hret _ _ _ _ _ rfl hH dX0_isTop_31
  · have hF := itp c_60 hF
    refine lv_iconst (v := 1) hx hb dX0_isTop_26 kyi_1 ?_
    refine lv_goto (tgt := 31) hx hb dX0_isTop_27 rfl ?_
    obtain ⟨rfl, rfl, rfl, rfl⟩ := re4 hF
    exact hret _ _ _ _ _ rfl hH dX0_isTop_31
abbrev rm_X0_robbed : Room := { frames := 0, cells := 0, slots := 0, locals := 0 }
set_option maxHeartbeats 4000000 in
theorem met_X0_robbed {l : Launch} {D : va_G} {ad : Nat → Nat} {cA : Nat → ClassId} {sA ta ba na : Nat → Nat} {gi : Nat → Option Nat} {rh : Option Nat} {rt : Option Nat} {g_sort : Int32} {g_size : Int32} {g_from : Int32} {g_to : Int32} {g_level : Int32} {g_full : Int32} {a_tape : Nat → Int32} {a_hAt : Nat → Int32} {a_hMany : Nat → Int32} {a_tAt : Nat → Int32} {a_tMany : Nat → Int32} {a_least : Nat → Int32} {a_place : Nat → Int32} {a_to : Nat → Int32} {a_order : Nat → Int32} {a_fails : Nat → Int32} {a_sKeys : Nat → Int64} {a_sRow : Nat → Int64} {a_sSlots : Nat → Int32} {a_bKeys : Nat → Int64} {a_bRow : Nat → Int64} {a_bSlots : Nat → Int32} {a_easy : Nat → Int32} {a_wants : Nat → Int32} {a_wantedBy : Nat → Int32} {a_ring : Nat → Int32} {a_carried : Nat → Int32} {a_latest : Nat → Int32} {v_taped : Int32} {v_faultKind : Int32} {v_faultPlace : Int32} {v_x : Int32} {v_ordered : Int32} {v_sought : Int32} {v_lastSought : Int32} {v_hMoved : Int32} {v_hWithout : Int32} {v_tMoved : Int32} {v_tWithout : Int32} {v_places : Int32} {v_elsewhere : Int32} {v_sMany : Int32} {v_bMany : Int32} {v_year : Int32} {y_lies : Int64} {a_rsort : Nat → Int32} {a_rmany : Nat → Int32} {a_nums : Nat → Nat → Int64} {t : Nat → Int32} {nb : Int32} {bv : Nat → Int32 → Int32 → Int32 → Int32 → Int32 → Int32 → Bool} {pl : va_W}  {p0 : Int64} {p2 : Int32} {res : Int64} {E : EvT} (hE : EvN E) (hPO : PO cA pl ta ba t nb bv) (hF : FX0_robbed p0 p2 = some res) : MX l yX0_robbed (ws_ yX0_robbed cX0_robbed 3 (Option.some Jvm.ClassFile.FieldType.long)) rm_X0_robbed D vwA (cT cA) E [.long p0, .int p2] (cW ad cA sA ta ba na gi rh rt g_sort g_size g_from g_to g_level g_full a_tape a_hAt a_hMany a_tAt a_tMany a_least a_place a_to a_order a_fails a_sKeys a_sRow a_sSlots a_bKeys a_bRow a_bSlots a_easy a_wants a_wantedBy a_ring a_carried a_latest v_taped v_faultKind v_faultPlace v_x v_ordered v_sought v_lastSought v_hMoved v_hWithout v_tMoved v_tWithout v_places v_elsewhere v_sMany v_bMany v_year y_lies a_rsort a_rmany a_nums pl) (fun z => z = (cW ad cA sA ta ba na gi rh rt g_sort g_size g_from g_to g_level g_full a_tape a_hAt a_hMany a_tAt a_tMany a_least a_place a_to a_order a_fails a_sKeys a_sRow a_sSlots a_bKeys a_bRow a_bSlots a_easy a_wants a_wantedBy a_ring a_carried a_latest v_taped v_faultKind v_faultPlace v_x v_ordered v_sought v_lastSought v_hMoved v_hWithout v_tMoved v_tWithout v_places v_elsewhere v_sMany v_bMany v_year y_lies a_rsort a_rmany a_nums pl)) (some (.long res)) := by
  refine MX.ofL (by decide) (Nat.le_of_ble_eq_true rfl) ?_
  intro p e s m args below meth c Q A hX hK hE0 hname hret H locs ls hH hl
  have hX : CallFix p m c cX0_robbed 3 s args lw_all RX0 := hX
  have hx := hX.1
  have hb := hX.2.1
  have hown := hX.2.2.2.1
  have hts := hX.2.2.2.2
  have hl : lv_has ls 3 [(0, .long p0), (2, .int p2)] := hl
  have hEv := hE.1
  have hNW := hE.2.1 _ _ _ hE0
  have hT := hPO.1
  have hB := hPO.2
  delta FX0_robbed at hF
  refine lv_lload_n hx hb dX0_robbed_0 rfl (lv_at hl 0 rfl) ?_
  refine lv_ldc2 (v := 15) hx hb hown (hts _ q977) dX0_robbed_1 ?_
  refine lv_iconst (v := 4) hx hb dX0_robbed_4 kyi_4 ?_
  refine lv_iload_n hx hb dX0_robbed_5 rfl (lv_at hl 1 rfl) ?_
  refine lv_imul hx hb dX0_robbed_6 ?_
  refine lv_lshl hx hb dX0_robbed_7 rfl ?_
  refine lv_lor hx hb dX0_robbed_8 ?_
  refine lv_lconst (v := 1) hx hb dX0_robbed_9 rfl ?_
  refine lv_bipush (v := 32) hx hb dX0_robbed_10 kyb_32 ?_
  refine lv_iload_n hx hb dX0_robbed_12 rfl (lv_at hl 1 rfl) ?_
  refine lv_iadd hx hb dX0_robbed_13 ?_
  refine lv_lshl hx hb dX0_robbed_14 rfl ?_
  refine lv_ldc2 (v := (-1)) hx hb hown (hts _ q1153) dX0_robbed_15 ?_
  refine lv_lxor hx hb dX0_robbed_18 ?_
  refine lv_land hx hb dX0_robbed_19 ?_
  obtain rfl := Option.some.inj hF
  exact hret _ _ _ _ _ rfl hH dX0_robbed_20
abbrev rm_X0_steal : Room := { frames := 4, cells := 0, slots := 0, locals := 89 }
set_option maxHeartbeats 4000000 in
theorem met_X0_steal {l : Launch} {D : va_G} {ad : Nat → Nat} {cA : Nat → ClassId} {sA ta ba na : Nat → Nat} {gi : Nat → Option Nat} {rh : Option Nat} {rt : Option Nat} {g_sort : Int32} {g_size : Int32} {g_from : Int32} {g_to : Int32} {g_level : Int32} {g_full : Int32} {a_tape : Nat → Int32} {a_hAt : Nat → Int32} {a_hMany : Nat → Int32} {a_tAt : Nat → Int32} {a_tMany : Nat → Int32} {a_least : Nat → Int32} {a_place : Nat → Int32} {a_to : Nat → Int32} {a_order : Nat → Int32} {a_fails : Nat → Int32} {a_sKeys : Nat → Int64} {a_sRow : Nat → Int64} {a_sSlots : Nat → Int32} {a_bKeys : Nat → Int64} {a_bRow : Nat → Int64} {a_bSlots : Nat → Int32} {a_easy : Nat → Int32} {a_wants : Nat → Int32} {a_wantedBy : Nat → Int32} {a_ring : Nat → Int32} {a_carried : Nat → Int32} {a_latest : Nat → Int32} {v_taped : Int32} {v_faultKind : Int32} {v_faultPlace : Int32} {v_x : Int32} {v_ordered : Int32} {v_sought : Int32} {v_lastSought : Int32} {v_hMoved : Int32} {v_hWithout : Int32} {v_tMoved : Int32} {v_tWithout : Int32} {v_places : Int32} {v_elsewhere : Int32} {v_sMany : Int32} {v_bMany : Int32} {v_year : Int32} {y_lies : Int64} {a_rsort : Nat → Int32} {a_rmany : Nat → Int32} {a_nums : Nat → Nat → Int64} {t : Nat → Int32} {nb : Int32} {bv : Nat → Int32 → Int32 → Int32 → Int32 → Int32 → Int32 → Bool} {pl : va_W}  {p1 : Int32} {res : Int32} {ra_hAt : Nat → Int32} {ra_hMany : Nat → Int32} {rv_hMoved : Int32} {ry_lies : Int64} {E : EvT} (hE : EvN E) (hPO : PO cA pl ta ba t nb bv) (hF : FX0_steal a_hAt a_hMany v_hMoved y_lies t p1 = some (res, ra_hAt, ra_hMany, rv_hMoved, ry_lies)) : MX l yX0_steal (ws_ yX0_steal cX0_steal 3 (Option.some Jvm.ClassFile.FieldType.int)) rm_X0_steal D vwA (cT cA) E [.ref (ad 0), .int p1] (cW ad cA sA ta ba na gi rh rt g_sort g_size g_from g_to g_level g_full a_tape a_hAt a_hMany a_tAt a_tMany a_least a_place a_to a_order a_fails a_sKeys a_sRow a_sSlots a_bKeys a_bRow a_bSlots a_easy a_wants a_wantedBy a_ring a_carried a_latest v_taped v_faultKind v_faultPlace v_x v_ordered v_sought v_lastSought v_hMoved v_hWithout v_tMoved v_tWithout v_places v_elsewhere v_sMany v_bMany v_year y_lies a_rsort a_rmany a_nums pl) (fun z => ∃ rh' : Option Nat, z = (cW ad cA sA ta ba na gi rh' rt g_sort g_size g_from g_to g_level g_full a_tape ra_hAt ra_hMany a_tAt a_tMany a_least a_place a_to a_order a_fails a_sKeys a_sRow a_sSlots a_bKeys a_bRow a_bSlots a_easy a_wants a_wantedBy a_ring a_carried a_latest v_taped v_faultKind v_faultPlace v_x v_ordered v_sought v_lastSought rv_hMoved v_hWithout v_tMoved v_tWithout v_places v_elsewhere v_sMany v_bMany v_year ry_lies a_rsort a_rmany a_nums pl)) (some (.int res)) := by
  refine MX.ofI (by decide) (Nat.le_of_ble_eq_true rfl) ?_
  intro p e s m args below meth c Q A hX hK hE0 hname hret H locs ls hH hl
  have hX : CallFix p m c cX0_steal 3 s args lw_all RX0 := hX
  have hx := hX.1
  have hb := hX.2.1
  have hown := hX.2.2.2.1
  have hts := hX.2.2.2.2
  have hl : lv_has ls 3 [(0, .ref (ad 0)), (1, .int p1)] := hl
  have hEv := hE.1
  have hNW := hE.2.1 _ _ _ hE0
  have hT := hPO.1
  have hB := hPO.2
  delta FX0_steal at hF
  refine lv_aload_n hx hb dX0_steal_0 rfl (lv_at hl 0 rfl) ?_
  refine lv_iload_n hx hb dX0_steal_1 rfl (lv_at hl 1 rfl) ?_
  obtain ⟨b_55, he, hF⟩ := bd1e hF
  refine mxV hX hK hEv hE0 hH (met_X0_isThere hE hPO he) (crecv hK hH 0 0 rfl rfl) gw_StoneYear_184 hd_yX0_isThere ⟨Nat.le_of_ble_eq_true rfl, Nat.le_of_ble_eq_true rfl⟩ rfl rfl hl (Nat.le_of_ble_eq_true rfl) dX0_steal_2 ⟨Nat.le_of_ble_eq_true rfl, Nat.le_of_ble_eq_true rfl⟩ (fun w2 H locs hw hH => ?_)
  subst hw
  refine lv_if_ne (tgt := 11) hx hb dX0_steal_5 rfl (fun c_56 => ?_) (fun c_56 => ?_)
  · have hF := itn c_56 hF
    refine lv_aload_n hx hb dX0_steal_11 rfl (lv_at hl 0 rfl) ?_
    refine lv_iload_n hx hb dX0_steal_12 rfl (lv_at hl 1 rfl) ?_
    obtain ⟨b_57, a_hAt_58, a_hMany_59, v_hMoved_60, he, hF⟩ := bd4e hF
    refine mxV hX hK hEv hE0 hH (met_X0_isTop hE hPO he) (crecv hK hH 0 0 rfl rfl) gw_StoneYear_279 hd_yX0_isTop ⟨Nat.le_of_ble_eq_true rfl, Nat.le_of_ble_eq_true rfl⟩ rfl rfl hl (Nat.le_of_ble_eq_true rfl) dX0_steal_13 ⟨Nat.le_of_ble_eq_true rfl, Nat.le_of_ble_eq_true rfl⟩ (fun w2 H locs hw hH => ?_)
    subst hw
    refine lv_if_ne (tgt := 22) hx hb dX0_steal_16 rfl (fun c_61 => ?_) (fun c_61 => ?_)
    · have hF := itn c_61 hF
      refine lv_aload_n hx hb dX0_steal_22 rfl (lv_at hl 0 rfl) ?_
      refine cg_Y_this_s hX hK hNW hH dX0_steal_23 ?_
      refine cg_Y_state_lies hX hK hNW hH dX0_steal_26 ?_
      refine lv_iload_n hx hb dX0_steal_29 rfl (lv_at hl 1 rfl) ?_
      obtain ⟨x_62, he, hF⟩ := bd1e hF
      refine mxS hX hK hEv hE0 hH (met_X0_placeIn hE hPO he) gw_StoneYear_162 hd_yX0_placeIn ⟨Nat.le_of_ble_eq_true rfl, Nat.le_of_ble_eq_true rfl⟩ rfl rfl hl (Nat.le_of_ble_eq_true rfl) dX0_steal_30 ⟨Nat.le_of_ble_eq_true rfl, Nat.le_of_ble_eq_true rfl⟩ (fun w2 H locs hw hH => ?_)
      subst hw
      refine lv_istore_n (lv' := [(2, .int x_62), (0, .ref (ad 0)), (1, .int p1)]) hx hb dX0_steal_33 rfl hl (by decide) rfl (fun ls hl => ?_)
      refine lv_aload_n hx hb dX0_steal_34 rfl (lv_at hl 1 rfl) ?_
      refine cg_Y_this_s hX hK hNW hH dX0_steal_35 ?_
      refine lv_aload_n hx hb dX0_steal_38 rfl (lv_at hl 1 rfl) ?_
      refine cg_Y_this_s hX hK hNW hH dX0_steal_39 ?_
      refine cg_Y_state_lies hX hK hNW hH dX0_steal_42 ?_
      refine lv_iload_n hx hb dX0_steal_45 rfl (lv_at hl 2 rfl) ?_
      obtain ⟨y_63, he, hF⟩ := bd1e hF
      refine mxS hX hK hEv hE0 hH (met_X0_robbed hE hPO he) gw_StoneYear_282 hd_yX0_robbed ⟨Nat.le_of_ble_eq_true rfl, Nat.le_of_ble_eq_true rfl⟩ rfl rfl hl (Nat.le_of_ble_eq_true rfl) dX0_steal_46 ⟨Nat.le_of_ble_eq_true rfl, Nat.le_of_ble_eq_true rfl⟩ (fun w2 H locs hw hH => ?_)
      subst hw
      refine cp_Y_state_lies hX hK hNW hH dX0_steal_49 (fun H locs hH => ?_)
      refine lv_iload_n hx hb dX0_steal_52 rfl (lv_at hl 0 rfl) ?_
      obtain ⟨rfl, rfl, rfl, rfl, rfl⟩ := re5 hF
      exact hret _ _ _ _ _ ⟨_, rfl⟩ hH dX0_steal_53
    · have hF := itp c_61 hF
      refine lv_bipush (v := (-5)) hx hb dX0_steal_19 kyb_m5 ?_
      obtain ⟨rfl, rfl, rfl, rfl, rfl⟩ := re5 hF
      exact hret _ _ _ _ _ ⟨_, rfl⟩ hH dX0_steal_21
  · have hF := itp c_56 hF
    refine lv_bipush (v := (-2)) hx hb dX0_steal_8 kyb_m2 ?_
    obtain ⟨rfl, rfl, rfl, rfl, rfl⟩ := re5 hF
    exact hret _ _ _ _ _ ⟨_, rfl⟩ hH dX0_steal_10
abbrev rm_X0_isWho : Room := { frames := 1, cells := 0, slots := 0, locals := 25 }
set_option maxHeartbeats 4000000 in
theorem met_X0_isWho {l : Launch} {D : va_G} {ad : Nat → Nat} {cA : Nat → ClassId} {sA ta ba na : Nat → Nat} {gi : Nat → Option Nat} {rh : Option Nat} {rt : Option Nat} {g_sort : Int32} {g_size : Int32} {g_from : Int32} {g_to : Int32} {g_level : Int32} {g_full : Int32} {a_tape : Nat → Int32} {a_hAt : Nat → Int32} {a_hMany : Nat → Int32} {a_tAt : Nat → Int32} {a_tMany : Nat → Int32} {a_least : Nat → Int32} {a_place : Nat → Int32} {a_to : Nat → Int32} {a_order : Nat → Int32} {a_fails : Nat → Int32} {a_sKeys : Nat → Int64} {a_sRow : Nat → Int64} {a_sSlots : Nat → Int32} {a_bKeys : Nat → Int64} {a_bRow : Nat → Int64} {a_bSlots : Nat → Int32} {a_easy : Nat → Int32} {a_wants : Nat → Int32} {a_wantedBy : Nat → Int32} {a_ring : Nat → Int32} {a_carried : Nat → Int32} {a_latest : Nat → Int32} {v_taped : Int32} {v_faultKind : Int32} {v_faultPlace : Int32} {v_x : Int32} {v_ordered : Int32} {v_sought : Int32} {v_lastSought : Int32} {v_hMoved : Int32} {v_hWithout : Int32} {v_tMoved : Int32} {v_tWithout : Int32} {v_places : Int32} {v_elsewhere : Int32} {v_sMany : Int32} {v_bMany : Int32} {v_year : Int32} {y_lies : Int64} {a_rsort : Nat → Int32} {a_rmany : Nat → Int32} {a_nums : Nat → Nat → Int64} {t : Nat → Int32} {nb : Int32} {bv : Nat → Int32 → Int32 → Int32 → Int32 → Int32 → Int32 → Bool} {pl : va_W}  {p0 : Int32} {res : Bool} {E : EvT} (hE : EvN E) (hPO : PO cA pl ta ba t nb bv) (hF : FX0_isWho p0 = some res) : MX l yX0_isWho (ws_ yX0_isWho cX0_isWho 1 (Option.some Jvm.ClassFile.FieldType.boolean)) rm_X0_isWho D vwA (cT cA) E [.int p0] (cW ad cA sA ta ba na gi rh rt g_sort g_size g_from g_to g_level g_full a_tape a_hAt a_hMany a_tAt a_tMany a_least a_place a_to a_order a_fails a_sKeys a_sRow a_sSlots a_bKeys a_bRow a_bSlots a_easy a_wants a_wantedBy a_ring a_carried a_latest v_taped v_faultKind v_faultPlace v_x v_ordered v_sought v_lastSought v_hMoved v_hWithout v_tMoved v_tWithout v_places v_elsewhere v_sMany v_bMany v_year y_lies a_rsort a_rmany a_nums pl) (fun z => z = (cW ad cA sA ta ba na gi rh rt g_sort g_size g_from g_to g_level g_full a_tape a_hAt a_hMany a_tAt a_tMany a_least a_place a_to a_order a_fails a_sKeys a_sRow a_sSlots a_bKeys a_bRow a_bSlots a_easy a_wants a_wantedBy a_ring a_carried a_latest v_taped v_faultKind v_faultPlace v_x v_ordered v_sought v_lastSought v_hMoved v_hWithout v_tMoved v_tWithout v_places v_elsewhere v_sMany v_bMany v_year y_lies a_rsort a_rmany a_nums pl)) (some (.int (b2i res))) := by
  refine MX.ofZ (by decide) (Nat.le_of_ble_eq_true rfl) ?_
  intro p e s m args below meth c Q A hX hK hE0 hname hret H locs ls hH hl
  have hX : CallFix p m c cX0_isWho 1 s args lw_all RX0 := hX
  have hx := hX.1
  have hb := hX.2.1
  have hown := hX.2.2.2.1
  have hts := hX.2.2.2.2
  have hl : lv_has ls 1 [(0, .int p0)] := hl
  have hEv := hE.1
  have hNW := hE.2.1 _ _ _ hE0
  have hT := hPO.1
  have hB := hPO.2
  delta FX0_isWho at hF
  refine lv_iload_n hx hb dX0_isWho_0 rfl (lv_at hl 0 rfl) ?_
  refine lv_i2l (v := (Int32.toInt64 p0)) hx hb dX0_isWho_1 rfl ?_
  refine lv_ldc2 (v := (-1)) hx hb hown (hts _ q1153) dX0_isWho_2 ?_
  refine lv_lconst (v := 1) hx hb dX0_isWho_5 rfl ?_
  obtain ⟨b_55, he, hF⟩ := bd1e hF
  refine mxS hX hK hEv hE0 hH (met_X0_in hE hPO he) gw_StoneYear_106 hd_yX0_in ⟨Nat.le_of_ble_eq_true rfl, Nat.le_of_ble_eq_true rfl⟩ rfl rfl hl (Nat.le_of_ble_eq_true rfl) dX0_isWho_6 ⟨Nat.le_of_ble_eq_true rfl, Nat.le_of_ble_eq_true rfl⟩ (fun w2 H locs hw hH => ?_)
  subst hw
  obtain rfl := Option.some.inj hF
  exact hret _ _ _ _ _ rfl hH dX0_isWho_9
abbrev rm_X10_isAsked : Room := { frames := 0, cells := 0, slots := 0, locals := 0 }
set_option maxHeartbeats 4000000 in
theorem met_X10_isAsked {l : Launch} {D : va_G} {ad : Nat → Nat} {cA : Nat → ClassId} {sA ta ba na : Nat → Nat} {gi : Nat → Option Nat} {rh : Option Nat} {rt : Option Nat} {g_sort : Int32} {g_size : Int32} {g_from : Int32} {g_to : Int32} {g_level : Int32} {g_full : Int32} {a_tape : Nat → Int32} {a_hAt : Nat → Int32} {a_hMany : Nat → Int32} {a_tAt : Nat → Int32} {a_tMany : Nat → Int32} {a_least : Nat → Int32} {a_place : Nat → Int32} {a_to : Nat → Int32} {a_order : Nat → Int32} {a_fails : Nat → Int32} {a_sKeys : Nat → Int64} {a_sRow : Nat → Int64} {a_sSlots : Nat → Int32} {a_bKeys : Nat → Int64} {a_bRow : Nat → Int64} {a_bSlots : Nat → Int32} {a_easy : Nat → Int32} {a_wants : Nat → Int32} {a_wantedBy : Nat → Int32} {a_ring : Nat → Int32} {a_carried : Nat → Int32} {a_latest : Nat → Int32} {v_taped : Int32} {v_faultKind : Int32} {v_faultPlace : Int32} {v_x : Int32} {v_ordered : Int32} {v_sought : Int32} {v_lastSought : Int32} {v_hMoved : Int32} {v_hWithout : Int32} {v_tMoved : Int32} {v_tWithout : Int32} {v_places : Int32} {v_elsewhere : Int32} {v_sMany : Int32} {v_bMany : Int32} {v_year : Int32} {y_lies : Int64} {a_rsort : Nat → Int32} {a_rmany : Nat → Int32} {a_nums : Nat → Nat → Int64} {t : Nat → Int32} {nb : Int32} {bv : Nat → Int32 → Int32 → Int32 → Int32 → Int32 → Int32 → Bool} {pl : va_W} {tb : Nat → Nat} {u : Nat → Int32}  {i0 : Int32} {p1 : Int32} {res : Bool} {E : EvT} (hE : EvN E) (hPO : PO cA pl ta ba t nb bv) (hU : TownAt cA pl tb u) (hg0 : alg (u 0) i0 = some ()) (hF : FX10_isAsked u i0 p1 = some res) : MX l yX10_isAsked (ws_ yX10_isAsked cX10_isAsked 2 (Option.some Jvm.ClassFile.FieldType.boolean)) rm_X10_isAsked D vwA (cT cA) E [.ref (tb (10 + i0.toNatClampNeg)), .int p1] (cW ad cA sA ta ba na gi rh rt g_sort g_size g_from g_to g_level g_full a_tape a_hAt a_hMany a_tAt a_tMany a_least a_place a_to a_order a_fails a_sKeys a_sRow a_sSlots a_bKeys a_bRow a_bSlots a_easy a_wants a_wantedBy a_ring a_carried a_latest v_taped v_faultKind v_faultPlace v_x v_ordered v_sought v_lastSought v_hMoved v_hWithout v_tMoved v_tWithout v_places v_elsewhere v_sMany v_bMany v_year y_lies a_rsort a_rmany a_nums pl) (fun z => z = (cW ad cA sA ta ba na gi rh rt g_sort g_size g_from g_to g_level g_full a_tape a_hAt a_hMany a_tAt a_tMany a_least a_place a_to a_order a_fails a_sKeys a_sRow a_sSlots a_bKeys a_bRow a_bSlots a_easy a_wants a_wantedBy a_ring a_carried a_latest v_taped v_faultKind v_faultPlace v_x v_ordered v_sought v_lastSought v_hMoved v_hWithout v_tMoved v_tWithout v_places v_elsewhere v_sMany v_bMany v_year y_lies a_rsort a_rmany a_nums pl)) (some (.int (b2i res))) := by
  refine MX.ofZ (by decide) (Nat.le_of_ble_eq_true rfl) ?_
  intro p e s m args below meth c Q A hX hK hE0 hname hret H locs ls hH hl
  have hX : CallFix p m c cX10_isAsked 2 s args lw_all RX10 := hX
  have hx := hX.1
  have hb := hX.2.1
  have hown := hX.2.2.2.1
  have hts := hX.2.2.2.2
  have hl : lv_has ls 2 [(0, .ref (tb (10 + i0.toNatClampNeg))), (1, .int p1)] := hl
  have hEv := hE.1
  have hNW := hE.2.1 _ _ _ hE0
  have hT := hPO.1
  have hB := hPO.2
  delta FX10_isAsked at hF
  refine lv_aload_n hx hb dX10_isAsked_0 rfl (lv_at hl 0 rfl) ?_
  refine cg_Y_Row_row_wished hU (alg_lt hg0) (fun _ h => cW_pl h) hX hK hNW hH dX10_isAsked_1 ?_
  refine lv_iconst (v := (-1)) hx hb dX10_isAsked_4 kyi_m1 ?_
  refine lv_icmp_eq (tgt := 25) hx hb dX10_isAsked_5 rfl (fun c_57 => ?_) (fun c_57 => ?_)
  · have hF := itp c_57 hF
    refine lv_iconst (v := 0) hx hb dX10_isAsked_25 kyi_0 ?_
    obtain rfl := Option.some.inj hF
    exact hret _ _ _ _ _ rfl hH dX10_isAsked_26
  · have hF := itn c_57 hF
    refine lv_iload_n hx hb dX10_isAsked_8 rfl (lv_at hl 1 rfl) ?_
    refine lv_iconst (v := (-1)) hx hb dX10_isAsked_9 kyi_m1 ?_
    have j21 : FX10_isAsked_j21 = some res → ∀ (H : Heap) (locs : List Loc) (ls : Array Slot), MH D vwA A s.heap (cW ad cA sA ta ba na gi rh rt g_sort g_size g_from g_to g_level g_full a_tape a_hAt a_hMany a_tAt a_tMany a_least a_place a_to a_order a_fails a_sKeys a_sRow a_sSlots a_bKeys a_bRow a_bSlots a_easy a_wants a_wantedBy a_ring a_carried a_latest v_taped v_faultKind v_faultPlace v_x v_ordered v_sought v_lastSought v_hMoved v_hWithout v_tMoved v_tWithout v_places v_elsewhere v_sMany v_bMany v_year y_lies a_rsort a_rmany a_nums pl) H locs → lv_has ls 2 [] → W p l e rm_X10_isAsked s m args below meth c H locs 0 0 Q (F0 m 21 ls []) := by
      intro hF H locs ls hH hl
      delta FX10_isAsked_j21 at hF
      refine lv_iconst (v := 1) hx hb dX10_isAsked_21 kyi_1 ?_
      refine lv_goto (tgt := 26) hx hb dX10_isAsked_22 rfl ?_
      obtain rfl := Option.some.inj hF
      exact hret _ _ _ _ _ rfl hH dX10_isAsked_26
    refine lv_icmp_eq (tgt := 21) hx hb dX10_isAsked_10 rfl (fun c_58 => ?_) (fun c_58 => ?_)
    · have hF := itp c_58 hF
      exact j21 hF _ _ _ hH (lv_sub hl [] rfl)
    · have hF := itn c_58 hF
      refine lv_aload_n hx hb dX10_isAsked_13 rfl (lv_at hl 0 rfl) ?_
      refine cg_Y_Row_row_whose hU (alg_lt hg0) (fun _ h => cW_pl h) hX hK hNW hH dX10_isAsked_14 ?_
      refine lv_iload_n hx hb dX10_isAsked_17 rfl (lv_at hl 1 rfl) ?_
      refine lv_icmp_ne (tgt := 25) hx hb dX10_isAsked_18 rfl (fun c_59 => ?_) (fun c_59 => ?_)
      · have hF := itn c_59 hF
        refine lv_iconst (v := 0) hx hb dX10_isAsked_25 kyi_0 ?_
        obtain rfl := Option.some.inj hF
        exact hret _ _ _ _ _ rfl hH dX10_isAsked_26
      · have hF := itp c_59 hF
        exact j21 hF _ _ _ hH (lv_sub hl [] rfl)
abbrev rm_X4_isDone_h : Room := { frames := 4, cells := 0, slots := 0, locals := 141 }
set_option maxHeartbeats 4000000 in
theorem met_X4_isDone_h {l : Launch} {D : va_G} {ad : Nat → Nat} {cA : Nat → ClassId} {sA ta ba na : Nat → Nat} {gi : Nat → Option Nat} {rt : Option Nat} {g_sort : Int32} {g_size : Int32} {g_from : Int32} {g_to : Int32} {g_level : Int32} {g_full : Int32} {a_tape : Nat → Int32} {a_hAt : Nat → Int32} {a_hMany : Nat → Int32} {a_tAt : Nat → Int32} {a_tMany : Nat → Int32} {a_least : Nat → Int32} {a_place : Nat → Int32} {a_to : Nat → Int32} {a_order : Nat → Int32} {a_fails : Nat → Int32} {a_sKeys : Nat → Int64} {a_sRow : Nat → Int64} {a_sSlots : Nat → Int32} {a_bKeys : Nat → Int64} {a_bRow : Nat → Int64} {a_bSlots : Nat → Int32} {a_easy : Nat → Int32} {a_wants : Nat → Int32} {a_wantedBy : Nat → Int32} {a_ring : Nat → Int32} {a_carried : Nat → Int32} {a_latest : Nat → Int32} {v_taped : Int32} {v_faultKind : Int32} {v_faultPlace : Int32} {v_x : Int32} {v_ordered : Int32} {v_sought : Int32} {v_lastSought : Int32} {v_hMoved : Int32} {v_hWithout : Int32} {v_tMoved : Int32} {v_tWithout : Int32} {v_places : Int32} {v_elsewhere : Int32} {v_sMany : Int32} {v_bMany : Int32} {v_year : Int32} {y_lies : Int64} {a_rsort : Nat → Int32} {a_rmany : Nat → Int32} {a_nums : Nat → Nat → Int64} {t : Nat → Int32} {nb : Int32} {bv : Nat → Int32 → Int32 → Int32 → Int32 → Int32 → Int32 → Bool} {pl : va_W} {tb : Nat → Nat} {u : Nat → Int32}  {p1 : Int32} {res : Bool} {E : EvT} (hE : EvN E) (hPO : PO cA pl ta ba t nb bv) (hU : TownAt cA pl tb u) (hF : FX4_isDone u a_hAt a_hMany p1 = some res) : MX l yX4_isDone (ws_ yX4_isDone cX4_isDone 5 (Option.some Jvm.ClassFile.FieldType.boolean)) rm_X4_isDone_h D vwA (cT cA) E [.ref (ad 4), .int p1] (cW ad cA sA ta ba na gi (some (tb 0)) rt g_sort g_size g_from g_to g_level g_full a_tape a_hAt a_hMany a_tAt a_tMany a_least a_place a_to a_order a_fails a_sKeys a_sRow a_sSlots a_bKeys a_bRow a_bSlots a_easy a_wants a_wantedBy a_ring a_carried a_latest v_taped v_faultKind v_faultPlace v_x v_ordered v_sought v_lastSought v_hMoved v_hWithout v_tMoved v_tWithout v_places v_elsewhere v_sMany v_bMany v_year y_lies a_rsort a_rmany a_nums pl) (fun z => z = (cW ad cA sA ta ba na gi (some (tb 0)) rt g_sort g_size g_from g_to g_level g_full a_tape a_hAt a_hMany a_tAt a_tMany a_least a_place a_to a_order a_fails a_sKeys a_sRow a_sSlots a_bKeys a_bRow a_bSlots a_easy a_wants a_wantedBy a_ring a_carried a_latest v_taped v_faultKind v_faultPlace v_x v_ordered v_sought v_lastSought v_hMoved v_hWithout v_tMoved v_tWithout v_places v_elsewhere v_sMany v_bMany v_year y_lies a_rsort a_rmany a_nums pl)) (some (.int (b2i res))) := by
  refine MX.ofZ (by decide) (Nat.le_of_ble_eq_true rfl) ?_
  intro p e s m args below meth c Q A hX hK hE0 hname hret H locs ls hH hl
  have hX : CallFix p m c cX4_isDone 5 s args lw_all RX4 := hX
  have hx := hX.1
  have hb := hX.2.1
  have hown := hX.2.2.2.1
  have hts := hX.2.2.2.2
  have hl : lv_has ls 5 [(0, .ref (ad 4)), (1, .int p1)] := hl
  have hEv := hE.1
  have hNW := hE.2.1 _ _ _ hE0
  have hT := hPO.1
  have hB := hPO.2
  delta FX4_isDone at hF
  refine lv_iconst (v := 0) hx hb dX4_isDone_0 kyi_0 ?_
  refine lv_istore_n (lv' := [(2, .int 0), (0, .ref (ad 4)), (1, .int p1)]) hx hb dX4_isDone_1 rfl hl (by decide) rfl (fun ls hl => ?_)
  obtain ⟨xx2, ee2, kk2_0, kk2_1, kk2_2⟩ := bdS3e hF
  have k2_0 : xx2 = (.inl ()) → ∀ (H : Heap) (locs : List Loc) (ls : Array Slot), MH D vwA A s.heap (cW ad cA sA ta ba na gi (some (tb 0)) rt g_sort g_size g_from g_to g_level g_full a_tape a_hAt a_hMany a_tAt a_tMany a_least a_place a_to a_order a_fails a_sKeys a_sRow a_sSlots a_bKeys a_bRow a_bSlots a_easy a_wants a_wantedBy a_ring a_carried a_latest v_taped v_faultKind v_faultPlace v_x v_ordered v_sought v_lastSought v_hMoved v_hWithout v_tMoved v_tWithout v_places v_elsewhere v_sMany v_bMany v_year y_lies a_rsort a_rmany a_nums pl) H locs → lv_has ls 5 [] → W p l e rm_X4_isDone_h s m args below meth c H locs 0 0 Q (F0 m 55 ls []) := by
    intro hxx H locs ls hH hl
    have hF := un0e (kk2_0 () hxx)
    refine lv_iconst (v := 0) hx hb dX4_isDone_55 kyi_0 ?_
    obtain rfl := Option.some.inj hF
    exact hret _ _ _ _ _ rfl hH dX4_isDone_56
  have k2_1 : xx2 = (.inr (.inl ())) → ∀ (H : Heap) (locs : List Loc) (ls : Array Slot), MH D vwA A s.heap (cW ad cA sA ta ba na gi (some (tb 0)) rt g_sort g_size g_from g_to g_level g_full a_tape a_hAt a_hMany a_tAt a_tMany a_least a_place a_to a_order a_fails a_sKeys a_sRow a_sSlots a_bKeys a_bRow a_bSlots a_easy a_wants a_wantedBy a_ring a_carried a_latest v_taped v_faultKind v_faultPlace v_x v_ordered v_sought v_lastSought v_hMoved v_hWithout v_tMoved v_tWithout v_places v_elsewhere v_sMany v_bMany v_year y_lies a_rsort a_rmany a_nums pl) H locs → lv_has ls 5 [] → W p l e rm_X4_isDone_h s m args below meth c H locs 0 0 Q (F0 m 106 ls []) := by
    intro hxx H locs ls hH hl
    have hF := un0e (kk2_1 () hxx)
    refine lv_iconst (v := 0) hx hb dX4_isDone_106 kyi_0 ?_
    obtain rfl := Option.some.inj hF
    exact hret _ _ _ _ _ rfl hH dX4_isDone_107
  have k2_2 : xx2 = (.inr (.inr ())) → ∀ (H : Heap) (locs : List Loc) (ls : Array Slot), MH D vwA A s.heap (cW ad cA sA ta ba na gi (some (tb 0)) rt g_sort g_size g_from g_to g_level g_full a_tape a_hAt a_hMany a_tAt a_tMany a_least a_place a_to a_order a_fails a_sKeys a_sRow a_sSlots a_bKeys a_bRow a_bSlots a_easy a_wants a_wantedBy a_ring a_carried a_latest v_taped v_faultKind v_faultPlace v_x v_ordered v_sought v_lastSought v_hMoved v_hWithout v_tMoved v_tWithout v_places v_elsewhere v_sMany v_bMany v_year y_lies a_rsort a_rmany a_nums pl) H locs → lv_has ls 5 [] → W p l e rm_X4_isDone_h s m args below meth c H locs 0 0 Q (F0 m 120 ls []) := by
    intro hxx H locs ls hH hl
    have hF := un0e (kk2_2 () hxx)
    refine lv_iconst (v := 1) hx hb dX4_isDone_120 kyi_1 ?_
    obtain rfl := Option.some.inj hF
    exact hret _ _ _ _ _ rfl hH dX4_isDone_121
  obtain ⟨nn2, en2⟩ := loopC_some ee2
  have l2 : ∀ (n : Nat) (x_73 : Int32), loopN (fun s => FX4_isDone_b2 a_hAt a_hMany u p1 s) n x_73 = some xx2 → ∀ (H : Heap) (locs : List Loc) (ls : Array Slot), MH D vwA A s.heap (cW ad cA sA ta ba na gi (some (tb 0)) rt g_sort g_size g_from g_to g_level g_full a_tape a_hAt a_hMany a_tAt a_tMany a_least a_place a_to a_order a_fails a_sKeys a_sRow a_sSlots a_bKeys a_bRow a_bSlots a_easy a_wants a_wantedBy a_ring a_carried a_latest v_taped v_faultKind v_faultPlace v_x v_ordered v_sought v_lastSought v_hMoved v_hWithout v_tMoved v_tWithout v_places v_elsewhere v_sMany v_bMany v_year y_lies a_rsort a_rmany a_nums pl) H locs → lv_has ls 5 [(0, .ref (ad 4)), (1, .int p1), (2, .int x_73)] → W p l e rm_X4_isDone_h s m args below meth c H locs 0 0 Q (F0 m 2 ls []) := by
    intro n
    induction n with
    | zero =>
      intro x_73 hN
      exact absurd hN loopN_zero
    | succ n ih =>
      intro x_73 hN H locs ls hH hl
      obtain ⟨yy2, hB2, hY2⟩ := loopN_succ hN
      have hF : FX4_isDone_b2 a_hAt a_hMany u p1 x_73 = some yy2 := hB2
      delta FX4_isDone_b2 at hF
      refine lv_iload_n hx hb dX4_isDone_2 rfl (lv_at hl 2 rfl) ?_
      refine lv_aload_n hx hb dX4_isDone_3 rfl (lv_at hl 0 rfl) ?_
      refine cg_Y_Stacks_stkh_town hX hK hNW hH dX4_isDone_4 ?_
      refine cg_Y_Stacks_town_rows hU (fun _ h => cW_pl h) hX hK hNW hH dX4_isDone_7 ?_
      refine mxV hX hK hEv hE0 hH (met_J2_size hE.1 hU.rows (fun _ h => cW_pl h)) (precv (fun _ h => cW_pl h) hK hH 17 rfl hU.rows.obj) gw_StoneYear_Stacks_39 hd_yJ2_size ⟨Nat.le_of_ble_eq_true rfl, Nat.le_of_ble_eq_true rfl⟩ rfl rfl hl (Nat.le_of_ble_eq_true rfl) dX4_isDone_10 ⟨Nat.le_of_ble_eq_true rfl, Nat.le_of_ble_eq_true rfl⟩ (fun w2 H locs hw hH => ?_)
      subst hw
      refine lv_icmp_ge (tgt := 120) hx hb dX4_isDone_13 rfl (fun c_74 => ?_) (fun c_74 => ?_)
      · have hF := itp c_74 hF
        obtain rfl := Option.some.inj hF
        exact k2_2 hY2 _ _ _ hH (lv_sub hl [] rfl)
      · have hF := itn c_74 hF
        refine lv_aload_n hx hb dX4_isDone_16 rfl (lv_at hl 0 rfl) ?_
        refine cg_Y_Stacks_stkh_town hX hK hNW hH dX4_isDone_17 ?_
        refine cg_Y_Stacks_town_rows hU (fun _ h => cW_pl h) hX hK hNW hH dX4_isDone_20 ?_
        refine lv_iload_n hx hb dX4_isDone_23 rfl (lv_at hl 2 rfl) ?_
        obtain ⟨hg_75, hF⟩ := bd0e hF
        refine mxV hX hK hEv hE0 hH (met_J2_get hE.1 rfl hU.rows hg_75 (fun _ h => cW_pl h)) (precv (fun _ h => cW_pl h) hK hH 17 rfl hU.rows.obj) gw_StoneYear_Stacks_56 hd_yJ2_get ⟨Nat.le_of_ble_eq_true rfl, Nat.le_of_ble_eq_true rfl⟩ rfl rfl hl (Nat.le_of_ble_eq_true rfl) dX4_isDone_24 ⟨Nat.le_of_ble_eq_true rfl, Nat.le_of_ble_eq_true rfl⟩ (fun w2 H locs hw hH => ?_)
        subst hw
        refine va_castE hx hb hown (hts _ q1165) (precv (fun _ h => cW_pl h) hK hH 10 rfl ⟨_, hU.row (alg_lt hg_75)⟩) dX4_isDone_27 ?_
        refine lv_astore_n (lv' := [(3, .ref (tb (10 + x_73.toNatClampNeg))), (0, .ref (ad 4)), (1, .int p1), (2, .int x_73)]) hx hb dX4_isDone_30 rfl hl (by decide) rfl (fun ls hl => ?_)
        refine lv_aload_n hx hb dX4_isDone_31 rfl (lv_at hl 0 rfl) ?_
        refine lv_iload_n hx hb dX4_isDone_32 rfl (lv_at hl 2 rfl) ?_
        obtain ⟨b_76, he, hF⟩ := bd1e hF
        refine mxV hX hK hEv hE0 hH (met_X10_isAsked hE hPO hU hg_75 he) (precv (fun _ h => cW_pl h) hK hH 10 rfl ⟨_, hU.row (alg_lt hg_75)⟩) gw_StoneYear_Stacks_175 hd_yX10_isAsked ⟨Nat.le_of_ble_eq_true rfl, Nat.le_of_ble_eq_true rfl⟩ rfl rfl hl (Nat.le_of_ble_eq_true rfl) dX4_isDone_33 ⟨Nat.le_of_ble_eq_true rfl, Nat.le_of_ble_eq_true rfl⟩ (fun w2 H locs hw hH => ?_)
        subst hw
        have j114 : FX4_isDone_j114 x_73 = some yy2 → ∀ (H : Heap) (locs : List Loc) (ls : Array Slot), MH D vwA A s.heap (cW ad cA sA ta ba na gi (some (tb 0)) rt g_sort g_size g_from g_to g_level g_full a_tape a_hAt a_hMany a_tAt a_tMany a_least a_place a_to a_order a_fails a_sKeys a_sRow a_sSlots a_bKeys a_bRow a_bSlots a_easy a_wants a_wantedBy a_ring a_carried a_latest v_taped v_faultKind v_faultPlace v_x v_ordered v_sought v_lastSought v_hMoved v_hWithout v_tMoved v_tWithout v_places v_elsewhere v_sMany v_bMany v_year y_lies a_rsort a_rmany a_nums pl) H locs → lv_has ls 5 [(0, .ref (ad 4)), (1, .int p1), (2, .int x_73)] → W p l e rm_X4_isDone_h s m args below meth c H locs 0 0 Q (F0 m 114 ls []) := by
          intro hF H locs ls hH hl
          delta FX4_isDone_j114 at hF
          refine lv_iinc (v := (x_73 + 1)) (lv' := [(2, .int (x_73 + 1)), (0, .ref (ad 4)), (1, .int p1)]) hx hb dX4_isDone_114 hl (k := 2) rfl (syc kyi_1) (by decide) rfl (fun ls hl => ?_)
          refine lv_goto (tgt := 2) hx hb dX4_isDone_117 rfl ?_
          obtain rfl := Option.some.inj hF
          exact ih (x_73 + 1) hY2 _ _ _ hH (lv_sub hl [1, 2, 0] rfl)
        refine lv_if_ne (tgt := 42) hx hb dX4_isDone_36 rfl (fun c_77 => ?_) (fun c_77 => ?_)
        · have hF := itn c_77 hF
          refine lv_aload_n hx hb dX4_isDone_42 rfl (lv_at hl 1 rfl) ?_
          refine cg_Y_Stacks_stkh_many hX hK hNW hH dX4_isDone_43 ?_
          refine lv_iload_n hx hb dX4_isDone_46 rfl (lv_at hl 3 rfl) ?_
          obtain ⟨x_78, he, hF⟩ := bd1e hF
          refine cl_hMany hX hK hH he dX4_isDone_47 ?_
          refine lv_aload_n hx hb dX4_isDone_48 rfl (lv_at hl 0 rfl) ?_
          refine cg_Y_Stacks_row_wished hU (alg_lt hg_75) (fun _ h => cW_pl h) hX hK hNW hH dX4_isDone_49 ?_
          refine lv_icmp_eq (tgt := 57) hx hb dX4_isDone_52 rfl (fun c_79 => ?_) (fun c_79 => ?_)
          · have hF := itp c_79 hF
            refine lv_iconst (v := 0) hx hb dX4_isDone_57 kyi_0 ?_
            refine lv_istore (lv' := [(4, .int 0), (3, .ref (tb (10 + x_73.toNatClampNeg))), (0, .ref (ad 4)), (1, .int p1), (2, .int x_73)]) hx hb dX4_isDone_58 hl (by decide) rfl (fun ls hl => ?_)
            obtain ⟨xx60, ee60, kk60_0, kk60_1⟩ := bdS2e hF
            have k60_0 : xx60 = (.inl ()) → ∀ (H : Heap) (locs : List Loc) (ls : Array Slot), MH D vwA A s.heap (cW ad cA sA ta ba na gi (some (tb 0)) rt g_sort g_size g_from g_to g_level g_full a_tape a_hAt a_hMany a_tAt a_tMany a_least a_place a_to a_order a_fails a_sKeys a_sRow a_sSlots a_bKeys a_bRow a_bSlots a_easy a_wants a_wantedBy a_ring a_carried a_latest v_taped v_faultKind v_faultPlace v_x v_ordered v_sought v_lastSought v_hMoved v_hWithout v_tMoved v_tWithout v_places v_elsewhere v_sMany v_bMany v_year y_lies a_rsort a_rmany a_nums pl) H locs → lv_has ls 5 [] → W p l e rm_X4_isDone_h s m args below meth c H locs 0 0 Q (F0 m 106 ls []) := by
              intro hxx H locs ls hH hl
              have hF := un0e (kk60_0 () hxx)
              obtain rfl := Option.some.inj hF
              exact k2_1 hY2 _ _ _ hH (lv_sub hl [] rfl)
            have k60_1 : xx60 = (.inr ()) → ∀ (H : Heap) (locs : List Loc) (ls : Array Slot), MH D vwA A s.heap (cW ad cA sA ta ba na gi (some (tb 0)) rt g_sort g_size g_from g_to g_level g_full a_tape a_hAt a_hMany a_tAt a_tMany a_least a_place a_to a_order a_fails a_sKeys a_sRow a_sSlots a_bKeys a_bRow a_bSlots a_easy a_wants a_wantedBy a_ring a_carried a_latest v_taped v_faultKind v_faultPlace v_x v_ordered v_sought v_lastSought v_hMoved v_hWithout v_tMoved v_tWithout v_places v_elsewhere v_sMany v_bMany v_year y_lies a_rsort a_rmany a_nums pl) H locs → lv_has ls 5 [(0, .ref (ad 4)), (1, .int p1), (2, .int x_73)] → W p l e rm_X4_isDone_h s m args below meth c H locs 0 0 Q (F0 m 114 ls []) := by
              intro hxx H locs ls hH hl
              have hF := un0e (kk60_1 () hxx)
              exact j114 hF _ _ _ hH (lv_sub hl [0, 1, 2] rfl)
            obtain ⟨nn60, en60⟩ := loopC_some ee60
            have l60 : ∀ (n : Nat) (x_85 : Int32), loopN (fun s => FX4_isDone_b60 a_hAt u x_73 s) n x_85 = some xx60 → ∀ (H : Heap) (locs : List Loc) (ls : Array Slot), MH D vwA A s.heap (cW ad cA sA ta ba na gi (some (tb 0)) rt g_sort g_size g_from g_to g_level g_full a_tape a_hAt a_hMany a_tAt a_tMany a_least a_place a_to a_order a_fails a_sKeys a_sRow a_sSlots a_bKeys a_bRow a_bSlots a_easy a_wants a_wantedBy a_ring a_carried a_latest v_taped v_faultKind v_faultPlace v_x v_ordered v_sought v_lastSought v_hMoved v_hWithout v_tMoved v_tWithout v_places v_elsewhere v_sMany v_bMany v_year y_lies a_rsort a_rmany a_nums pl) H locs → lv_has ls 5 [(0, .ref (ad 4)), (1, .int p1), (2, .int x_73), (3, .ref (tb (10 + x_73.toNatClampNeg))), (4, .int x_85)] → W p l e rm_X4_isDone_h s m args below meth c H locs 0 0 Q (F0 m 60 ls []) := by
              intro n
              induction n with
              | zero =>
                intro x_85 hN
                exact absurd hN loopN_zero
              | succ n ih =>
                intro x_85 hN H locs ls hH hl
                obtain ⟨yy60, hB60, hY60⟩ := loopN_succ hN
                have hF : FX4_isDone_b60 a_hAt u x_73 x_85 = some yy60 := hB60
                delta FX4_isDone_b60 at hF
                refine lv_iload hx hb dX4_isDone_60 (lv_at hl 4 rfl) ?_
                refine lv_aload_n hx hb dX4_isDone_62 rfl (lv_at hl 3 rfl) ?_
                refine cg_Y_Stacks_row_wished hU (alg_lt hg_75) (fun _ h => cW_pl h) hX hK hNW hH dX4_isDone_63 ?_
                refine lv_icmp_ge (tgt := 114) hx hb dX4_isDone_66 rfl (fun c_86 => ?_) (fun c_86 => ?_)
                · have hF := itp c_86 hF
                  obtain rfl := Option.some.inj hF
                  exact k60_1 hY60 _ _ _ hH (lv_sub hl [0, 1, 2] rfl)
                · have hF := itn c_86 hF
                  refine lv_aload_n hx hb dX4_isDone_69 rfl (lv_at hl 0 rfl) ?_
                  refine cg_Y_Stacks_stkh_town hX hK hNW hH dX4_isDone_70 ?_
                  refine cg_Y_Stacks_town_stones hU (fun _ h => cW_pl h) hX hK hNW hH dX4_isDone_73 ?_
                  refine lv_aload_n hx hb dX4_isDone_76 rfl (lv_at hl 0 rfl) ?_
                  refine cg_Y_Stacks_stkh_at hX hK hNW hH dX4_isDone_77 ?_
                  refine lv_iconst (v := 3) hx hb dX4_isDone_80 kyi_3 ?_
                  refine lv_iload_n hx hb dX4_isDone_81 rfl (lv_at hl 2 rfl) ?_
                  refine lv_imul hx hb dX4_isDone_82 ?_
                  refine lv_iload hx hb dX4_isDone_83 (lv_at hl 4 rfl) ?_
                  refine lv_iadd hx hb dX4_isDone_85 ?_
                  obtain ⟨x_87, he, hF⟩ := bd1e hF
                  refine cl_hAt hX hK hH he dX4_isDone_86 ?_
                  obtain ⟨hg_88, hF⟩ := bd0e hF
                  refine mxV hX hK hEv hE0 hH (met_J2_get hE.1 rfl hU.stones hg_88 (fun _ h => cW_pl h)) (precv (fun _ h => cW_pl h) hK hH 17 rfl hU.stones.obj) gw_StoneYear_Stacks_56 hd_yJ2_get ⟨Nat.le_of_ble_eq_true rfl, Nat.le_of_ble_eq_true rfl⟩ rfl rfl hl (Nat.le_of_ble_eq_true rfl) dX4_isDone_87 ⟨Nat.le_of_ble_eq_true rfl, Nat.le_of_ble_eq_true rfl⟩ (fun w2 H locs hw hH => ?_)
                  subst hw
                  refine va_castE hx hb hown (hts _ q1057) (precv (fun _ h => cW_pl h) hK hH 11 rfl ⟨_, hU.stone (alg_lt hg_88)⟩) dX4_isDone_90 ?_
                  refine cg_Y_Stacks_stone_sort hU (alg_lt hg_88) (fun _ h => cW_pl h) hX hK hNW hH dX4_isDone_93 ?_
                  refine lv_aload_n hx hb dX4_isDone_96 rfl (lv_at hl 3 rfl) ?_
                  refine cg_Y_Stacks_row_wish hU (alg_lt hg_75) (fun _ h => cW_pl h) hX hK hNW hH dX4_isDone_97 ?_
                  refine lv_iload hx hb dX4_isDone_100 (lv_at hl 4 rfl) ?_
                  obtain ⟨x_89, he, hF⟩ := bd1e hF
                  refine cl_wish hU (alg_lt hg_75) (fun _ h => cW_pl h) rfl hX hK hH he dX4_isDone_102 ?_
                  refine lv_icmp_eq (tgt := 108) hx hb dX4_isDone_103 rfl (fun c_90 => ?_) (fun c_90 => ?_)
                  · have hF := itp c_90 hF
                    refine lv_iinc (v := (x_85 + 1)) (lv' := [(4, .int (x_85 + 1)), (0, .ref (ad 4)), (1, .int p1), (2, .int x_73), (3, .ref (tb (10 + x_73.toNatClampNeg)))]) hx hb dX4_isDone_108 hl (k := 4) rfl (syc kyi_1) (by decide) rfl (fun ls hl => ?_)
                    refine lv_goto (tgt := 60) hx hb dX4_isDone_111 rfl ?_
                    obtain rfl := Option.some.inj hF
                    exact ih (x_85 + 1) hY60 _ _ _ hH (lv_sub hl [1, 2, 3, 4, 0] rfl)
                  · have hF := itn c_90 hF
                    obtain rfl := Option.some.inj hF
                    exact k60_0 hY60 _ _ _ hH (lv_sub hl [] rfl)
            exact l60 nn60 0 en60 _ _ _ hH (lv_sub hl [2, 3, 4, 1, 0] rfl)
          · have hF := itn c_79 hF
            obtain rfl := Option.some.inj hF
            exact k2_0 hY2 _ _ _ hH (lv_sub hl [] rfl)
        · have hF := itp c_77 hF
          refine lv_goto (tgt := 114) hx hb dX4_isDone_39 rfl ?_
          exact j114 hF _ _ _ hH (lv_sub hl [1, 2, 3] rfl)
  exact l2 nn2 0 en2 _ _ _ hH (lv_sub hl [1, 2, 0] rfl)
abbrev rm_X4_isDone_t : Room := { frames := 4, cells := 0, slots := 0, locals := 141 }
set_option maxHeartbeats 4000000 in
theorem met_X4_isDone_t {l : Launch} {D : va_G} {ad : Nat → Nat} {cA : Nat → ClassId} {sA ta ba na : Nat → Nat} {gi : Nat → Option Nat} {rh : Option Nat} {g_sort : Int32} {g_size : Int32} {g_from : Int32} {g_to : Int32} {g_level : Int32} {g_full : Int32} {a_tape : Nat → Int32} {a_hAt : Nat → Int32} {a_hMany : Nat → Int32} {a_tAt : Nat → Int32} {a_tMany : Nat → Int32} {a_least : Nat → Int32} {a_place : Nat → Int32} {a_to : Nat → Int32} {a_order : Nat → Int32} {a_fails : Nat → Int32} {a_sKeys : Nat → Int64} {a_sRow : Nat → Int64} {a_sSlots : Nat → Int32} {a_bKeys : Nat → Int64} {a_bRow : Nat → Int64} {a_bSlots : Nat → Int32} {a_easy : Nat → Int32} {a_wants : Nat → Int32} {a_wantedBy : Nat → Int32} {a_ring : Nat → Int32} {a_carried : Nat → Int32} {a_latest : Nat → Int32} {v_taped : Int32} {v_faultKind : Int32} {v_faultPlace : Int32} {v_x : Int32} {v_ordered : Int32} {v_sought : Int32} {v_lastSought : Int32} {v_hMoved : Int32} {v_hWithout : Int32} {v_tMoved : Int32} {v_tWithout : Int32} {v_places : Int32} {v_elsewhere : Int32} {v_sMany : Int32} {v_bMany : Int32} {v_year : Int32} {y_lies : Int64} {a_rsort : Nat → Int32} {a_rmany : Nat → Int32} {a_nums : Nat → Nat → Int64} {t : Nat → Int32} {nb : Int32} {bv : Nat → Int32 → Int32 → Int32 → Int32 → Int32 → Int32 → Bool} {pl : va_W} {tb : Nat → Nat} {u : Nat → Int32}  {p1 : Int32} {res : Bool} {E : EvT} (hE : EvN E) (hPO : PO cA pl ta ba t nb bv) (hU : TownAt cA pl tb u) (hF : FX4_isDone u a_tAt a_tMany p1 = some res) : MX l yX4_isDone (ws_ yX4_isDone cX4_isDone 5 (Option.some Jvm.ClassFile.FieldType.boolean)) rm_X4_isDone_t D vwA (cT cA) E [.ref (ad 7), .int p1] (cW ad cA sA ta ba na gi rh (some (tb 0)) g_sort g_size g_from g_to g_level g_full a_tape a_hAt a_hMany a_tAt a_tMany a_least a_place a_to a_order a_fails a_sKeys a_sRow a_sSlots a_bKeys a_bRow a_bSlots a_easy a_wants a_wantedBy a_ring a_carried a_latest v_taped v_faultKind v_faultPlace v_x v_ordered v_sought v_lastSought v_hMoved v_hWithout v_tMoved v_tWithout v_places v_elsewhere v_sMany v_bMany v_year y_lies a_rsort a_rmany a_nums pl) (fun z => z = (cW ad cA sA ta ba na gi rh (some (tb 0)) g_sort g_size g_from g_to g_level g_full a_tape a_hAt a_hMany a_tAt a_tMany a_least a_place a_to a_order a_fails a_sKeys a_sRow a_sSlots a_bKeys a_bRow a_bSlots a_easy a_wants a_wantedBy a_ring a_carried a_latest v_taped v_faultKind v_faultPlace v_x v_ordered v_sought v_lastSought v_hMoved v_hWithout v_tMoved v_tWithout v_places v_elsewhere v_sMany v_bMany v_year y_lies a_rsort a_rmany a_nums pl)) (some (.int (b2i res))) := by
  refine MX.ofZ (by decide) (Nat.le_of_ble_eq_true rfl) ?_
  intro p e s m args below meth c Q A hX hK hE0 hname hret H locs ls hH hl
  have hX : CallFix p m c cX4_isDone 5 s args lw_all RX4 := hX
  have hx := hX.1
  have hb := hX.2.1
  have hown := hX.2.2.2.1
  have hts := hX.2.2.2.2
  have hl : lv_has ls 5 [(0, .ref (ad 7)), (1, .int p1)] := hl
  have hEv := hE.1
  have hNW := hE.2.1 _ _ _ hE0
  have hT := hPO.1
  have hB := hPO.2
  delta FX4_isDone at hF
  refine lv_iconst (v := 0) hx hb dX4_isDone_0 kyi_0 ?_
  refine lv_istore_n (lv' := [(2, .int 0), (0, .ref (ad 7)), (1, .int p1)]) hx hb dX4_isDone_1 rfl hl (by decide) rfl (fun ls hl => ?_)
  obtain ⟨xx2, ee2, kk2_0, kk2_1, kk2_2⟩ := bdS3e hF
  have k2_0 : xx2 = (.inl ()) → ∀ (H : Heap) (locs : List Loc) (ls : Array Slot), MH D vwA A s.heap (cW ad cA sA ta ba na gi rh (some (tb 0)) g_sort g_size g_from g_to g_level g_full a_tape a_hAt a_hMany a_tAt a_tMany a_least a_place a_to a_order a_fails a_sKeys a_sRow a_sSlots a_bKeys a_bRow a_bSlots a_easy a_wants a_wantedBy a_ring a_carried a_latest v_taped v_faultKind v_faultPlace v_x v_ordered v_sought v_lastSought v_hMoved v_hWithout v_tMoved v_tWithout v_places v_elsewhere v_sMany v_bMany v_year y_lies a_rsort a_rmany a_nums pl) H locs → lv_has ls 5 [] → W p l e rm_X4_isDone_t s m args below meth c H locs 0 0 Q (F0 m 55 ls []) := by
    intro hxx H locs ls hH hl
    have hF := un0e (kk2_0 () hxx)
    refine lv_iconst (v := 0) hx hb dX4_isDone_55 kyi_0 ?_
    obtain rfl := Option.some.inj hF
    exact hret _ _ _ _ _ rfl hH dX4_isDone_56
  have k2_1 : xx2 = (.inr (.inl ())) → ∀ (H : Heap) (locs : List Loc) (ls : Array Slot), MH D vwA A s.heap (cW ad cA sA ta ba na gi rh (some (tb 0)) g_sort g_size g_from g_to g_level g_full a_tape a_hAt a_hMany a_tAt a_tMany a_least a_place a_to a_order a_fails a_sKeys a_sRow a_sSlots a_bKeys a_bRow a_bSlots a_easy a_wants a_wantedBy a_ring a_carried a_latest v_taped v_faultKind v_faultPlace v_x v_ordered v_sought v_lastSought v_hMoved v_hWithout v_tMoved v_tWithout v_places v_elsewhere v_sMany v_bMany v_year y_lies a_rsort a_rmany a_nums pl) H locs → lv_has ls 5 [] → W p l e rm_X4_isDone_t s m args below meth c H locs 0 0 Q (F0 m 106 ls []) := by
    intro hxx H locs ls hH hl
    have hF := un0e (kk2_1 () hxx)
    refine lv_iconst (v := 0) hx hb dX4_isDone_106 kyi_0 ?_
    obtain rfl := Option.some.inj hF
    exact hret _ _ _ _ _ rfl hH dX4_isDone_107
  have k2_2 : xx2 = (.inr (.inr ())) → ∀ (H : Heap) (locs : List Loc) (ls : Array Slot), MH D vwA A s.heap (cW ad cA sA ta ba na gi rh (some (tb 0)) g_sort g_size g_from g_to g_level g_full a_tape a_hAt a_hMany a_tAt a_tMany a_least a_place a_to a_order a_fails a_sKeys a_sRow a_sSlots a_bKeys a_bRow a_bSlots a_easy a_wants a_wantedBy a_ring a_carried a_latest v_taped v_faultKind v_faultPlace v_x v_ordered v_sought v_lastSought v_hMoved v_hWithout v_tMoved v_tWithout v_places v_elsewhere v_sMany v_bMany v_year y_lies a_rsort a_rmany a_nums pl) H locs → lv_has ls 5 [] → W p l e rm_X4_isDone_t s m args below meth c H locs 0 0 Q (F0 m 120 ls []) := by
    intro hxx H locs ls hH hl
    have hF := un0e (kk2_2 () hxx)
    refine lv_iconst (v := 1) hx hb dX4_isDone_120 kyi_1 ?_
    obtain rfl := Option.some.inj hF
    exact hret _ _ _ _ _ rfl hH dX4_isDone_121
  obtain ⟨nn2, en2⟩ := loopC_some ee2
  have l2 : ∀ (n : Nat) (x_73 : Int32), loopN (fun s => FX4_isDone_b2 a_tAt a_tMany u p1 s) n x_73 = some xx2 → ∀ (H : Heap) (locs : List Loc) (ls : Array Slot), MH D vwA A s.heap (cW ad cA sA ta ba na gi rh (some (tb 0)) g_sort g_size g_from g_to g_level g_full a_tape a_hAt a_hMany a_tAt a_tMany a_least a_place a_to a_order a_fails a_sKeys a_sRow a_sSlots a_bKeys a_bRow a_bSlots a_easy a_wants a_wantedBy a_ring a_carried a_latest v_taped v_faultKind v_faultPlace v_x v_ordered v_sought v_lastSought v_hMoved v_hWithout v_tMoved v_tWithout v_places v_elsewhere v_sMany v_bMany v_year y_lies a_rsort a_rmany a_nums pl) H locs → lv_has ls 5 [(0, .ref (ad 7)), (1, .int p1), (2, .int x_73)] → W p l e rm_X4_isDone_t s m args below meth c H locs 0 0 Q (F0 m 2 ls []) := by
    intro n
    induction n with
    | zero =>
      intro x_73 hN
      exact absurd hN loopN_zero
    | succ n ih =>
      intro x_73 hN H locs ls hH hl
      obtain ⟨yy2, hB2, hY2⟩ := loopN_succ hN
      have hF : FX4_isDone_b2 a_tAt a_tMany u p1 x_73 = some yy2 := hB2
      delta FX4_isDone_b2 at hF
      refine lv_iload_n hx hb dX4_isDone_2 rfl (lv_at hl 2 rfl) ?_
      refine lv_aload_n hx hb dX4_isDone_3 rfl (lv_at hl 0 rfl) ?_
      refine cg_Y_Stacks_stkt_town hX hK hNW hH dX4_isDone_4 ?_
      refine cg_Y_Stacks_town_rows hU (fun _ h => cW_pl h) hX hK hNW hH dX4_isDone_7 ?_
      refine mxV hX hK hEv hE0 hH (met_J2_size hE.1 hU.rows (fun _ h => cW_pl h)) (precv (fun _ h => cW_pl h) hK hH 17 rfl hU.rows.obj) gw_StoneYear_Stacks_39 hd_yJ2_size ⟨Nat.le_of_ble_eq_true rfl, Nat.le_of_ble_eq_true rfl⟩ rfl rfl hl (Nat.le_of_ble_eq_true rfl) dX4_isDone_10 ⟨Nat.le_of_ble_eq_true rfl, Nat.le_of_ble_eq_true rfl⟩ (fun w2 H locs hw hH => ?_)
      subst hw
      refine lv_icmp_ge (tgt := 120) hx hb dX4_isDone_13 rfl (fun c_74 => ?_) (fun c_74 => ?_)
      · have hF := itp c_74 hF
        obtain rfl := Option.some.inj hF
        exact k2_2 hY2 _ _ _ hH (lv_sub hl [] rfl)
      · have hF := itn c_74 hF
        refine lv_aload_n hx hb dX4_isDone_16 rfl (lv_at hl 0 rfl) ?_
        refine cg_Y_Stacks_stkt_town hX hK hNW hH dX4_isDone_17 ?_
        refine cg_Y_Stacks_town_rows hU (fun _ h => cW_pl h) hX hK hNW hH dX4_isDone_20 ?_
        refine lv_iload_n hx hb dX4_isDone_23 rfl (lv_at hl 2 rfl) ?_
        obtain ⟨hg_75, hF⟩ := bd0e hF
        refine mxV hX hK hEv hE0 hH (met_J2_get hE.1 rfl hU.rows hg_75 (fun _ h => cW_pl h)) (precv (fun _ h => cW_pl h) hK hH 17 rfl hU.rows.obj) gw_StoneYear_Stacks_56 hd_yJ2_get ⟨Nat.le_of_ble_eq_true rfl, Nat.le_of_ble_eq_true rfl⟩ rfl rfl hl (Nat.le_of_ble_eq_true rfl) dX4_isDone_24 ⟨Nat.le_of_ble_eq_true rfl, Nat.le_of_ble_eq_true rfl⟩ (fun w2 H locs hw hH => ?_)
        subst hw
        refine va_castE hx hb hown (hts _ q1165) (precv (fun _ h => cW_pl h) hK hH 10 rfl ⟨_, hU.row (alg_lt hg_75)⟩) dX4_isDone_27 ?_
        refine lv_astore_n (lv' := [(3, .ref (tb (10 + x_73.toNatClampNeg))), (0, .ref (ad 7)), (1, .int p1), (2, .int x_73)]) hx hb dX4_isDone_30 rfl hl (by decide) rfl (fun ls hl => ?_)
        refine lv_aload_n hx hb dX4_isDone_31 rfl (lv_at hl 0 rfl) ?_
        refine lv_iload_n hx hb dX4_isDone_32 rfl (lv_at hl 2 rfl) ?_
        obtain ⟨b_76, he, hF⟩ := bd1e hF
        refine mxV hX hK hEv hE0 hH (met_X10_isAsked hE hPO hU hg_75 he) (precv (fun _ h => cW_pl h) hK hH 10 rfl ⟨_, hU.row (alg_lt hg_75)⟩) gw_StoneYear_Stacks_175 hd_yX10_isAsked ⟨Nat.le_of_ble_eq_true rfl, Nat.le_of_ble_eq_true rfl⟩ rfl rfl hl (Nat.le_of_ble_eq_true rfl) dX4_isDone_33 ⟨Nat.le_of_ble_eq_true rfl, Nat.le_of_ble_eq_true rfl⟩ (fun w2 H locs hw hH => ?_)
        subst hw
        have j114 : FX4_isDone_j114 x_73 = some yy2 → ∀ (H : Heap) (locs : List Loc) (ls : Array Slot), MH D vwA A s.heap (cW ad cA sA ta ba na gi rh (some (tb 0)) g_sort g_size g_from g_to g_level g_full a_tape a_hAt a_hMany a_tAt a_tMany a_least a_place a_to a_order a_fails a_sKeys a_sRow a_sSlots a_bKeys a_bRow a_bSlots a_easy a_wants a_wantedBy a_ring a_carried a_latest v_taped v_faultKind v_faultPlace v_x v_ordered v_sought v_lastSought v_hMoved v_hWithout v_tMoved v_tWithout v_places v_elsewhere v_sMany v_bMany v_year y_lies a_rsort a_rmany a_nums pl) H locs → lv_has ls 5 [(0, .ref (ad 7)), (1, .int p1), (2, .int x_73)] → W p l e rm_X4_isDone_t s m args below meth c H locs 0 0 Q (F0 m 114 ls []) := by
          intro hF H locs ls hH hl
          delta FX4_isDone_j114 at hF
          refine lv_iinc (v := (x_73 + 1)) (lv' := [(2, .int (x_73 + 1)), (0, .ref (ad 7)), (1, .int p1)]) hx hb dX4_isDone_114 hl (k := 2) rfl (syc kyi_1) (by decide) rfl (fun ls hl => ?_)
          refine lv_goto (tgt := 2) hx hb dX4_isDone_117 rfl ?_
          obtain rfl := Option.some.inj hF
          exact ih (x_73 + 1) hY2 _ _ _ hH (lv_sub hl [1, 2, 0] rfl)
        refine lv_if_ne (tgt := 42) hx hb dX4_isDone_36 rfl (fun c_77 => ?_) (fun c_77 => ?_)
        · have hF := itn c_77 hF
          refine lv_aload_n hx hb dX4_isDone_42 rfl (lv_at hl 1 rfl) ?_
          refine cg_Y_Stacks_stkt_many hX hK hNW hH dX4_isDone_43 ?_
          refine lv_iload_n hx hb dX4_isDone_46 rfl (lv_at hl 3 rfl) ?_
          obtain ⟨x_78, he, hF⟩ := bd1e hF
          refine cl_tMany hX hK hH he dX4_isDone_47 ?_
          refine lv_aload_n hx hb dX4_isDone_48 rfl (lv_at hl 0 rfl) ?_
          refine cg_Y_Stacks_row_wished hU (alg_lt hg_75) (fun _ h => cW_pl h) hX hK hNW hH dX4_isDone_49 ?_
          refine lv_icmp_eq (tgt := 57) hx hb dX4_isDone_52 rfl (fun c_79 => ?_) (fun c_79 => ?_)
          · have hF := itp c_79 hF
            refine lv_iconst (v := 0) hx hb dX4_isDone_57 kyi_0 ?_
            refine lv_istore (lv' := [(4, .int 0), (3, .ref (tb (10 + x_73.toNatClampNeg))), (0, .ref (ad 7)), (1, .int p1), (2, .int x_73)]) hx hb dX4_isDone_58 hl (by decide) rfl (fun ls hl => ?_)
            obtain ⟨xx60, ee60, kk60_0, kk60_1⟩ := bdS2e hF
            have k60_0 : xx60 = (.inl ()) → ∀ (H : Heap) (locs : List Loc) (ls : Array Slot), MH D vwA A s.heap (cW ad cA sA ta ba na gi rh (some (tb 0)) g_sort g_size g_from g_to g_level g_full a_tape a_hAt a_hMany a_tAt a_tMany a_least a_place a_to a_order a_fails a_sKeys a_sRow a_sSlots a_bKeys a_bRow a_bSlots a_easy a_wants a_wantedBy a_ring a_carried a_latest v_taped v_faultKind v_faultPlace v_x v_ordered v_sought v_lastSought v_hMoved v_hWithout v_tMoved v_tWithout v_places v_elsewhere v_sMany v_bMany v_year y_lies a_rsort a_rmany a_nums pl) H locs → lv_has ls 5 [] → W p l e rm_X4_isDone_t s m args below meth c H locs 0 0 Q (F0 m 106 ls []) := by
              intro hxx H locs ls hH hl
              have hF := un0e (kk60_0 () hxx)
              obtain rfl := Option.some.inj hF
              exact k2_1 hY2 _ _ _ hH (lv_sub hl [] rfl)
            have k60_1 : xx60 = (.inr ()) → ∀ (H : Heap) (locs : List Loc) (ls : Array Slot), MH D vwA A s.heap (cW ad cA sA ta ba na gi rh (some (tb 0)) g_sort g_size g_from g_to g_level g_full a_tape a_hAt a_hMany a_tAt a_tMany a_least a_place a_to a_order a_fails a_sKeys a_sRow a_sSlots a_bKeys a_bRow a_bSlots a_easy a_wants a_wantedBy a_ring a_carried a_latest v_taped v_faultKind v_faultPlace v_x v_ordered v_sought v_lastSought v_hMoved v_hWithout v_tMoved v_tWithout v_places v_elsewhere v_sMany v_bMany v_year y_lies a_rsort a_rmany a_nums pl) H locs → lv_has ls 5 [(0, .ref (ad 7)), (1, .int p1), (2, .int x_73)] → W p l e rm_X4_isDone_t s m args below meth c H locs 0 0 Q (F0 m 114 ls []) := by
              intro hxx H locs ls hH hl
              have hF := un0e (kk60_1 () hxx)
              exact j114 hF _ _ _ hH (lv_sub hl [0, 1, 2] rfl)
            obtain ⟨nn60, en60⟩ := loopC_some ee60
            have l60 : ∀ (n : Nat) (x_85 : Int32), loopN (fun s => FX4_isDone_b60 a_tAt u x_73 s) n x_85 = some xx60 → ∀ (H : Heap) (locs : List Loc) (ls : Array Slot), MH D vwA A s.heap (cW ad cA sA ta ba na gi rh (some (tb 0)) g_sort g_size g_from g_to g_level g_full a_tape a_hAt a_hMany a_tAt a_tMany a_least a_place a_to a_order a_fails a_sKeys a_sRow a_sSlots a_bKeys a_bRow a_bSlots a_easy a_wants a_wantedBy a_ring a_carried a_latest v_taped v_faultKind v_faultPlace v_x v_ordered v_sought v_lastSought v_hMoved v_hWithout v_tMoved v_tWithout v_places v_elsewhere v_sMany v_bMany v_year y_lies a_rsort a_rmany a_nums pl) H locs → lv_has ls 5 [(0, .ref (ad 7)), (1, .int p1), (2, .int x_73), (3, .ref (tb (10 + x_73.toNatClampNeg))), (4, .int x_85)] → W p l e rm_X4_isDone_t s m args below meth c H locs 0 0 Q (F0 m 60 ls []) := by
              intro n
              induction n with
              | zero =>
                intro x_85 hN
                exact absurd hN loopN_zero
              | succ n ih =>
                intro x_85 hN H locs ls hH hl
                obtain ⟨yy60, hB60, hY60⟩ := loopN_succ hN
                have hF : FX4_isDone_b60 a_tAt u x_73 x_85 = some yy60 := hB60
                delta FX4_isDone_b60 at hF
                refine lv_iload hx hb dX4_isDone_60 (lv_at hl 4 rfl) ?_
                refine lv_aload_n hx hb dX4_isDone_62 rfl (lv_at hl 3 rfl) ?_
                refine cg_Y_Stacks_row_wished hU (alg_lt hg_75) (fun _ h => cW_pl h) hX hK hNW hH dX4_isDone_63 ?_
                refine lv_icmp_ge (tgt := 114) hx hb dX4_isDone_66 rfl (fun c_86 => ?_) (fun c_86 => ?_)
                · have hF := itp c_86 hF
                  obtain rfl := Option.some.inj hF
                  exact k60_1 hY60 _ _ _ hH (lv_sub hl [0, 1, 2] rfl)
                · have hF := itn c_86 hF
                  refine lv_aload_n hx hb dX4_isDone_69 rfl (lv_at hl 0 rfl) ?_
                  refine cg_Y_Stacks_stkt_town hX hK hNW hH dX4_isDone_70 ?_
                  refine cg_Y_Stacks_town_stones hU (fun _ h => cW_pl h) hX hK hNW hH dX4_isDone_73 ?_
                  refine lv_aload_n hx hb dX4_isDone_76 rfl (lv_at hl 0 rfl) ?_
                  refine cg_Y_Stacks_stkt_at hX hK hNW hH dX4_isDone_77 ?_
                  refine lv_iconst (v := 3) hx hb dX4_isDone_80 kyi_3 ?_
                  refine lv_iload_n hx hb dX4_isDone_81 rfl (lv_at hl 2 rfl) ?_
                  refine lv_imul hx hb dX4_isDone_82 ?_
                  refine lv_iload hx hb dX4_isDone_83 (lv_at hl 4 rfl) ?_
                  refine lv_iadd hx hb dX4_isDone_85 ?_
                  obtain ⟨x_87, he, hF⟩ := bd1e hF
                  refine cl_tAt hX hK hH he dX4_isDone_86 ?_
                  obtain ⟨hg_88, hF⟩ := bd0e hF
                  refine mxV hX hK hEv hE0 hH (met_J2_get hE.1 rfl hU.stones hg_88 (fun _ h => cW_pl h)) (precv (fun _ h => cW_pl h) hK hH 17 rfl hU.stones.obj) gw_StoneYear_Stacks_56 hd_yJ2_get ⟨Nat.le_of_ble_eq_true rfl, Nat.le_of_ble_eq_true rfl⟩ rfl rfl hl (Nat.le_of_ble_eq_true rfl) dX4_isDone_87 ⟨Nat.le_of_ble_eq_true rfl, Nat.le_of_ble_eq_true rfl⟩ (fun w2 H locs hw hH => ?_)
                  subst hw
                  refine va_castE hx hb hown (hts _ q1057) (precv (fun _ h => cW_pl h) hK hH 11 rfl ⟨_, hU.stone (alg_lt hg_88)⟩) dX4_isDone_90 ?_
                  refine cg_Y_Stacks_stone_sort hU (alg_lt hg_88) (fun _ h => cW_pl h) hX hK hNW hH dX4_isDone_93 ?_
                  refine lv_aload_n hx hb dX4_isDone_96 rfl (lv_at hl 3 rfl) ?_
                  refine cg_Y_Stacks_row_wish hU (alg_lt hg_75) (fun _ h => cW_pl h) hX hK hNW hH dX4_isDone_97 ?_
                  refine lv_iload hx hb dX4_isDone_100 (lv_at hl 4 rfl) ?_
                  obtain ⟨x_89, he, hF⟩ := bd1e hF
                  refine cl_wish hU (alg_lt hg_75) (fun _ h => cW_pl h) rfl hX hK hH he dX4_isDone_102 ?_
                  refine lv_icmp_eq (tgt := 108) hx hb dX4_isDone_103 rfl (fun c_90 => ?_) (fun c_90 => ?_)
                  · have hF := itp c_90 hF
                    refine lv_iinc (v := (x_85 + 1)) (lv' := [(4, .int (x_85 + 1)), (0, .ref (ad 7)), (1, .int p1), (2, .int x_73), (3, .ref (tb (10 + x_73.toNatClampNeg)))]) hx hb dX4_isDone_108 hl (k := 4) rfl (syc kyi_1) (by decide) rfl (fun ls hl => ?_)
                    refine lv_goto (tgt := 60) hx hb dX4_isDone_111 rfl ?_
                    obtain rfl := Option.some.inj hF
                    exact ih (x_85 + 1) hY60 _ _ _ hH (lv_sub hl [1, 2, 3, 4, 0] rfl)
                  · have hF := itn c_90 hF
                    obtain rfl := Option.some.inj hF
                    exact k60_0 hY60 _ _ _ hH (lv_sub hl [] rfl)
            exact l60 nn60 0 en60 _ _ _ hH (lv_sub hl [2, 3, 4, 1, 0] rfl)
          · have hF := itn c_79 hF
            obtain rfl := Option.some.inj hF
            exact k2_0 hY2 _ _ _ hH (lv_sub hl [] rfl)
        · have hF := itp c_77 hF
          refine lv_goto (tgt := 114) hx hb dX4_isDone_39 rfl ?_
          exact j114 hF _ _ _ hH (lv_sub hl [1, 2, 3] rfl)
  exact l2 nn2 0 en2 _ _ _ hH (lv_sub hl [1, 2, 0] rfl)
abbrev rm_X0_done : Room := { frames := 5, cells := 0, slots := 0, locals := 165 }
set_option maxHeartbeats 4000000 in
theorem met_X0_done {l : Launch} {D : va_G} {ad : Nat → Nat} {cA : Nat → ClassId} {sA ta ba na : Nat → Nat} {gi : Nat → Option Nat} {rh : Option Nat} {rt : Option Nat} {g_sort : Int32} {g_size : Int32} {g_from : Int32} {g_to : Int32} {g_level : Int32} {g_full : Int32} {a_tape : Nat → Int32} {a_hAt : Nat → Int32} {a_hMany : Nat → Int32} {a_tAt : Nat → Int32} {a_tMany : Nat → Int32} {a_least : Nat → Int32} {a_place : Nat → Int32} {a_to : Nat → Int32} {a_order : Nat → Int32} {a_fails : Nat → Int32} {a_sKeys : Nat → Int64} {a_sRow : Nat → Int64} {a_sSlots : Nat → Int32} {a_bKeys : Nat → Int64} {a_bRow : Nat → Int64} {a_bSlots : Nat → Int32} {a_easy : Nat → Int32} {a_wants : Nat → Int32} {a_wantedBy : Nat → Int32} {a_ring : Nat → Int32} {a_carried : Nat → Int32} {a_latest : Nat → Int32} {v_taped : Int32} {v_faultKind : Int32} {v_faultPlace : Int32} {v_x : Int32} {v_ordered : Int32} {v_sought : Int32} {v_lastSought : Int32} {v_hMoved : Int32} {v_hWithout : Int32} {v_tMoved : Int32} {v_tWithout : Int32} {v_places : Int32} {v_elsewhere : Int32} {v_sMany : Int32} {v_bMany : Int32} {v_year : Int32} {y_lies : Int64} {a_rsort : Nat → Int32} {a_rmany : Nat → Int32} {a_nums : Nat → Nat → Int64} {t : Nat → Int32} {nb : Int32} {bv : Nat → Int32 → Int32 → Int32 → Int32 → Int32 → Int32 → Bool} {pl : va_W}  {p1 : Int32} {res : Int32} {ra_hAt : Nat → Int32} {ra_hMany : Nat → Int32} {rv_hMoved : Int32} {E : EvT} (hE : EvN E) (hPO : PO cA pl ta ba t nb bv) (hF : FX0_done a_hAt a_hMany v_hMoved y_lies t p1 = some (res, ra_hAt, ra_hMany, rv_hMoved)) : MX l yX0_done (ws_ yX0_done cX0_done 2 (Option.some Jvm.ClassFile.FieldType.int)) rm_X0_done D vwA (cT cA) E [.ref (ad 0), .int p1] (cW ad cA sA ta ba na gi rh rt g_sort g_size g_from g_to g_level g_full a_tape a_hAt a_hMany a_tAt a_tMany a_least a_place a_to a_order a_fails a_sKeys a_sRow a_sSlots a_bKeys a_bRow a_bSlots a_easy a_wants a_wantedBy a_ring a_carried a_latest v_taped v_faultKind v_faultPlace v_x v_ordered v_sought v_lastSought v_hMoved v_hWithout v_tMoved v_tWithout v_places v_elsewhere v_sMany v_bMany v_year y_lies a_rsort a_rmany a_nums pl) (fun z => ∃ rh' : Option Nat, z = (cW ad cA sA ta ba na gi rh' rt g_sort g_size g_from g_to g_level g_full a_tape ra_hAt ra_hMany a_tAt a_tMany a_least a_place a_to a_order a_fails a_sKeys a_sRow a_sSlots a_bKeys a_bRow a_bSlots a_easy a_wants a_wantedBy a_ring a_carried a_latest v_taped v_faultKind v_faultPlace v_x v_ordered v_sought v_lastSought rv_hMoved v_hWithout v_tMoved v_tWithout v_places v_elsewhere v_sMany v_bMany v_year y_lies a_rsort a_rmany a_nums pl)) (some (.int res)) := by
  refine MX.ofI (by decide) (Nat.le_of_ble_eq_true rfl) ?_
  intro p e s m args below meth c Q A hX hK hE0 hname hret H locs ls hH hl
  have hX : CallFix p m c cX0_done 2 s args lw_all RX0 := hX
  have hx := hX.1
  have hb := hX.2.1
  have hown := hX.2.2.2.1
  have hts := hX.2.2.2.2
  have hl : lv_has ls 2 [(0, .ref (ad 0)), (1, .int p1)] := hl
  have hEv := hE.1
  have hNW := hE.2.1 _ _ _ hE0
  have hT := hPO.1
  have hB := hPO.2
  delta FX0_done at hF
  refine lv_iload_n hx hb dX0_done_0 rfl (lv_at hl 1 rfl) ?_
  obtain ⟨b_55, he, hF⟩ := bd1e hF
  refine mxS hX hK hEv hE0 hH (met_X0_isWho hE hPO he) gw_StoneYear_286 hd_yX0_isWho ⟨Nat.le_of_ble_eq_true rfl, Nat.le_of_ble_eq_true rfl⟩ rfl rfl hl (Nat.le_of_ble_eq_true rfl) dX0_done_1 ⟨Nat.le_of_ble_eq_true rfl, Nat.le_of_ble_eq_true rfl⟩ (fun w2 H locs hw hH => ?_)
  subst hw
  refine lv_if_eq (tgt := 26) hx hb dX0_done_4 rfl (fun c_56 => ?_) (fun c_56 => ?_)
  · have hF := itp c_56 hF
    refine lv_bipush (v := (-2)) hx hb dX0_done_26 kyb_m2 ?_
    obtain ⟨rfl, rfl, rfl, rfl⟩ := re4 hF
    exact hret _ _ _ _ _ ⟨_, rfl⟩ hH dX0_done_28
  · have hF := itn c_56 hF
    refine lv_aload_n hx hb dX0_done_7 rfl (lv_at hl 0 rfl) ?_
    obtain ⟨a_hAt_57, a_hMany_58, v_hMoved_59, he, hF⟩ := bd3e hF
    refine mxV hX hK hEv hE0 hH (met_X0_here hE hPO he) (crecv hK hH 0 0 rfl rfl) gw_StoneYear_195 hd_yX0_here ⟨Nat.le_of_ble_eq_true rfl, Nat.le_of_ble_eq_true rfl⟩ rfl rfl hl (Nat.le_of_ble_eq_true rfl) dX0_done_8 ⟨Nat.le_of_ble_eq_true rfl, Nat.le_of_ble_eq_true rfl⟩ (fun w2 H locs hw hH => ?_)
    subst hw
    refine lv_iload_n hx hb dX0_done_11 rfl (lv_at hl 1 rfl) ?_
    obtain ⟨b_60, he, hF⟩ := bd1e hF
    refine mxV hX hK hEv hE0 hH (met_X4_isDone_h hE hPO hT he) (crecv hK hH 4 4 rfl rfl) gw_StoneYear_289 hd_yX4_isDone ⟨Nat.le_of_ble_eq_true rfl, Nat.le_of_ble_eq_true rfl⟩ rfl rfl hl (Nat.le_of_ble_eq_true rfl) dX0_done_12 ⟨Nat.le_of_ble_eq_true rfl, Nat.le_of_ble_eq_true rfl⟩ (fun w2 H locs hw hH => ?_)
    subst hw
    refine lv_if_eq (tgt := 22) hx hb dX0_done_15 rfl (fun c_61 => ?_) (fun c_61 => ?_)
    · have hF := itp c_61 hF
      refine lv_iconst (v := 0) hx hb dX0_done_22 kyi_0 ?_
      refine lv_goto (tgt := 28) hx hb dX0_done_23 rfl ?_
      obtain ⟨rfl, rfl, rfl, rfl⟩ := re4 hF
      exact hret _ _ _ _ _ ⟨_, rfl⟩ hH dX0_done_28
    · have hF := itn c_61 hF
      refine lv_iconst (v := 1) hx hb dX0_done_18 kyi_1 ?_
      refine lv_goto (tgt := 28) hx hb dX0_done_19 rfl ?_
      obtain ⟨rfl, rfl, rfl, rfl⟩ := re4 hF
      exact hret _ _ _ _ _ ⟨_, rfl⟩ hH dX0_done_28
abbrev rm_X2_wished : Room := { frames := 4, cells := 0, slots := 0, locals := 141 }
set_option maxHeartbeats 4000000 in
theorem met_X2_wished {l : Launch} {D : va_G} {ad : Nat → Nat} {cA : Nat → ClassId} {sA ta ba na : Nat → Nat} {gi : Nat → Option Nat} {rh : Option Nat} {rt : Option Nat} {g_sort : Int32} {g_size : Int32} {g_from : Int32} {g_to : Int32} {g_level : Int32} {g_full : Int32} {a_tape : Nat → Int32} {a_hAt : Nat → Int32} {a_hMany : Nat → Int32} {a_tAt : Nat → Int32} {a_tMany : Nat → Int32} {a_least : Nat → Int32} {a_place : Nat → Int32} {a_to : Nat → Int32} {a_order : Nat → Int32} {a_fails : Nat → Int32} {a_sKeys : Nat → Int64} {a_sRow : Nat → Int64} {a_sSlots : Nat → Int32} {a_bKeys : Nat → Int64} {a_bRow : Nat → Int64} {a_bSlots : Nat → Int32} {a_easy : Nat → Int32} {a_wants : Nat → Int32} {a_wantedBy : Nat → Int32} {a_ring : Nat → Int32} {a_carried : Nat → Int32} {a_latest : Nat → Int32} {v_taped : Int32} {v_faultKind : Int32} {v_faultPlace : Int32} {v_x : Int32} {v_ordered : Int32} {v_sought : Int32} {v_lastSought : Int32} {v_hMoved : Int32} {v_hWithout : Int32} {v_tMoved : Int32} {v_tWithout : Int32} {v_places : Int32} {v_elsewhere : Int32} {v_sMany : Int32} {v_bMany : Int32} {v_year : Int32} {y_lies : Int64} {a_rsort : Nat → Int32} {a_rmany : Nat → Int32} {a_nums : Nat → Nat → Int64} {t : Nat → Int32} {nb : Int32} {bv : Nat → Int32 → Int32 → Int32 → Int32 → Int32 → Int32 → Bool} {pl : va_W} {tb : Nat → Nat} {u : Nat → Int32}  {p1 : Int32} {p2 : Int32} {res : Int32} {E : EvT} (hE : EvN E) (hPO : PO cA pl ta ba t nb bv) (hU : TownAt cA pl tb u) (hF : FX2_wished u p1 p2 = some res) : MX l yX2_wished (ws_ yX2_wished cX2_wished 4 (Option.some Jvm.ClassFile.FieldType.int)) rm_X2_wished D vwA (cT cA) E [.ref (tb 0), .int p1, .int p2] (cW ad cA sA ta ba na gi rh rt g_sort g_size g_from g_to g_level g_full a_tape a_hAt a_hMany a_tAt a_tMany a_least a_place a_to a_order a_fails a_sKeys a_sRow a_sSlots a_bKeys a_bRow a_bSlots a_easy a_wants a_wantedBy a_ring a_carried a_latest v_taped v_faultKind v_faultPlace v_x v_ordered v_sought v_lastSought v_hMoved v_hWithout v_tMoved v_tWithout v_places v_elsewhere v_sMany v_bMany v_year y_lies a_rsort a_rmany a_nums pl) (fun z => z = (cW ad cA sA ta ba na gi rh rt g_sort g_size g_from g_to g_level g_full a_tape a_hAt a_hMany a_tAt a_tMany a_least a_place a_to a_order a_fails a_sKeys a_sRow a_sSlots a_bKeys a_bRow a_bSlots a_easy a_wants a_wantedBy a_ring a_carried a_latest v_taped v_faultKind v_faultPlace v_x v_ordered v_sought v_lastSought v_hMoved v_hWithout v_tMoved v_tWithout v_places v_elsewhere v_sMany v_bMany v_year y_lies a_rsort a_rmany a_nums pl)) (some (.int res)) := by
  refine MX.ofI (by decide) (Nat.le_of_ble_eq_true rfl) ?_
  intro p e s m args below meth c Q A hX hK hE0 hname hret H locs ls hH hl
  have hX : CallFix p m c cX2_wished 4 s args lw_all RX2 := hX
  have hx := hX.1
  have hb := hX.2.1
  have hown := hX.2.2.2.1
  have hts := hX.2.2.2.2
  have hl : lv_has ls 4 [(0, .ref (tb 0)), (1, .int p1), (2, .int p2)] := hl
  have hEv := hE.1
  have hNW := hE.2.1 _ _ _ hE0
  have hT := hPO.1
  have hB := hPO.2
  delta FX2_wished at hF
  refine lv_iload_n hx hb dX2_wished_0 rfl (lv_at hl 1 rfl) ?_
  refine lv_iconst (v := 3) hx hb dX2_wished_1 kyi_3 ?_
  refine lv_idiv hx hb dX2_wished_2 (by decide) ?_
  refine lv_aload_n hx hb dX2_wished_3 rfl (lv_at hl 0 rfl) ?_
  refine cg_Y_Town_town_rows hU (fun _ h => cW_pl h) hX hK hNW hH dX2_wished_4 ?_
  refine mxV hX hK hEv hE0 hH (met_J2_size hE.1 hU.rows (fun _ h => cW_pl h)) (precv (fun _ h => cW_pl h) hK hH 17 rfl hU.rows.obj) gw_StoneYear_Town_42 hd_yJ2_size ⟨Nat.le_of_ble_eq_true rfl, Nat.le_of_ble_eq_true rfl⟩ rfl rfl hl (Nat.le_of_ble_eq_true rfl) dX2_wished_7 ⟨Nat.le_of_ble_eq_true rfl, Nat.le_of_ble_eq_true rfl⟩ (fun w2 H locs hw hH => ?_)
  subst hw
  refine lv_icmp_lt (tgt := 15) hx hb dX2_wished_10 rfl (fun c_57 => ?_) (fun c_57 => ?_)
  · have hF := itp c_57 hF
    refine lv_aload_n hx hb dX2_wished_15 rfl (lv_at hl 0 rfl) ?_
    refine cg_Y_Town_town_rows hU (fun _ h => cW_pl h) hX hK hNW hH dX2_wished_16 ?_
    refine lv_iload_n hx hb dX2_wished_19 rfl (lv_at hl 1 rfl) ?_
    refine lv_iconst (v := 3) hx hb dX2_wished_20 kyi_3 ?_
    refine lv_idiv hx hb dX2_wished_21 (by decide) ?_
    obtain ⟨hg_58, hF⟩ := bd0e hF
    refine mxV hX hK hEv hE0 hH (met_J2_get hE.1 rfl hU.rows hg_58 (fun _ h => cW_pl h)) (precv (fun _ h => cW_pl h) hK hH 17 rfl hU.rows.obj) gw_StoneYear_Town_33 hd_yJ2_get ⟨Nat.le_of_ble_eq_true rfl, Nat.le_of_ble_eq_true rfl⟩ rfl rfl hl (Nat.le_of_ble_eq_true rfl) dX2_wished_22 ⟨Nat.le_of_ble_eq_true rfl, Nat.le_of_ble_eq_true rfl⟩ (fun w2 H locs hw hH => ?_)
    subst hw
    refine va_castE hx hb hown (hts _ q1046) (precv (fun _ h => cW_pl h) hK hH 10 rfl ⟨_, hU.row (alg_lt hg_58)⟩) dX2_wished_25 ?_
    refine lv_astore_n (lv' := [(3, .ref (tb (10 + (p1 / 3).toNatClampNeg))), (0, .ref (tb 0)), (1, .int p1), (2, .int p2)]) hx hb dX2_wished_28 rfl hl (by decide) rfl (fun ls hl => ?_)
    refine lv_aload_n hx hb dX2_wished_29 rfl (lv_at hl 0 rfl) ?_
    refine lv_iload_n hx hb dX2_wished_30 rfl (lv_at hl 3 rfl) ?_
    obtain ⟨b_59, he, hF⟩ := bd1e hF
    refine mxV hX hK hEv hE0 hH (met_X10_isAsked hE hPO hU hg_58 he) (precv (fun _ h => cW_pl h) hK hH 10 rfl ⟨_, hU.row (alg_lt hg_58)⟩) gw_StoneYear_Town_46 hd_yX10_isAsked ⟨Nat.le_of_ble_eq_true rfl, Nat.le_of_ble_eq_true rfl⟩ rfl rfl hl (Nat.le_of_ble_eq_true rfl) dX2_wished_31 ⟨Nat.le_of_ble_eq_true rfl, Nat.le_of_ble_eq_true rfl⟩ (fun w2 H locs hw hH => ?_)
    subst hw
    refine lv_if_eq (tgt := 58) hx hb dX2_wished_34 rfl (fun c_60 => ?_) (fun c_60 => ?_)
    · have hF := itp c_60 hF
      refine lv_iconst (v := (-1)) hx hb dX2_wished_58 kyi_m1 ?_
      obtain rfl := Option.some.inj hF
      exact hret _ _ _ _ _ rfl hH dX2_wished_59
    · have hF := itn c_60 hF
      refine lv_iload_n hx hb dX2_wished_37 rfl (lv_at hl 2 rfl) ?_
      refine lv_iconst (v := 3) hx hb dX2_wished_38 kyi_3 ?_
      refine lv_irem hx hb dX2_wished_39 (by decide) ?_
      refine lv_aload_n hx hb dX2_wished_40 rfl (lv_at hl 0 rfl) ?_
      refine cg_Y_Town_row_wished hU (alg_lt hg_58) (fun _ h => cW_pl h) hX hK hNW hH dX2_wished_41 ?_
      refine lv_icmp_ge (tgt := 58) hx hb dX2_wished_44 rfl (fun c_61 => ?_) (fun c_61 => ?_)
      · have hF := itp c_61 hF
        refine lv_iconst (v := (-1)) hx hb dX2_wished_58 kyi_m1 ?_
        obtain rfl := Option.some.inj hF
        exact hret _ _ _ _ _ rfl hH dX2_wished_59
      · have hF := itn c_61 hF
        refine lv_aload_n hx hb dX2_wished_47 rfl (lv_at hl 0 rfl) ?_
        refine cg_Y_Town_row_wish hU (alg_lt hg_58) (fun _ h => cW_pl h) hX hK hNW hH dX2_wished_48 ?_
        refine lv_iload_n hx hb dX2_wished_51 rfl (lv_at hl 2 rfl) ?_
        refine lv_iconst (v := 3) hx hb dX2_wished_52 kyi_3 ?_
        refine lv_irem hx hb dX2_wished_53 (by decide) ?_
        obtain ⟨x_62, he, hF⟩ := bd1e hF
        refine cl_wish hU (alg_lt hg_58) (fun _ h => cW_pl h) rfl hX hK hH he dX2_wished_54 ?_
        refine lv_goto (tgt := 59) hx hb dX2_wished_55 rfl ?_
        obtain rfl := Option.some.inj hF
        exact hret _ _ _ _ _ rfl hH dX2_wished_59
  · have hF := itn c_57 hF
    refine lv_iconst (v := (-1)) hx hb dX2_wished_13 kyi_m1 ?_
    obtain rfl := Option.some.inj hF
    exact hret _ _ _ _ _ rfl hH dX2_wished_14
abbrev rm_X4_right_h : Room := { frames := 5, cells := 0, slots := 0, locals := 164 }
set_option maxHeartbeats 4000000 in
theorem met_X4_right_h {l : Launch} {D : va_G} {ad : Nat → Nat} {cA : Nat → ClassId} {sA ta ba na : Nat → Nat} {gi : Nat → Option Nat} {rt : Option Nat} {g_sort : Int32} {g_size : Int32} {g_from : Int32} {g_to : Int32} {g_level : Int32} {g_full : Int32} {a_tape : Nat → Int32} {a_hAt : Nat → Int32} {a_hMany : Nat → Int32} {a_tAt : Nat → Int32} {a_tMany : Nat → Int32} {a_least : Nat → Int32} {a_place : Nat → Int32} {a_to : Nat → Int32} {a_order : Nat → Int32} {a_fails : Nat → Int32} {a_sKeys : Nat → Int64} {a_sRow : Nat → Int64} {a_sSlots : Nat → Int32} {a_bKeys : Nat → Int64} {a_bRow : Nat → Int64} {a_bSlots : Nat → Int32} {a_easy : Nat → Int32} {a_wants : Nat → Int32} {a_wantedBy : Nat → Int32} {a_ring : Nat → Int32} {a_carried : Nat → Int32} {a_latest : Nat → Int32} {v_taped : Int32} {v_faultKind : Int32} {v_faultPlace : Int32} {v_x : Int32} {v_ordered : Int32} {v_sought : Int32} {v_lastSought : Int32} {v_hMoved : Int32} {v_hWithout : Int32} {v_tMoved : Int32} {v_tWithout : Int32} {v_places : Int32} {v_elsewhere : Int32} {v_sMany : Int32} {v_bMany : Int32} {v_year : Int32} {y_lies : Int64} {a_rsort : Nat → Int32} {a_rmany : Nat → Int32} {a_nums : Nat → Nat → Int64} {t : Nat → Int32} {nb : Int32} {bv : Nat → Int32 → Int32 → Int32 → Int32 → Int32 → Int32 → Bool} {pl : va_W} {tb : Nat → Nat} {u : Nat → Int32}  {p1 : Int32} {res : Int32} {E : EvT} (hE : EvN E) (hPO : PO cA pl ta ba t nb bv) (hU : TownAt cA pl tb u) (hF : FX4_right u a_hAt p1 = some res) : MX l yX4_right (ws_ yX4_right cX4_right 5 (Option.some Jvm.ClassFile.FieldType.int)) rm_X4_right_h D vwA (cT cA) E [.ref (ad 4), .int p1] (cW ad cA sA ta ba na gi (some (tb 0)) rt g_sort g_size g_from g_to g_level g_full a_tape a_hAt a_hMany a_tAt a_tMany a_least a_place a_to a_order a_fails a_sKeys a_sRow a_sSlots a_bKeys a_bRow a_bSlots a_easy a_wants a_wantedBy a_ring a_carried a_latest v_taped v_faultKind v_faultPlace v_x v_ordered v_sought v_lastSought v_hMoved v_hWithout v_tMoved v_tWithout v_places v_elsewhere v_sMany v_bMany v_year y_lies a_rsort a_rmany a_nums pl) (fun z => z = (cW ad cA sA ta ba na gi (some (tb 0)) rt g_sort g_size g_from g_to g_level g_full a_tape a_hAt a_hMany a_tAt a_tMany a_least a_place a_to a_order a_fails a_sKeys a_sRow a_sSlots a_bKeys a_bRow a_bSlots a_easy a_wants a_wantedBy a_ring a_carried a_latest v_taped v_faultKind v_faultPlace v_x v_ordered v_sought v_lastSought v_hMoved v_hWithout v_tMoved v_tWithout v_places v_elsewhere v_sMany v_bMany v_year y_lies a_rsort a_rmany a_nums pl)) (some (.int res)) := by
  refine MX.ofI (by decide) (Nat.le_of_ble_eq_true rfl) ?_
  intro p e s m args below meth c Q A hX hK hE0 hname hret H locs ls hH hl
  have hX : CallFix p m c cX4_right 5 s args lw_all RX4 := hX
  have hx := hX.1
  have hb := hX.2.1
  have hown := hX.2.2.2.1
  have hts := hX.2.2.2.2
  have hl : lv_has ls 5 [(0, .ref (ad 4)), (1, .int p1)] := hl
  have hEv := hE.1
  have hNW := hE.2.1 _ _ _ hE0
  have hT := hPO.1
  have hB := hPO.2
  delta FX4_right at hF
  refine lv_iconst (v := 0) hx hb dX4_right_0 kyi_0 ?_
  refine lv_istore_n (lv' := [(2, .int 0), (0, .ref (ad 4)), (1, .int p1)]) hx hb dX4_right_1 rfl hl (by decide) rfl (fun ls hl => ?_)
  refine lv_iconst (v := 0) hx hb dX4_right_2 kyi_0 ?_
  refine lv_istore_n (lv' := [(3, .int 0), (2, .int 0), (0, .ref (ad 4)), (1, .int p1)]) hx hb dX4_right_3 rfl hl (by decide) rfl (fun ls hl => ?_)
  obtain ⟨xx4, ee4, kk4_0⟩ := bd1L hF
  have k4_0 : ∀ (x_76 : Int32), xx4 = x_76 → ∀ (H : Heap) (locs : List Loc) (ls : Array Slot), MH D vwA A s.heap (cW ad cA sA ta ba na gi (some (tb 0)) rt g_sort g_size g_from g_to g_level g_full a_tape a_hAt a_hMany a_tAt a_tMany a_least a_place a_to a_order a_fails a_sKeys a_sRow a_sSlots a_bKeys a_bRow a_bSlots a_easy a_wants a_wantedBy a_ring a_carried a_latest v_taped v_faultKind v_faultPlace v_x v_ordered v_sought v_lastSought v_hMoved v_hWithout v_tMoved v_tWithout v_places v_elsewhere v_sMany v_bMany v_year y_lies a_rsort a_rmany a_nums pl) H locs → lv_has ls 5 [(2, .int x_76)] → W p l e rm_X4_right_h s m args below meth c H locs 0 0 Q (F0 m 78 ls []) := by
    intro x_76 hxx H locs ls hH hl
    have hF := un1e (kk4_0 x_76 hxx)
    refine lv_iload_n hx hb dX4_right_78 rfl (lv_at hl 0 rfl) ?_
    obtain rfl := Option.some.inj hF
    exact hret _ _ _ _ _ rfl hH dX4_right_79
  obtain ⟨nn4, en4⟩ := loopC_some ee4
  have l4 : ∀ (n : Nat) (x_65 : Int32) (x_66 : Int32), loopN (fun s => FX4_right_b4 a_hAt u p1 s.1 s.2) n (x_65, x_66) = some xx4 → ∀ (H : Heap) (locs : List Loc) (ls : Array Slot), MH D vwA A s.heap (cW ad cA sA ta ba na gi (some (tb 0)) rt g_sort g_size g_from g_to g_level g_full a_tape a_hAt a_hMany a_tAt a_tMany a_least a_place a_to a_order a_fails a_sKeys a_sRow a_sSlots a_bKeys a_bRow a_bSlots a_easy a_wants a_wantedBy a_ring a_carried a_latest v_taped v_faultKind v_faultPlace v_x v_ordered v_sought v_lastSought v_hMoved v_hWithout v_tMoved v_tWithout v_places v_elsewhere v_sMany v_bMany v_year y_lies a_rsort a_rmany a_nums pl) H locs → lv_has ls 5 [(0, .ref (ad 4)), (1, .int p1), (2, .int x_65), (3, .int x_66)] → W p l e rm_X4_right_h s m args below meth c H locs 0 0 Q (F0 m 4 ls []) := by
    intro n
    induction n with
    | zero =>
      intro x_65 x_66 hN
      exact absurd hN loopN_zero
    | succ n ih =>
      intro x_65 x_66 hN H locs ls hH hl
      obtain ⟨yy4, hB4, hY4⟩ := loopN_succ hN
      have hF : FX4_right_b4 a_hAt u p1 x_65 x_66 = some yy4 := hB4
      delta FX4_right_b4 at hF
      refine lv_iload_n hx hb dX4_right_4 rfl (lv_at hl 3 rfl) ?_
      refine lv_bipush (v := 15) hx hb dX4_right_5 kyb_15 ?_
      refine lv_icmp_ge (tgt := 78) hx hb dX4_right_7 rfl (fun c_67 => ?_) (fun c_67 => ?_)
      · have hF := itp c_67 hF
        obtain rfl := Option.some.inj hF
        exact k4_0 x_65 hY4 _ _ _ hH (lv_sub hl [2] rfl)
      · have hF := itn c_67 hF
        refine lv_aload_n hx hb dX4_right_10 rfl (lv_at hl 0 rfl) ?_
        refine cg_Y_Stacks_stkh_town hX hK hNW hH dX4_right_11 ?_
        refine lv_iload_n hx hb dX4_right_14 rfl (lv_at hl 3 rfl) ?_
        refine lv_iload_n hx hb dX4_right_15 rfl (lv_at hl 1 rfl) ?_
        obtain ⟨x_68, he, hF⟩ := bd1e hF
        refine mxV hX hK hEv hE0 hH (met_X2_wished hE hPO hU he) (precv (fun _ h => cW_pl h) hK hH 2 rfl ⟨_, hU.obj⟩) gw_StoneYear_Stacks_184 hd_yX2_wished ⟨Nat.le_of_ble_eq_true rfl, Nat.le_of_ble_eq_true rfl⟩ rfl rfl hl (Nat.le_of_ble_eq_true rfl) dX4_right_16 ⟨Nat.le_of_ble_eq_true rfl, Nat.le_of_ble_eq_true rfl⟩ (fun w2 H locs hw hH => ?_)
        subst hw
        refine lv_istore (lv' := [(4, .int x_68), (0, .ref (ad 4)), (1, .int p1), (2, .int x_65), (3, .int x_66)]) hx hb dX4_right_19 hl (by decide) rfl (fun ls hl => ?_)
        refine lv_iload_n hx hb dX4_right_21 rfl (lv_at hl 3 rfl) ?_
        refine lv_iload hx hb dX4_right_22 (lv_at hl 0 rfl) ?_
        refine lv_iconst (v := (-1)) hx hb dX4_right_24 kyi_m1 ?_
        have j70 : ∀ (x_75 : Int32), FX4_right_j70 x_65 x_66 x_75 = some yy4 → ∀ (H : Heap) (locs : List Loc) (ls : Array Slot), MH D vwA A s.heap (cW ad cA sA ta ba na gi (some (tb 0)) rt g_sort g_size g_from g_to g_level g_full a_tape a_hAt a_hMany a_tAt a_tMany a_least a_place a_to a_order a_fails a_sKeys a_sRow a_sSlots a_bKeys a_bRow a_bSlots a_easy a_wants a_wantedBy a_ring a_carried a_latest v_taped v_faultKind v_faultPlace v_x v_ordered v_sought v_lastSought v_hMoved v_hWithout v_tMoved v_tWithout v_places v_elsewhere v_sMany v_bMany v_year y_lies a_rsort a_rmany a_nums pl) H locs → lv_has ls 5 [(0, .ref (ad 4)), (1, .int p1), (3, .int x_66)] → W p l e rm_X4_right_h s m args below meth c H locs 0 0 Q (F0 m 70 ls [.int x_75, .int x_65]) := by
          intro x_75 hF H locs ls hH hl
          delta FX4_right_j70 at hF
          refine lv_iadd hx hb dX4_right_70 ?_
          refine lv_istore_n (lv' := [(2, .int (x_65 + x_75)), (0, .ref (ad 4)), (1, .int p1), (3, .int x_66)]) hx hb dX4_right_71 rfl hl (by decide) rfl (fun ls hl => ?_)
          refine lv_iinc (v := (x_66 + 1)) (lv' := [(3, .int (x_66 + 1)), (2, .int (x_65 + x_75)), (0, .ref (ad 4)), (1, .int p1)]) hx hb dX4_right_72 hl (k := 3) rfl (syc kyi_1) (by decide) rfl (fun ls hl => ?_)
          refine lv_goto (tgt := 4) hx hb dX4_right_75 rfl ?_
          obtain rfl := Option.some.inj hF
          exact ih (x_65 + x_75) (x_66 + 1) hY4 _ _ _ hH (lv_sub hl [2, 3, 1, 0] rfl)
        have j69 : FX4_right_j69 x_65 x_66 = some yy4 → ∀ (H : Heap) (locs : List Loc) (ls : Array Slot), MH D vwA A s.heap (cW ad cA sA ta ba na gi (some (tb 0)) rt g_sort g_size g_from g_to g_level g_full a_tape a_hAt a_hMany a_tAt a_tMany a_least a_place a_to a_order a_fails a_sKeys a_sRow a_sSlots a_bKeys a_bRow a_bSlots a_easy a_wants a_wantedBy a_ring a_carried a_latest v_taped v_faultKind v_faultPlace v_x v_ordered v_sought v_lastSought v_hMoved v_hWithout v_tMoved v_tWithout v_places v_elsewhere v_sMany v_bMany v_year y_lies a_rsort a_rmany a_nums pl) H locs → lv_has ls 5 [(0, .ref (ad 4)), (1, .int p1), (3, .int x_66)] → W p l e rm_X4_right_h s m args below meth c H locs 0 0 Q (F0 m 69 ls [.int x_65]) := by
          intro hF H locs ls hH hl
          delta FX4_right_j69 at hF
          refine lv_iconst (v := 0) hx hb dX4_right_69 kyi_0 ?_
          exact j70 0 hF _ _ _ hH (lv_sub hl [0, 1, 2] rfl)
        refine lv_icmp_eq (tgt := 69) hx hb dX4_right_25 rfl (fun c_69 => ?_) (fun c_69 => ?_)
        · have hF := itp c_69 hF
          exact j69 hF _ _ _ hH (lv_sub hl [1, 2, 4] rfl)
        · have hF := itn c_69 hF
          refine lv_aload_n hx hb dX4_right_28 rfl (lv_at hl 1 rfl) ?_
          refine cg_Y_Stacks_stkh_at hX hK hNW hH dX4_right_29 ?_
          refine lv_iload_n hx hb dX4_right_32 rfl (lv_at hl 4 rfl) ?_
          obtain ⟨x_70, he, hF⟩ := bd1e hF
          refine cl_hAt hX hK hH he dX4_right_33 ?_
          refine lv_iconst (v := (-1)) hx hb dX4_right_34 kyi_m1 ?_
          refine lv_icmp_eq (tgt := 69) hx hb dX4_right_35 rfl (fun c_71 => ?_) (fun c_71 => ?_)
          · have hF := itp c_71 hF
            exact j69 hF _ _ _ hH (lv_sub hl [1, 2, 4] rfl)
          · have hF := itn c_71 hF
            refine lv_aload_n hx hb dX4_right_38 rfl (lv_at hl 1 rfl) ?_
            refine cg_Y_Stacks_stkh_town hX hK hNW hH dX4_right_39 ?_
            refine cg_Y_Stacks_town_stones hU (fun _ h => cW_pl h) hX hK hNW hH dX4_right_42 ?_
            refine lv_aload_n hx hb dX4_right_45 rfl (lv_at hl 1 rfl) ?_
            refine cg_Y_Stacks_stkh_at hX hK hNW hH dX4_right_46 ?_
            refine lv_iload_n hx hb dX4_right_49 rfl (lv_at hl 4 rfl) ?_
            obtain ⟨x_72, he, hF⟩ := bd1e hF
            refine cl_hAt hX hK hH he dX4_right_50 ?_
            obtain ⟨hg_73, hF⟩ := bd0e hF
            refine mxV hX hK hEv hE0 hH (met_J2_get hE.1 rfl hU.stones hg_73 (fun _ h => cW_pl h)) (precv (fun _ h => cW_pl h) hK hH 17 rfl hU.stones.obj) gw_StoneYear_Stacks_56 hd_yJ2_get ⟨Nat.le_of_ble_eq_true rfl, Nat.le_of_ble_eq_true rfl⟩ rfl rfl hl (Nat.le_of_ble_eq_true rfl) dX4_right_51 ⟨Nat.le_of_ble_eq_true rfl, Nat.le_of_ble_eq_true rfl⟩ (fun w2 H locs hw hH => ?_)
            subst hw
            refine va_castE hx hb hown (hts _ q1057) (precv (fun _ h => cW_pl h) hK hH 11 rfl ⟨_, hU.stone (alg_lt hg_73)⟩) dX4_right_54 ?_
            refine cg_Y_Stacks_stone_sort hU (alg_lt hg_73) (fun _ h => cW_pl h) hX hK hNW hH dX4_right_57 ?_
            refine lv_iload hx hb dX4_right_60 (lv_at hl 0 rfl) ?_
            refine lv_icmp_ne (tgt := 69) hx hb dX4_right_62 rfl (fun c_74 => ?_) (fun c_74 => ?_)
            · have hF := itn c_74 hF
              exact j69 hF _ _ _ hH (lv_sub hl [1, 2, 4] rfl)
            · have hF := itp c_74 hF
              refine lv_iconst (v := 1) hx hb dX4_right_65 kyi_1 ?_
              refine lv_goto (tgt := 70) hx hb dX4_right_66 rfl ?_
              exact j70 1 hF _ _ _ hH (lv_sub hl [1, 2, 4] rfl)
  exact l4 nn4 0 0 en4 _ _ _ hH (lv_sub hl [2, 3, 1, 0] rfl)
abbrev rm_X4_right_t : Room := { frames := 5, cells := 0, slots := 0, locals := 164 }
set_option maxHeartbeats 4000000 in
theorem met_X4_right_t {l : Launch} {D : va_G} {ad : Nat → Nat} {cA : Nat → ClassId} {sA ta ba na : Nat → Nat} {gi : Nat → Option Nat} {rh : Option Nat} {g_sort : Int32} {g_size : Int32} {g_from : Int32} {g_to : Int32} {g_level : Int32} {g_full : Int32} {a_tape : Nat → Int32} {a_hAt : Nat → Int32} {a_hMany : Nat → Int32} {a_tAt : Nat → Int32} {a_tMany : Nat → Int32} {a_least : Nat → Int32} {a_place : Nat → Int32} {a_to : Nat → Int32} {a_order : Nat → Int32} {a_fails : Nat → Int32} {a_sKeys : Nat → Int64} {a_sRow : Nat → Int64} {a_sSlots : Nat → Int32} {a_bKeys : Nat → Int64} {a_bRow : Nat → Int64} {a_bSlots : Nat → Int32} {a_easy : Nat → Int32} {a_wants : Nat → Int32} {a_wantedBy : Nat → Int32} {a_ring : Nat → Int32} {a_carried : Nat → Int32} {a_latest : Nat → Int32} {v_taped : Int32} {v_faultKind : Int32} {v_faultPlace : Int32} {v_x : Int32} {v_ordered : Int32} {v_sought : Int32} {v_lastSought : Int32} {v_hMoved : Int32} {v_hWithout : Int32} {v_tMoved : Int32} {v_tWithout : Int32} {v_places : Int32} {v_elsewhere : Int32} {v_sMany : Int32} {v_bMany : Int32} {v_year : Int32} {y_lies : Int64} {a_rsort : Nat → Int32} {a_rmany : Nat → Int32} {a_nums : Nat → Nat → Int64} {t : Nat → Int32} {nb : Int32} {bv : Nat → Int32 → Int32 → Int32 → Int32 → Int32 → Int32 → Bool} {pl : va_W} {tb : Nat → Nat} {u : Nat → Int32}  {p1 : Int32} {res : Int32} {E : EvT} (hE : EvN E) (hPO : PO cA pl ta ba t nb bv) (hU : TownAt cA pl tb u) (hF : FX4_right u a_tAt p1 = some res) : MX l yX4_right (ws_ yX4_right cX4_right 5 (Option.some Jvm.ClassFile.FieldType.int)) rm_X4_right_t D vwA (cT cA) E [.ref (ad 7), .int p1] (cW ad cA sA ta ba na gi rh (some (tb 0)) g_sort g_size g_from g_to g_level g_full a_tape a_hAt a_hMany a_tAt a_tMany a_least a_place a_to a_order a_fails a_sKeys a_sRow a_sSlots a_bKeys a_bRow a_bSlots a_easy a_wants a_wantedBy a_ring a_carried a_latest v_taped v_faultKind v_faultPlace v_x v_ordered v_sought v_lastSought v_hMoved v_hWithout v_tMoved v_tWithout v_places v_elsewhere v_sMany v_bMany v_year y_lies a_rsort a_rmany a_nums pl) (fun z => z = (cW ad cA sA ta ba na gi rh (some (tb 0)) g_sort g_size g_from g_to g_level g_full a_tape a_hAt a_hMany a_tAt a_tMany a_least a_place a_to a_order a_fails a_sKeys a_sRow a_sSlots a_bKeys a_bRow a_bSlots a_easy a_wants a_wantedBy a_ring a_carried a_latest v_taped v_faultKind v_faultPlace v_x v_ordered v_sought v_lastSought v_hMoved v_hWithout v_tMoved v_tWithout v_places v_elsewhere v_sMany v_bMany v_year y_lies a_rsort a_rmany a_nums pl)) (some (.int res)) := by
  refine MX.ofI (by decide) (Nat.le_of_ble_eq_true rfl) ?_
  intro p e s m args below meth c Q A hX hK hE0 hname hret H locs ls hH hl
  have hX : CallFix p m c cX4_right 5 s args lw_all RX4 := hX
  have hx := hX.1
  have hb := hX.2.1
  have hown := hX.2.2.2.1
  have hts := hX.2.2.2.2
  have hl : lv_has ls 5 [(0, .ref (ad 7)), (1, .int p1)] := hl
  have hEv := hE.1
  have hNW := hE.2.1 _ _ _ hE0
  have hT := hPO.1
  have hB := hPO.2
  delta FX4_right at hF
  refine lv_iconst (v := 0) hx hb dX4_right_0 kyi_0 ?_
  refine lv_istore_n (lv' := [(2, .int 0), (0, .ref (ad 7)), (1, .int p1)]) hx hb dX4_right_1 rfl hl (by decide) rfl (fun ls hl => ?_)
  refine lv_iconst (v := 0) hx hb dX4_right_2 kyi_0 ?_
  refine lv_istore_n (lv' := [(3, .int 0), (2, .int 0), (0, .ref (ad 7)), (1, .int p1)]) hx hb dX4_right_3 rfl hl (by decide) rfl (fun ls hl => ?_)
  obtain ⟨xx4, ee4, kk4_0⟩ := bd1L hF
  have k4_0 : ∀ (x_76 : Int32), xx4 = x_76 → ∀ (H : Heap) (locs : List Loc) (ls : Array Slot), MH D vwA A s.heap (cW ad cA sA ta ba na gi rh (some (tb 0)) g_sort g_size g_from g_to g_level g_full a_tape a_hAt a_hMany a_tAt a_tMany a_least a_place a_to a_order a_fails a_sKeys a_sRow a_sSlots a_bKeys a_bRow a_bSlots a_easy a_wants a_wantedBy a_ring a_carried a_latest v_taped v_faultKind v_faultPlace v_x v_ordered v_sought v_lastSought v_hMoved v_hWithout v_tMoved v_tWithout v_places v_elsewhere v_sMany v_bMany v_year y_lies a_rsort a_rmany a_nums pl) H locs → lv_has ls 5 [(2, .int x_76)] → W p l e rm_X4_right_t s m args below meth c H locs 0 0 Q (F0 m 78 ls []) := by
    intro x_76 hxx H locs ls hH hl
    have hF := un1e (kk4_0 x_76 hxx)
    refine lv_iload_n hx hb dX4_right_78 rfl (lv_at hl 0 rfl) ?_
    obtain rfl := Option.some.inj hF
    exact hret _ _ _ _ _ rfl hH dX4_right_79
  obtain ⟨nn4, en4⟩ := loopC_some ee4
  have l4 : ∀ (n : Nat) (x_65 : Int32) (x_66 : Int32), loopN (fun s => FX4_right_b4 a_tAt u p1 s.1 s.2) n (x_65, x_66) = some xx4 → ∀ (H : Heap) (locs : List Loc) (ls : Array Slot), MH D vwA A s.heap (cW ad cA sA ta ba na gi rh (some (tb 0)) g_sort g_size g_from g_to g_level g_full a_tape a_hAt a_hMany a_tAt a_tMany a_least a_place a_to a_order a_fails a_sKeys a_sRow a_sSlots a_bKeys a_bRow a_bSlots a_easy a_wants a_wantedBy a_ring a_carried a_latest v_taped v_faultKind v_faultPlace v_x v_ordered v_sought v_lastSought v_hMoved v_hWithout v_tMoved v_tWithout v_places v_elsewhere v_sMany v_bMany v_year y_lies a_rsort a_rmany a_nums pl) H locs → lv_has ls 5 [(0, .ref (ad 7)), (1, .int p1), (2, .int x_65), (3, .int x_66)] → W p l e rm_X4_right_t s m args below meth c H locs 0 0 Q (F0 m 4 ls []) := by
    intro n
    induction n with
    | zero =>
      intro x_65 x_66 hN
      exact absurd hN loopN_zero
    | succ n ih =>
      intro x_65 x_66 hN H locs ls hH hl
      obtain ⟨yy4, hB4, hY4⟩ := loopN_succ hN
      have hF : FX4_right_b4 a_tAt u p1 x_65 x_66 = some yy4 := hB4
      delta FX4_right_b4 at hF
      refine lv_iload_n hx hb dX4_right_4 rfl (lv_at hl 3 rfl) ?_
      refine lv_bipush (v := 15) hx hb dX4_right_5 kyb_15 ?_
      refine lv_icmp_ge (tgt := 78) hx hb dX4_right_7 rfl (fun c_67 => ?_) (fun c_67 => ?_)
      · have hF := itp c_67 hF
        obtain rfl := Option.some.inj hF
        exact k4_0 x_65 hY4 _ _ _ hH (lv_sub hl [2] rfl)
      · have hF := itn c_67 hF
        refine lv_aload_n hx hb dX4_right_10 rfl (lv_at hl 0 rfl) ?_
        refine cg_Y_Stacks_stkt_town hX hK hNW hH dX4_right_11 ?_
        refine lv_iload_n hx hb dX4_right_14 rfl (lv_at hl 3 rfl) ?_
        refine lv_iload_n hx hb dX4_right_15 rfl (lv_at hl 1 rfl) ?_
        obtain ⟨x_68, he, hF⟩ := bd1e hF
        refine mxV hX hK hEv hE0 hH (met_X2_wished hE hPO hU he) (precv (fun _ h => cW_pl h) hK hH 2 rfl ⟨_, hU.obj⟩) gw_StoneYear_Stacks_184 hd_yX2_wished ⟨Nat.le_of_ble_eq_true rfl, Nat.le_of_ble_eq_true rfl⟩ rfl rfl hl (Nat.le_of_ble_eq_true rfl) dX4_right_16 ⟨Nat.le_of_ble_eq_true rfl, Nat.le_of_ble_eq_true rfl⟩ (fun w2 H locs hw hH => ?_)
        subst hw
        refine lv_istore (lv' := [(4, .int x_68), (0, .ref (ad 7)), (1, .int p1), (2, .int x_65), (3, .int x_66)]) hx hb dX4_right_19 hl (by decide) rfl (fun ls hl => ?_)
        refine lv_iload_n hx hb dX4_right_21 rfl (lv_at hl 3 rfl) ?_
        refine lv_iload hx hb dX4_right_22 (lv_at hl 0 rfl) ?_
        refine lv_iconst (v := (-1)) hx hb dX4_right_24 kyi_m1 ?_
        have j70 : ∀ (x_75 : Int32), FX4_right_j70 x_65 x_66 x_75 = some yy4 → ∀ (H : Heap) (locs : List Loc) (ls : Array Slot), MH D vwA A s.heap (cW ad cA sA ta ba na gi rh (some (tb 0)) g_sort g_size g_from g_to g_level g_full a_tape a_hAt a_hMany a_tAt a_tMany a_least a_place a_to a_order a_fails a_sKeys a_sRow a_sSlots a_bKeys a_bRow a_bSlots a_easy a_wants a_wantedBy a_ring a_carried a_latest v_taped v_faultKind v_faultPlace v_x v_ordered v_sought v_lastSought v_hMoved v_hWithout v_tMoved v_tWithout v_places v_elsewhere v_sMany v_bMany v_year y_lies a_rsort a_rmany a_nums pl) H locs → lv_has ls 5 [(0, .ref (ad 7)), (1, .int p1), (3, .int x_66)] → W p l e rm_X4_right_t s m args below meth c H locs 0 0 Q (F0 m 70 ls [.int x_75, .int x_65]) := by
          intro x_75 hF H locs ls hH hl
          delta FX4_right_j70 at hF
          refine lv_iadd hx hb dX4_right_70 ?_
          refine lv_istore_n (lv' := [(2, .int (x_65 + x_75)), (0, .ref (ad 7)), (1, .int p1), (3, .int x_66)]) hx hb dX4_right_71 rfl hl (by decide) rfl (fun ls hl => ?_)
          refine lv_iinc (v := (x_66 + 1)) (lv' := [(3, .int (x_66 + 1)), (2, .int (x_65 + x_75)), (0, .ref (ad 7)), (1, .int p1)]) hx hb dX4_right_72 hl (k := 3) rfl (syc kyi_1) (by decide) rfl (fun ls hl => ?_)
          refine lv_goto (tgt := 4) hx hb dX4_right_75 rfl ?_
          obtain rfl := Option.some.inj hF
          exact ih (x_65 + x_75) (x_66 + 1) hY4 _ _ _ hH (lv_sub hl [2, 3, 1, 0] rfl)
        have j69 : FX4_right_j69 x_65 x_66 = some yy4 → ∀ (H : Heap) (locs : List Loc) (ls : Array Slot), MH D vwA A s.heap (cW ad cA sA ta ba na gi rh (some (tb 0)) g_sort g_size g_from g_to g_level g_full a_tape a_hAt a_hMany a_tAt a_tMany a_least a_place a_to a_order a_fails a_sKeys a_sRow a_sSlots a_bKeys a_bRow a_bSlots a_easy a_wants a_wantedBy a_ring a_carried a_latest v_taped v_faultKind v_faultPlace v_x v_ordered v_sought v_lastSought v_hMoved v_hWithout v_tMoved v_tWithout v_places v_elsewhere v_sMany v_bMany v_year y_lies a_rsort a_rmany a_nums pl) H locs → lv_has ls 5 [(0, .ref (ad 7)), (1, .int p1), (3, .int x_66)] → W p l e rm_X4_right_t s m args below meth c H locs 0 0 Q (F0 m 69 ls [.int x_65]) := by
          intro hF H locs ls hH hl
          delta FX4_right_j69 at hF
          refine lv_iconst (v := 0) hx hb dX4_right_69 kyi_0 ?_
          exact j70 0 hF _ _ _ hH (lv_sub hl [0, 1, 2] rfl)
        refine lv_icmp_eq (tgt := 69) hx hb dX4_right_25 rfl (fun c_69 => ?_) (fun c_69 => ?_)
        · have hF := itp c_69 hF
          exact j69 hF _ _ _ hH (lv_sub hl [1, 2, 4] rfl)
        · have hF := itn c_69 hF
          refine lv_aload_n hx hb dX4_right_28 rfl (lv_at hl 1 rfl) ?_
          refine cg_Y_Stacks_stkt_at hX hK hNW hH dX4_right_29 ?_
          refine lv_iload_n hx hb dX4_right_32 rfl (lv_at hl 4 rfl) ?_
          obtain ⟨x_70, he, hF⟩ := bd1e hF
          refine cl_tAt hX hK hH he dX4_right_33 ?_
          refine lv_iconst (v := (-1)) hx hb dX4_right_34 kyi_m1 ?_
          refine lv_icmp_eq (tgt := 69) hx hb dX4_right_35 rfl (fun c_71 => ?_) (fun c_71 => ?_)
          · have hF := itp c_71 hF
            exact j69 hF _ _ _ hH (lv_sub hl [1, 2, 4] rfl)
          · have hF := itn c_71 hF
            refine lv_aload_n hx hb dX4_right_38 rfl (lv_at hl 1 rfl) ?_
            refine cg_Y_Stacks_stkt_town hX hK hNW hH dX4_right_39 ?_
            refine cg_Y_Stacks_town_stones hU (fun _ h => cW_pl h) hX hK hNW hH dX4_right_42 ?_
            refine lv_aload_n hx hb dX4_right_45 rfl (lv_at hl 1 rfl) ?_
            refine cg_Y_Stacks_stkt_at hX hK hNW hH dX4_right_46 ?_
            refine lv_iload_n hx hb dX4_right_49 rfl (lv_at hl 4 rfl) ?_
            obtain ⟨x_72, he, hF⟩ := bd1e hF
            refine cl_tAt hX hK hH he dX4_right_50 ?_
            obtain ⟨hg_73, hF⟩ := bd0e hF
            refine mxV hX hK hEv hE0 hH (met_J2_get hE.1 rfl hU.stones hg_73 (fun _ h => cW_pl h)) (precv (fun _ h => cW_pl h) hK hH 17 rfl hU.stones.obj) gw_StoneYear_Stacks_56 hd_yJ2_get ⟨Nat.le_of_ble_eq_true rfl, Nat.le_of_ble_eq_true rfl⟩ rfl rfl hl (Nat.le_of_ble_eq_true rfl) dX4_right_51 ⟨Nat.le_of_ble_eq_true rfl, Nat.le_of_ble_eq_true rfl⟩ (fun w2 H locs hw hH => ?_)
            subst hw
            refine va_castE hx hb hown (hts _ q1057) (precv (fun _ h => cW_pl h) hK hH 11 rfl ⟨_, hU.stone (alg_lt hg_73)⟩) dX4_right_54 ?_
            refine cg_Y_Stacks_stone_sort hU (alg_lt hg_73) (fun _ h => cW_pl h) hX hK hNW hH dX4_right_57 ?_
            refine lv_iload hx hb dX4_right_60 (lv_at hl 0 rfl) ?_
            refine lv_icmp_ne (tgt := 69) hx hb dX4_right_62 rfl (fun c_74 => ?_) (fun c_74 => ?_)
            · have hF := itn c_74 hF
              exact j69 hF _ _ _ hH (lv_sub hl [1, 2, 4] rfl)
            · have hF := itp c_74 hF
              refine lv_iconst (v := 1) hx hb dX4_right_65 kyi_1 ?_
              refine lv_goto (tgt := 70) hx hb dX4_right_66 rfl ?_
              exact j70 1 hF _ _ _ hH (lv_sub hl [1, 2, 4] rfl)
  exact l4 nn4 0 0 en4 _ _ _ hH (lv_sub hl [2, 3, 1, 0] rfl)
abbrev rm_X0_right : Room := { frames := 6, cells := 0, slots := 0, locals := 188 }
set_option maxHeartbeats 4000000 in
theorem met_X0_right {l : Launch} {D : va_G} {ad : Nat → Nat} {cA : Nat → ClassId} {sA ta ba na : Nat → Nat} {gi : Nat → Option Nat} {rh : Option Nat} {rt : Option Nat} {g_sort : Int32} {g_size : Int32} {g_from : Int32} {g_to : Int32} {g_level : Int32} {g_full : Int32} {a_tape : Nat → Int32} {a_hAt : Nat → Int32} {a_hMany : Nat → Int32} {a_tAt : Nat → Int32} {a_tMany : Nat → Int32} {a_least : Nat → Int32} {a_place : Nat → Int32} {a_to : Nat → Int32} {a_order : Nat → Int32} {a_fails : Nat → Int32} {a_sKeys : Nat → Int64} {a_sRow : Nat → Int64} {a_sSlots : Nat → Int32} {a_bKeys : Nat → Int64} {a_bRow : Nat → Int64} {a_bSlots : Nat → Int32} {a_easy : Nat → Int32} {a_wants : Nat → Int32} {a_wantedBy : Nat → Int32} {a_ring : Nat → Int32} {a_carried : Nat → Int32} {a_latest : Nat → Int32} {v_taped : Int32} {v_faultKind : Int32} {v_faultPlace : Int32} {v_x : Int32} {v_ordered : Int32} {v_sought : Int32} {v_lastSought : Int32} {v_hMoved : Int32} {v_hWithout : Int32} {v_tMoved : Int32} {v_tWithout : Int32} {v_places : Int32} {v_elsewhere : Int32} {v_sMany : Int32} {v_bMany : Int32} {v_year : Int32} {y_lies : Int64} {a_rsort : Nat → Int32} {a_rmany : Nat → Int32} {a_nums : Nat → Nat → Int64} {t : Nat → Int32} {nb : Int32} {bv : Nat → Int32 → Int32 → Int32 → Int32 → Int32 → Int32 → Bool} {pl : va_W}  {p1 : Int32} {res : Int32} {ra_hAt : Nat → Int32} {ra_hMany : Nat → Int32} {rv_hMoved : Int32} {E : EvT} (hE : EvN E) (hPO : PO cA pl ta ba t nb bv) (hF : FX0_right a_hAt a_hMany v_hMoved y_lies t p1 = some (res, ra_hAt, ra_hMany, rv_hMoved)) : MX l yX0_right (ws_ yX0_right cX0_right 2 (Option.some Jvm.ClassFile.FieldType.int)) rm_X0_right D vwA (cT cA) E [.ref (ad 0), .int p1] (cW ad cA sA ta ba na gi rh rt g_sort g_size g_from g_to g_level g_full a_tape a_hAt a_hMany a_tAt a_tMany a_least a_place a_to a_order a_fails a_sKeys a_sRow a_sSlots a_bKeys a_bRow a_bSlots a_easy a_wants a_wantedBy a_ring a_carried a_latest v_taped v_faultKind v_faultPlace v_x v_ordered v_sought v_lastSought v_hMoved v_hWithout v_tMoved v_tWithout v_places v_elsewhere v_sMany v_bMany v_year y_lies a_rsort a_rmany a_nums pl) (fun z => ∃ rh' : Option Nat, z = (cW ad cA sA ta ba na gi rh' rt g_sort g_size g_from g_to g_level g_full a_tape ra_hAt ra_hMany a_tAt a_tMany a_least a_place a_to a_order a_fails a_sKeys a_sRow a_sSlots a_bKeys a_bRow a_bSlots a_easy a_wants a_wantedBy a_ring a_carried a_latest v_taped v_faultKind v_faultPlace v_x v_ordered v_sought v_lastSought rv_hMoved v_hWithout v_tMoved v_tWithout v_places v_elsewhere v_sMany v_bMany v_year y_lies a_rsort a_rmany a_nums pl)) (some (.int res)) := by
  refine MX.ofI (by decide) (Nat.le_of_ble_eq_true rfl) ?_
  intro p e s m args below meth c Q A hX hK hE0 hname hret H locs ls hH hl
  have hX : CallFix p m c cX0_right 2 s args lw_all RX0 := hX
  have hx := hX.1
  have hb := hX.2.1
  have hown := hX.2.2.2.1
  have hts := hX.2.2.2.2
  have hl : lv_has ls 2 [(0, .ref (ad 0)), (1, .int p1)] := hl
  have hEv := hE.1
  have hNW := hE.2.1 _ _ _ hE0
  have hT := hPO.1
  have hB := hPO.2
  delta FX0_right at hF
  refine lv_iload_n hx hb dX0_right_0 rfl (lv_at hl 1 rfl) ?_
  obtain ⟨b_55, he, hF⟩ := bd1e hF
  refine mxS hX hK hEv hE0 hH (met_X0_isWho hE hPO he) gw_StoneYear_286 hd_yX0_isWho ⟨Nat.le_of_ble_eq_true rfl, Nat.le_of_ble_eq_true rfl⟩ rfl rfl hl (Nat.le_of_ble_eq_true rfl) dX0_right_1 ⟨Nat.le_of_ble_eq_true rfl, Nat.le_of_ble_eq_true rfl⟩ (fun w2 H locs hw hH => ?_)
  subst hw
  refine lv_if_eq (tgt := 18) hx hb dX0_right_4 rfl (fun c_56 => ?_) (fun c_56 => ?_)
  · have hF := itp c_56 hF
    refine lv_bipush (v := (-2)) hx hb dX0_right_18 kyb_m2 ?_
    obtain ⟨rfl, rfl, rfl, rfl⟩ := re4 hF
    exact hret _ _ _ _ _ ⟨_, rfl⟩ hH dX0_right_20
  · have hF := itn c_56 hF
    refine lv_aload_n hx hb dX0_right_7 rfl (lv_at hl 0 rfl) ?_
    obtain ⟨a_hAt_57, a_hMany_58, v_hMoved_59, he, hF⟩ := bd3e hF
    refine mxV hX hK hEv hE0 hH (met_X0_here hE hPO he) (crecv hK hH 0 0 rfl rfl) gw_StoneYear_195 hd_yX0_here ⟨Nat.le_of_ble_eq_true rfl, Nat.le_of_ble_eq_true rfl⟩ rfl rfl hl (Nat.le_of_ble_eq_true rfl) dX0_right_8 ⟨Nat.le_of_ble_eq_true rfl, Nat.le_of_ble_eq_true rfl⟩ (fun w2 H locs hw hH => ?_)
    subst hw
    refine lv_iload_n hx hb dX0_right_11 rfl (lv_at hl 1 rfl) ?_
    obtain ⟨x_60, he, hF⟩ := bd1e hF
    refine mxV hX hK hEv hE0 hH (met_X4_right_h hE hPO hT he) (crecv hK hH 4 4 rfl rfl) gw_StoneYear_292 hd_yX4_right ⟨Nat.le_of_ble_eq_true rfl, Nat.le_of_ble_eq_true rfl⟩ rfl rfl hl (Nat.le_of_ble_eq_true rfl) dX0_right_12 ⟨Nat.le_of_ble_eq_true rfl, Nat.le_of_ble_eq_true rfl⟩ (fun w2 H locs hw hH => ?_)
    subst hw
    refine lv_goto (tgt := 20) hx hb dX0_right_15 rfl ?_
    obtain ⟨rfl, rfl, rfl, rfl⟩ := re4 hF
    exact hret _ _ _ _ _ ⟨_, rfl⟩ hH dX0_right_20
abbrev rm_X0_isNumbers : Room := { frames := 1, cells := 0, slots := 0, locals := 25 }
set_option maxHeartbeats 4000000 in
theorem met_X0_isNumbers {l : Launch} {D : va_G} {ad : Nat → Nat} {cA : Nat → ClassId} {sA ta ba na : Nat → Nat} {gi : Nat → Option Nat} {rh : Option Nat} {rt : Option Nat} {g_sort : Int32} {g_size : Int32} {g_from : Int32} {g_to : Int32} {g_level : Int32} {g_full : Int32} {a_tape : Nat → Int32} {a_hAt : Nat → Int32} {a_hMany : Nat → Int32} {a_tAt : Nat → Int32} {a_tMany : Nat → Int32} {a_least : Nat → Int32} {a_place : Nat → Int32} {a_to : Nat → Int32} {a_order : Nat → Int32} {a_fails : Nat → Int32} {a_sKeys : Nat → Int64} {a_sRow : Nat → Int64} {a_sSlots : Nat → Int32} {a_bKeys : Nat → Int64} {a_bRow : Nat → Int64} {a_bSlots : Nat → Int32} {a_easy : Nat → Int32} {a_wants : Nat → Int32} {a_wantedBy : Nat → Int32} {a_ring : Nat → Int32} {a_carried : Nat → Int32} {a_latest : Nat → Int32} {v_taped : Int32} {v_faultKind : Int32} {v_faultPlace : Int32} {v_x : Int32} {v_ordered : Int32} {v_sought : Int32} {v_lastSought : Int32} {v_hMoved : Int32} {v_hWithout : Int32} {v_tMoved : Int32} {v_tWithout : Int32} {v_places : Int32} {v_elsewhere : Int32} {v_sMany : Int32} {v_bMany : Int32} {v_year : Int32} {y_lies : Int64} {a_rsort : Nat → Int32} {a_rmany : Nat → Int32} {a_nums : Nat → Nat → Int64} {t : Nat → Int32} {nb : Int32} {bv : Nat → Int32 → Int32 → Int32 → Int32 → Int32 → Int32 → Bool} {pl : va_W}  {p0 : Int32} {res : Bool} {E : EvT} (hE : EvN E) (hPO : PO cA pl ta ba t nb bv) (hF : FX0_isNumbers p0 = some res) : MX l yX0_isNumbers (ws_ yX0_isNumbers cX0_isNumbers 1 (Option.some Jvm.ClassFile.FieldType.boolean)) rm_X0_isNumbers D vwA (cT cA) E [.int p0] (cW ad cA sA ta ba na gi rh rt g_sort g_size g_from g_to g_level g_full a_tape a_hAt a_hMany a_tAt a_tMany a_least a_place a_to a_order a_fails a_sKeys a_sRow a_sSlots a_bKeys a_bRow a_bSlots a_easy a_wants a_wantedBy a_ring a_carried a_latest v_taped v_faultKind v_faultPlace v_x v_ordered v_sought v_lastSought v_hMoved v_hWithout v_tMoved v_tWithout v_places v_elsewhere v_sMany v_bMany v_year y_lies a_rsort a_rmany a_nums pl) (fun z => z = (cW ad cA sA ta ba na gi rh rt g_sort g_size g_from g_to g_level g_full a_tape a_hAt a_hMany a_tAt a_tMany a_least a_place a_to a_order a_fails a_sKeys a_sRow a_sSlots a_bKeys a_bRow a_bSlots a_easy a_wants a_wantedBy a_ring a_carried a_latest v_taped v_faultKind v_faultPlace v_x v_ordered v_sought v_lastSought v_hMoved v_hWithout v_tMoved v_tWithout v_places v_elsewhere v_sMany v_bMany v_year y_lies a_rsort a_rmany a_nums pl)) (some (.int (b2i res))) := by
  refine MX.ofZ (by decide) (Nat.le_of_ble_eq_true rfl) ?_
  intro p e s m args below meth c Q A hX hK hE0 hname hret H locs ls hH hl
  have hX : CallFix p m c cX0_isNumbers 1 s args lw_all RX0 := hX
  have hx := hX.1
  have hb := hX.2.1
  have hown := hX.2.2.2.1
  have hts := hX.2.2.2.2
  have hl : lv_has ls 1 [(0, .int p0)] := hl
  have hEv := hE.1
  have hNW := hE.2.1 _ _ _ hE0
  have hT := hPO.1
  have hB := hPO.2
  delta FX0_isNumbers at hF
  refine lv_iload_n hx hb dX0_isNumbers_0 rfl (lv_at hl 0 rfl) ?_
  refine lv_i2l (v := (Int32.toInt64 p0)) hx hb dX0_isNumbers_1 rfl ?_
  refine lv_lconst (v := 0) hx hb dX0_isNumbers_2 rfl ?_
  refine lv_ldc2 (v := 3) hx hb hown (hts _ q1191) dX0_isNumbers_3 ?_
  obtain ⟨b_55, he, hF⟩ := bd1e hF
  refine mxS hX hK hEv hE0 hH (met_X0_in hE hPO he) gw_StoneYear_106 hd_yX0_in ⟨Nat.le_of_ble_eq_true rfl, Nat.le_of_ble_eq_true rfl⟩ rfl rfl hl (Nat.le_of_ble_eq_true rfl) dX0_isNumbers_6 ⟨Nat.le_of_ble_eq_true rfl, Nat.le_of_ble_eq_true rfl⟩ (fun w2 H locs hw hH => ?_)
  subst hw
  obtain rfl := Option.some.inj hF
  exact hret _ _ _ _ _ rfl hH dX0_isNumbers_9
abbrev rm_X0_kindOf : Room := { frames := 1, cells := 0, slots := 0, locals := 25 }
set_option maxHeartbeats 4000000 in
theorem met_X0_kindOf {l : Launch} {D : va_G} {ad : Nat → Nat} {cA : Nat → ClassId} {sA ta ba na : Nat → Nat} {gi : Nat → Option Nat} {rh : Option Nat} {rt : Option Nat} {g_sort : Int32} {g_size : Int32} {g_from : Int32} {g_to : Int32} {g_level : Int32} {g_full : Int32} {a_tape : Nat → Int32} {a_hAt : Nat → Int32} {a_hMany : Nat → Int32} {a_tAt : Nat → Int32} {a_tMany : Nat → Int32} {a_least : Nat → Int32} {a_place : Nat → Int32} {a_to : Nat → Int32} {a_order : Nat → Int32} {a_fails : Nat → Int32} {a_sKeys : Nat → Int64} {a_sRow : Nat → Int64} {a_sSlots : Nat → Int32} {a_bKeys : Nat → Int64} {a_bRow : Nat → Int64} {a_bSlots : Nat → Int32} {a_easy : Nat → Int32} {a_wants : Nat → Int32} {a_wantedBy : Nat → Int32} {a_ring : Nat → Int32} {a_carried : Nat → Int32} {a_latest : Nat → Int32} {v_taped : Int32} {v_faultKind : Int32} {v_faultPlace : Int32} {v_x : Int32} {v_ordered : Int32} {v_sought : Int32} {v_lastSought : Int32} {v_hMoved : Int32} {v_hWithout : Int32} {v_tMoved : Int32} {v_tWithout : Int32} {v_places : Int32} {v_elsewhere : Int32} {v_sMany : Int32} {v_bMany : Int32} {v_year : Int32} {y_lies : Int64} {a_rsort : Nat → Int32} {a_rmany : Nat → Int32} {a_nums : Nat → Nat → Int64} {t : Nat → Int32} {nb : Int32} {bv : Nat → Int32 → Int32 → Int32 → Int32 → Int32 → Int32 → Bool} {pl : va_W}  {p0 : Int64} {res : Int32} {E : EvT} (hE : EvN E) (hPO : PO cA pl ta ba t nb bv) (hF : FX0_kindOf p0 = some res) : MX l yX0_kindOf (ws_ yX0_kindOf cX0_kindOf 2 (Option.some Jvm.ClassFile.FieldType.int)) rm_X0_kindOf D vwA (cT cA) E [.long p0] (cW ad cA sA ta ba na gi rh rt g_sort g_size g_from g_to g_level g_full a_tape a_hAt a_hMany a_tAt a_tMany a_least a_place a_to a_order a_fails a_sKeys a_sRow a_sSlots a_bKeys a_bRow a_bSlots a_easy a_wants a_wantedBy a_ring a_carried a_latest v_taped v_faultKind v_faultPlace v_x v_ordered v_sought v_lastSought v_hMoved v_hWithout v_tMoved v_tWithout v_places v_elsewhere v_sMany v_bMany v_year y_lies a_rsort a_rmany a_nums pl) (fun z => z = (cW ad cA sA ta ba na gi rh rt g_sort g_size g_from g_to g_level g_full a_tape a_hAt a_hMany a_tAt a_tMany a_least a_place a_to a_order a_fails a_sKeys a_sRow a_sSlots a_bKeys a_bRow a_bSlots a_easy a_wants a_wantedBy a_ring a_carried a_latest v_taped v_faultKind v_faultPlace v_x v_ordered v_sought v_lastSought v_hMoved v_hWithout v_tMoved v_tWithout v_places v_elsewhere v_sMany v_bMany v_year y_lies a_rsort a_rmany a_nums pl)) (some (.int res)) := by
  refine MX.ofI (by decide) (Nat.le_of_ble_eq_true rfl) ?_
  intro p e s m args below meth c Q A hX hK hE0 hname hret H locs ls hH hl
  have hX : CallFix p m c cX0_kindOf 2 s args lw_all RX0 := hX
  have hx := hX.1
  have hb := hX.2.1
  have hown := hX.2.2.2.1
  have hts := hX.2.2.2.2
  have hl : lv_has ls 2 [(0, .long p0)] := hl
  have hEv := hE.1
  have hNW := hE.2.1 _ _ _ hE0
  have hT := hPO.1
  have hB := hPO.2
  delta FX0_kindOf at hF
  refine lv_lload_n hx hb dX0_kindOf_0 rfl (lv_at hl 0 rfl) ?_
  refine lv_ldc2 (v := (-1)) hx hb hown (hts _ q1153) dX0_kindOf_1 ?_
  refine W.lcmp hx hb dX0_kindOf_4 ?_
  refine lv_if_ne (tgt := 12) hx hb dX0_kindOf_5 rfl (fun c_55 => ?_) (fun c_55 => ?_)
  · have hF := itn c_55 hF
    refine lv_lload_n hx hb dX0_kindOf_12 rfl (lv_at hl 0 rfl) ?_
    refine lv_lconst (v := 0) hx hb dX0_kindOf_13 rfl ?_
    refine lv_ldc2 (v := 99) hx hb hown (hts _ q1210) dX0_kindOf_14 ?_
    obtain ⟨b_56, he, hF⟩ := bd1e hF
    refine mxS hX hK hEv hE0 hH (met_X0_in hE hPO he) gw_StoneYear_106 hd_yX0_in ⟨Nat.le_of_ble_eq_true rfl, Nat.le_of_ble_eq_true rfl⟩ rfl rfl hl (Nat.le_of_ble_eq_true rfl) dX0_kindOf_17 ⟨Nat.le_of_ble_eq_true rfl, Nat.le_of_ble_eq_true rfl⟩ (fun w2 H locs hw hH => ?_)
    subst hw
    refine lv_if_eq (tgt := 27) hx hb dX0_kindOf_20 rfl (fun c_57 => ?_) (fun c_57 => ?_)
    · have hF := itp c_57 hF
      refine lv_lload_n hx hb dX0_kindOf_27 rfl (lv_at hl 0 rfl) ?_
      refine lv_ldc2 (v := 100) hx hb hown (hts _ q1211) dX0_kindOf_28 ?_
      refine lv_ldc2 (v := 199) hx hb hown (hts _ q1212) dX0_kindOf_31 ?_
      obtain ⟨b_58, he, hF⟩ := bd1e hF
      refine mxS hX hK hEv hE0 hH (met_X0_in hE hPO he) gw_StoneYear_106 hd_yX0_in ⟨Nat.le_of_ble_eq_true rfl, Nat.le_of_ble_eq_true rfl⟩ rfl rfl hl (Nat.le_of_ble_eq_true rfl) dX0_kindOf_34 ⟨Nat.le_of_ble_eq_true rfl, Nat.le_of_ble_eq_true rfl⟩ (fun w2 H locs hw hH => ?_)
      subst hw
      refine lv_if_eq (tgt := 44) hx hb dX0_kindOf_37 rfl (fun c_59 => ?_) (fun c_59 => ?_)
      · have hF := itp c_59 hF
        refine lv_iconst (v := (-1)) hx hb dX0_kindOf_44 kyi_m1 ?_
        obtain rfl := Option.some.inj hF
        exact hret _ _ _ _ _ rfl hH dX0_kindOf_45
      · have hF := itn c_59 hF
        refine lv_iconst (v := 1) hx hb dX0_kindOf_40 kyi_1 ?_
        refine lv_goto (tgt := 45) hx hb dX0_kindOf_41 rfl ?_
        obtain rfl := Option.some.inj hF
        exact hret _ _ _ _ _ rfl hH dX0_kindOf_45
    · have hF := itn c_57 hF
      refine lv_iconst (v := 0) hx hb dX0_kindOf_23 kyi_0 ?_
      refine lv_goto (tgt := 45) hx hb dX0_kindOf_24 rfl ?_
      obtain rfl := Option.some.inj hF
      exact hret _ _ _ _ _ rfl hH dX0_kindOf_45
  · have hF := itp c_55 hF
    refine lv_iconst (v := 2) hx hb dX0_kindOf_8 kyi_2 ?_
    refine lv_goto (tgt := 45) hx hb dX0_kindOf_9 rfl ?_
    obtain rfl := Option.some.inj hF
    exact hret _ _ _ _ _ rfl hH dX0_kindOf_45
abbrev rm_X0_whyNot : Room := { frames := 262, cells := 0, slots := 0, locals := 6047 }
set_option maxHeartbeats 4000000 in
theorem met_X0_whyNot {l : Launch} {D : va_G} {ad : Nat → Nat} {cA : Nat → ClassId} {sA ta ba na : Nat → Nat} {gi : Nat → Option Nat} {rt : Option Nat} {g_sort : Int32} {g_size : Int32} {g_from : Int32} {g_to : Int32} {g_level : Int32} {g_full : Int32} {a_tape : Nat → Int32} {a_hAt : Nat → Int32} {a_hMany : Nat → Int32} {a_tAt : Nat → Int32} {a_tMany : Nat → Int32} {a_least : Nat → Int32} {a_place : Nat → Int32} {a_to : Nat → Int32} {a_order : Nat → Int32} {a_fails : Nat → Int32} {a_sKeys : Nat → Int64} {a_sRow : Nat → Int64} {a_sSlots : Nat → Int32} {a_bKeys : Nat → Int64} {a_bRow : Nat → Int64} {a_bSlots : Nat → Int32} {a_easy : Nat → Int32} {a_wants : Nat → Int32} {a_wantedBy : Nat → Int32} {a_ring : Nat → Int32} {a_carried : Nat → Int32} {a_latest : Nat → Int32} {v_taped : Int32} {v_faultKind : Int32} {v_faultPlace : Int32} {v_x : Int32} {v_ordered : Int32} {v_sought : Int32} {v_lastSought : Int32} {v_hMoved : Int32} {v_hWithout : Int32} {v_tMoved : Int32} {v_tWithout : Int32} {v_places : Int32} {v_elsewhere : Int32} {v_sMany : Int32} {v_bMany : Int32} {v_year : Int32} {y_lies : Int64} {a_rsort : Nat → Int32} {a_rmany : Nat → Int32} {a_nums : Nat → Nat → Int64} {t : Nat → Int32} {nb : Int32} {bv : Nat → Int32 → Int32 → Int32 → Int32 → Int32 → Int32 → Bool} {pl : va_W} {tb : Nat → Nat} {u : Nat → Int32}  {p1 : Int64} {p3 : Int32} {res : Int32} {E : EvT} (hE : EvN E) (hPO : PO cA pl ta ba t nb bv) (hU : TownAt cA pl tb u) (hF : FX0_whyNot u a_hAt a_hMany v_hMoved v_hWithout nb bv p1 p3 = some res) : MX l yX0_whyNot (ws_ yX0_whyNot cX0_whyNot 7 (Option.some Jvm.ClassFile.FieldType.int)) rm_X0_whyNot D vwA (cT cA) E [.ref (ad 4), .long p1, .int p3] (cW ad cA sA ta ba na gi (some (tb 0)) rt g_sort g_size g_from g_to g_level g_full a_tape a_hAt a_hMany a_tAt a_tMany a_least a_place a_to a_order a_fails a_sKeys a_sRow a_sSlots a_bKeys a_bRow a_bSlots a_easy a_wants a_wantedBy a_ring a_carried a_latest v_taped v_faultKind v_faultPlace v_x v_ordered v_sought v_lastSought v_hMoved v_hWithout v_tMoved v_tWithout v_places v_elsewhere v_sMany v_bMany v_year y_lies a_rsort a_rmany a_nums pl) (fun z => ∃ g_sort' : Int32, ∃ g_size' : Int32, ∃ g_from' : Int32, ∃ g_to' : Int32, ∃ g_level' : Int32, ∃ g_full' : Int32, z = (cW ad cA sA ta ba na gi (some (tb 0)) rt g_sort' g_size' g_from' g_to' g_level' g_full' a_tape a_hAt a_hMany a_tAt a_tMany a_least a_place a_to a_order a_fails a_sKeys a_sRow a_sSlots a_bKeys a_bRow a_bSlots a_easy a_wants a_wantedBy a_ring a_carried a_latest v_taped v_faultKind v_faultPlace v_x v_ordered v_sought v_lastSought v_hMoved v_hWithout v_tMoved v_tWithout v_places v_elsewhere v_sMany v_bMany v_year y_lies a_rsort a_rmany a_nums pl)) (some (.int res)) := by
  refine MX.ofI (by decide) (Nat.le_of_ble_eq_true rfl) ?_
  intro p e s m args below meth c Q A hX hK hE0 hname hret H locs ls hH hl
  have hX : CallFix p m c cX0_whyNot 7 s args lw_all RX0 := hX
  have hx := hX.1
  have hb := hX.2.1
  have hown := hX.2.2.2.1
  have hts := hX.2.2.2.2
  have hl : lv_has ls 7 [(0, .ref (ad 4)), (1, .long p1), (3, .int p3)] := hl
  have hEv := hE.1
  have hNW := hE.2.1 _ _ _ hE0
  have hT := hPO.1
  have hB := hPO.2
  delta FX0_whyNot at hF
  refine lv_lload_n hx hb dX0_whyNot_0 rfl (lv_at hl 1 rfl) ?_
  obtain ⟨x_57, he, hF⟩ := bd1e hF
  refine mxS hX hK hEv hE0 hH (met_X0_kindOf hE hPO he) gw_StoneYear_301 hd_yX0_kindOf ⟨Nat.le_of_ble_eq_true rfl, Nat.le_of_ble_eq_true rfl⟩ rfl rfl hl (Nat.le_of_ble_eq_true rfl) dX0_whyNot_1 ⟨Nat.le_of_ble_eq_true rfl, Nat.le_of_ble_eq_true rfl⟩ (fun w2 H locs hw hH => ?_)
  subst hw
  refine lv_istore (lv' := [(4, .int x_57), (0, .ref (ad 4)), (1, .long p1), (3, .int p3)]) hx hb dX0_whyNot_4 hl (by decide) rfl (fun ls hl => ?_)
  refine lv_iload hx hb dX0_whyNot_6 (lv_at hl 0 rfl) ?_
  refine lv_iconst (v := 2) hx hb dX0_whyNot_8 kyi_2 ?_
  refine lv_icmp_ne (tgt := 25) hx hb dX0_whyNot_9 rfl (fun c_58 => ?_) (fun c_58 => ?_)
  · have hF := itn c_58 hF
    refine lv_iload hx hb dX0_whyNot_25 (lv_at hl 0 rfl) ?_
    refine lv_iconst (v := (-1)) hx hb dX0_whyNot_27 kyi_m1 ?_
    refine lv_icmp_ne (tgt := 33) hx hb dX0_whyNot_28 rfl (fun c_60 => ?_) (fun c_60 => ?_)
    · have hF := itn c_60 hF
      refine lv_lload_n hx hb dX0_whyNot_33 rfl (lv_at hl 2 rfl) ?_
      refine lv_l2i (v := (Int64.toInt32 p1)) hx hb dX0_whyNot_34 rfl ?_
      refine lv_bipush (v := 100) hx hb dX0_whyNot_35 kyb_100 ?_
      refine lv_irem hx hb dX0_whyNot_37 (by decide) ?_
      refine lv_bipush (v := 10) hx hb dX0_whyNot_38 kyb_10 ?_
      refine lv_idiv hx hb dX0_whyNot_40 (by decide) ?_
      refine lv_istore (lv' := [(5, .int (((Int64.toInt32 p1) - (Int64.toInt32 p1) / 100 * 100) / 10)), (4, .int x_57), (0, .ref (ad 4)), (1, .long p1), (3, .int p3)]) hx hb dX0_whyNot_41 hl (by decide) rfl (fun ls hl => ?_)
      refine lv_lload_n hx hb dX0_whyNot_43 rfl (lv_at hl 3 rfl) ?_
      refine lv_l2i (v := (Int64.toInt32 p1)) hx hb dX0_whyNot_44 rfl ?_
      refine lv_bipush (v := 10) hx hb dX0_whyNot_45 kyb_10 ?_
      refine lv_irem hx hb dX0_whyNot_47 (by decide) ?_
      refine lv_istore (lv' := [(6, .int ((Int64.toInt32 p1) - (Int64.toInt32 p1) / 10 * 10)), (5, .int (((Int64.toInt32 p1) - (Int64.toInt32 p1) / 100 * 100) / 10)), (4, .int x_57), (0, .ref (ad 4)), (1, .long p1), (3, .int p3)]) hx hb dX0_whyNot_48 hl (by decide) rfl (fun ls hl => ?_)
      refine lv_iload hx hb dX0_whyNot_50 (lv_at hl 2 rfl) ?_
      refine lv_if_ne (tgt := 66) hx hb dX0_whyNot_52 rfl (fun c_61 => ?_) (fun c_61 => ?_)
      · have hF := itn c_61 hF
        refine lv_aload_n hx hb dX0_whyNot_66 rfl (lv_at hl 3 rfl) ?_
        refine lv_iload hx hb dX0_whyNot_67 (lv_at hl 1 rfl) ?_
        refine lv_iload hx hb dX0_whyNot_69 (lv_at hl 0 rfl) ?_
        obtain ⟨x_69, he, hF⟩ := bd1e hF
        refine mxV hX hK hEv hE0 hH (met_X4_mayExchange_h hE hPO hU he) (crecv hK hH 4 4 rfl rfl) gw_StoneYear_230 hd_yX4_mayExchange ⟨Nat.le_of_ble_eq_true rfl, Nat.le_of_ble_eq_true rfl⟩ rfl rfl hl (Nat.le_of_ble_eq_true rfl) dX0_whyNot_71 ⟨Nat.le_of_ble_eq_true rfl, Nat.le_of_ble_eq_true rfl⟩ (fun w2 H locs hw hH => ?_)
        obtain ⟨g_sort_70, g_size_71, g_from_72, g_to_73, g_level_74, g_full_75, rfl⟩ := hw
        obtain rfl := Option.some.inj hF
        exact hret _ _ _ _ _ ⟨_, _, _, _, _, _, rfl⟩ hH dX0_whyNot_74
      · have hF := itp c_61 hF
        refine lv_aload_n hx hb dX0_whyNot_55 rfl (lv_at hl 3 rfl) ?_
        refine lv_iload hx hb dX0_whyNot_56 (lv_at hl 1 rfl) ?_
        refine lv_iload hx hb dX0_whyNot_58 (lv_at hl 0 rfl) ?_
        obtain ⟨x_62, he, hF⟩ := bd1e hF
        refine mxV hX hK hEv hE0 hH (met_X4_may_h hE hPO hU he) (crecv hK hH 4 4 rfl rfl) gw_StoneYear_227 hd_yX4_may ⟨Nat.le_of_ble_eq_true rfl, Nat.le_of_ble_eq_true rfl⟩ rfl rfl hl (Nat.le_of_ble_eq_true rfl) dX0_whyNot_60 ⟨Nat.le_of_ble_eq_true rfl, Nat.le_of_ble_eq_true rfl⟩ (fun w2 H locs hw hH => ?_)
        obtain ⟨g_sort_63, g_size_64, g_from_65, g_to_66, g_level_67, g_full_68, rfl⟩ := hw
        refine lv_goto (tgt := 74) hx hb dX0_whyNot_63 rfl ?_
        obtain rfl := Option.some.inj hF
        exact hret _ _ _ _ _ ⟨_, _, _, _, _, _, rfl⟩ hH dX0_whyNot_74
    · have hF := itp c_60 hF
      refine lv_iconst (v := 1) hx hb dX0_whyNot_31 kyi_1 ?_
      obtain rfl := Option.some.inj hF
      exact hret _ _ _ _ _ ⟨_, _, _, _, _, _, rfl⟩ hH dX0_whyNot_32
  · have hF := itp c_58 hF
    refine lv_iload_n hx hb dX0_whyNot_12 rfl (lv_at hl 3 rfl) ?_
    refine lv_sipush (v := 999) hx hb dX0_whyNot_13 kys_999 ?_
    refine lv_icmp_ne (tgt := 23) hx hb dX0_whyNot_16 rfl (fun c_59 => ?_) (fun c_59 => ?_)
    · have hF := itn c_59 hF
      refine lv_iconst (v := 0) hx hb dX0_whyNot_23 kyi_0 ?_
      obtain rfl := Option.some.inj hF
      exact hret _ _ _ _ _ ⟨_, _, _, _, _, _, rfl⟩ hH dX0_whyNot_24
    · have hF := itp c_59 hF
      refine lv_iconst (v := 1) hx hb dX0_whyNot_19 kyi_1 ?_
      refine lv_goto (tgt := 24) hx hb dX0_whyNot_20 rfl ?_
      obtain rfl := Option.some.inj hF
      exact hret _ _ _ _ _ ⟨_, _, _, _, _, _, rfl⟩ hH dX0_whyNot_24
abbrev rm_X0_judge : Room := { frames := 263, cells := 0, slots := 0, locals := 6073 }
set_option maxHeartbeats 4000000 in
theorem met_X0_judge {l : Launch} {D : va_G} {ad : Nat → Nat} {cA : Nat → ClassId} {sA ta ba na : Nat → Nat} {gi : Nat → Option Nat} {rh : Option Nat} {rt : Option Nat} {g_sort : Int32} {g_size : Int32} {g_from : Int32} {g_to : Int32} {g_level : Int32} {g_full : Int32} {a_tape : Nat → Int32} {a_hAt : Nat → Int32} {a_hMany : Nat → Int32} {a_tAt : Nat → Int32} {a_tMany : Nat → Int32} {a_least : Nat → Int32} {a_place : Nat → Int32} {a_to : Nat → Int32} {a_order : Nat → Int32} {a_fails : Nat → Int32} {a_sKeys : Nat → Int64} {a_sRow : Nat → Int64} {a_sSlots : Nat → Int32} {a_bKeys : Nat → Int64} {a_bRow : Nat → Int64} {a_bSlots : Nat → Int32} {a_easy : Nat → Int32} {a_wants : Nat → Int32} {a_wantedBy : Nat → Int32} {a_ring : Nat → Int32} {a_carried : Nat → Int32} {a_latest : Nat → Int32} {v_taped : Int32} {v_faultKind : Int32} {v_faultPlace : Int32} {v_x : Int32} {v_ordered : Int32} {v_sought : Int32} {v_lastSought : Int32} {v_hMoved : Int32} {v_hWithout : Int32} {v_tMoved : Int32} {v_tWithout : Int32} {v_places : Int32} {v_elsewhere : Int32} {v_sMany : Int32} {v_bMany : Int32} {v_year : Int32} {y_lies : Int64} {a_rsort : Nat → Int32} {a_rmany : Nat → Int32} {a_nums : Nat → Nat → Int64} {t : Nat → Int32} {nb : Int32} {bv : Nat → Int32 → Int32 → Int32 → Int32 → Int32 → Int32 → Bool} {pl : va_W}  {p1 : Int32} {p2 : Int32} {res : Int32} {ra_hAt : Nat → Int32} {ra_hMany : Nat → Int32} {rv_hMoved : Int32} {E : EvT} (hE : EvN E) (hPO : PO cA pl ta ba t nb bv) (hF : FX0_judge a_hAt a_hMany v_hMoved v_hWithout v_year y_lies a_rsort a_rmany a_nums t nb bv p1 p2 = some (res, ra_hAt, ra_hMany, rv_hMoved)) : MX l yX0_judge (ws_ yX0_judge cX0_judge 11 (Option.some Jvm.ClassFile.FieldType.int)) rm_X0_judge D vwA (cT cA) E [.ref (ad 0), .int p1, .int p2] (cW ad cA sA ta ba na gi rh rt g_sort g_size g_from g_to g_level g_full a_tape a_hAt a_hMany a_tAt a_tMany a_least a_place a_to a_order a_fails a_sKeys a_sRow a_sSlots a_bKeys a_bRow a_bSlots a_easy a_wants a_wantedBy a_ring a_carried a_latest v_taped v_faultKind v_faultPlace v_x v_ordered v_sought v_lastSought v_hMoved v_hWithout v_tMoved v_tWithout v_places v_elsewhere v_sMany v_bMany v_year y_lies a_rsort a_rmany a_nums pl) (fun z => ∃ rh' : Option Nat, ∃ g_sort' : Int32, ∃ g_size' : Int32, ∃ g_from' : Int32, ∃ g_to' : Int32, ∃ g_level' : Int32, ∃ g_full' : Int32, z = (cW ad cA sA ta ba na gi rh' rt g_sort' g_size' g_from' g_to' g_level' g_full' a_tape ra_hAt ra_hMany a_tAt a_tMany a_least a_place a_to a_order a_fails a_sKeys a_sRow a_sSlots a_bKeys a_bRow a_bSlots a_easy a_wants a_wantedBy a_ring a_carried a_latest v_taped v_faultKind v_faultPlace v_x v_ordered v_sought v_lastSought rv_hMoved v_hWithout v_tMoved v_tWithout v_places v_elsewhere v_sMany v_bMany v_year y_lies a_rsort a_rmany a_nums pl)) (some (.int res)) := by
  refine MX.ofI (by decide) (Nat.le_of_ble_eq_true rfl) ?_
  intro p e s m args below meth c Q A hX hK hE0 hname hret H locs ls hH hl
  have hX : CallFix p m c cX0_judge 11 s args lw_all RX0 := hX
  have hx := hX.1
  have hb := hX.2.1
  have hown := hX.2.2.2.1
  have hts := hX.2.2.2.2
  have hl : lv_has ls 11 [(0, .ref (ad 0)), (1, .int p1), (2, .int p2)] := hl
  have hEv := hE.1
  have hNW := hE.2.1 _ _ _ hE0
  have hT := hPO.1
  have hB := hPO.2
  delta FX0_judge at hF
  refine lv_iload_n hx hb dX0_judge_0 rfl (lv_at hl 1 rfl) ?_
  obtain ⟨b_56, he, hF⟩ := bd1e hF
  refine mxS hX hK hEv hE0 hH (met_X0_isNumbers hE hPO he) gw_StoneYear_305 hd_yX0_isNumbers ⟨Nat.le_of_ble_eq_true rfl, Nat.le_of_ble_eq_true rfl⟩ rfl rfl hl (Nat.le_of_ble_eq_true rfl) dX0_judge_1 ⟨Nat.le_of_ble_eq_true rfl, Nat.le_of_ble_eq_true rfl⟩ (fun w2 H locs hw hH => ?_)
  subst hw
  refine lv_if_eq (tgt := 19) hx hb dX0_judge_4 rfl (fun c_57 => ?_) (fun c_57 => ?_)
  · have hF := itp c_57 hF
    refine lv_bipush (v := (-2)) hx hb dX0_judge_19 kyb_m2 ?_
    obtain ⟨rfl, rfl, rfl, rfl⟩ := re4 hF
    exact hret _ _ _ _ _ ⟨_, _, _, _, _, _, _, rfl⟩ hH dX0_judge_21
  · have hF := itn c_57 hF
    refine lv_iload_n hx hb dX0_judge_7 rfl (lv_at hl 2 rfl) ?_
    refine lv_i2l (v := (Int32.toInt64 p2)) hx hb dX0_judge_8 rfl ?_
    refine lv_lconst (v := 0) hx hb dX0_judge_9 rfl ?_
    refine lv_ldc2 (v := 3) hx hb hown (hts _ q1191) dX0_judge_10 ?_
    obtain ⟨b_58, he, hF⟩ := bd1e hF
    refine mxS hX hK hEv hE0 hH (met_X0_in hE hPO he) gw_StoneYear_106 hd_yX0_in ⟨Nat.le_of_ble_eq_true rfl, Nat.le_of_ble_eq_true rfl⟩ rfl rfl hl (Nat.le_of_ble_eq_true rfl) dX0_judge_13 ⟨Nat.le_of_ble_eq_true rfl, Nat.le_of_ble_eq_true rfl⟩ (fun w2 H locs hw hH => ?_)
    subst hw
    refine lv_if_ne (tgt := 22) hx hb dX0_judge_16 rfl (fun c_59 => ?_) (fun c_59 => ?_)
    · have hF := itn c_59 hF
      refine lv_aload_n hx hb dX0_judge_22 rfl (lv_at hl 0 rfl) ?_
      refine cg_Y_this_rows hX hK hNW hH dX0_judge_23 ?_
      refine lv_iload_n hx hb dX0_judge_26 rfl (lv_at hl 1 rfl) ?_
      obtain ⟨hg_60, hF⟩ := bd0e hF
      refine cl_rows hX hK hH hg_60 dX0_judge_27 ?_
      refine lv_astore_n (lv' := [(3, .ref (ad (29 + p1.toNatClampNeg))), (0, .ref (ad 0)), (1, .int p1), (2, .int p2)]) hx hb dX0_judge_28 rfl hl (by decide) rfl (fun ls hl => ?_)
      refine lv_aload_n hx hb dX0_judge_29 rfl (lv_at hl 0 rfl) ?_
      refine cg_num_held hX hK hNW hH (alg_lt hg_60) dX0_judge_30 ?_
      refine cn_ifnonnull (tgt := 39) hx hb dX0_judge_33 rfl (fun c_61 => ?_) (fun c_61 => ?_)
      · have hF := itn c_61 hF
        refine lv_aload_n hx hb dX0_judge_39 rfl (lv_at hl 1 rfl) ?_
        obtain ⟨a_hAt_62, a_hMany_63, v_hMoved_64, he, hF⟩ := bd3e hF
        refine mxV hX hK hEv hE0 hH (met_X0_here hE hPO he) (crecv hK hH 0 0 rfl rfl) gw_StoneYear_195 hd_yX0_here ⟨Nat.le_of_ble_eq_true rfl, Nat.le_of_ble_eq_true rfl⟩ rfl rfl hl (Nat.le_of_ble_eq_true rfl) dX0_judge_40 ⟨Nat.le_of_ble_eq_true rfl, Nat.le_of_ble_eq_true rfl⟩ (fun w2 H locs hw hH => ?_)
        subst hw
        refine lv_astore (lv' := [(4, .ref (ad 4)), (3, .ref (ad (29 + p1.toNatClampNeg))), (0, .ref (ad 0)), (1, .int p1), (2, .int p2)]) hx hb dX0_judge_43 hl (by decide) rfl (fun ls hl => ?_)
        refine lv_aload_n hx hb dX0_judge_45 rfl (lv_at hl 2 rfl) ?_
        refine cg_Y_this_s hX hK hNW hH dX0_judge_46 ?_
        refine cg_Y_state_year hX hK hNW hH dX0_judge_49 ?_
        refine lv_istore (lv' := [(5, .int v_year), (4, .ref (ad 4)), (3, .ref (ad (29 + p1.toNatClampNeg))), (0, .ref (ad 0)), (1, .int p1), (2, .int p2)]) hx hb dX0_judge_52 hl (by decide) rfl (fun ls hl => ?_)
        refine lv_iconst (v := 0) hx hb dX0_judge_54 kyi_0 ?_
        refine lv_istore (lv' := [(6, .int 0), (5, .int v_year), (4, .ref (ad 4)), (3, .ref (ad (29 + p1.toNatClampNeg))), (0, .ref (ad 0)), (1, .int p1), (2, .int p2)]) hx hb dX0_judge_55 hl (by decide) rfl (fun ls hl => ?_)
        refine lv_iconst (v := 0) hx hb dX0_judge_57 kyi_0 ?_
        refine lv_istore (lv' := [(7, .int 0), (6, .int 0), (5, .int v_year), (4, .ref (ad 4)), (3, .ref (ad (29 + p1.toNatClampNeg))), (0, .ref (ad 0)), (1, .int p1), (2, .int p2)]) hx hb dX0_judge_58 hl (by decide) rfl (fun ls hl => ?_)
        have j175 : ∀ (x_151 : Int32) (x_152 : Int32) (x_153 : Int32) (a_hAt_154 : Nat → Int32) (a_hMany_155 : Nat → Int32) (v_hMoved_156 : Int32), FX0_judge_j175 v_year a_rsort a_rmany t p1 p2 x_151 x_152 x_153 a_hAt_154 a_hMany_155 v_hMoved_156 = some (res, ra_hAt, ra_hMany, rv_hMoved) → ∀ (g_sort_157 : Int32) (g_size_158 : Int32) (g_from_159 : Int32) (g_to_160 : Int32) (g_level_161 : Int32) (g_full_162 : Int32), ∀ (H : Heap) (locs : List Loc) (ls : Array Slot), MH D vwA A s.heap (cW ad cA sA ta ba na gi (some (ta 0)) rt g_sort_157 g_size_158 g_from_159 g_to_160 g_level_161 g_full_162 a_tape a_hAt_154 a_hMany_155 a_tAt a_tMany a_least a_place a_to a_order a_fails a_sKeys a_sRow a_sSlots a_bKeys a_bRow a_bSlots a_easy a_wants a_wantedBy a_ring a_carried a_latest v_taped v_faultKind v_faultPlace v_x v_ordered v_sought v_lastSought v_hMoved_156 v_hWithout v_tMoved v_tWithout v_places v_elsewhere v_sMany v_bMany v_year y_lies a_rsort a_rmany a_nums pl) H locs → lv_has ls 11 [(0, .ref (ad 0)), (2, .int p2), (3, .ref (ad (29 + p1.toNatClampNeg))), (4, .ref (ad 4)), (5, .int x_151), (6, .int x_152), (7, .int x_153)] → W p l e rm_X0_judge s m args below meth c H locs 0 0 Q (F0 m 175 ls []) := by
          intro x_151 x_152 x_153 a_hAt_154 a_hMany_155 v_hMoved_156 hF g_sort_157 g_size_158 g_from_159 g_to_160 g_level_161 g_full_162 H locs ls hH hl
          delta FX0_judge_j175 at hF
          refine lv_iload_n hx hb dX0_judge_175 rfl (lv_at hl 1 rfl) ?_
          refine lv_if_ne (tgt := 197) hx hb dX0_judge_176 rfl (fun c_163 => ?_) (fun c_163 => ?_)
          · have hF := itn c_163 hF
            refine lv_iload_n hx hb dX0_judge_197 rfl (lv_at hl 1 rfl) ?_
            refine lv_iconst (v := 1) hx hb dX0_judge_198 kyi_1 ?_
            refine lv_icmp_ne (tgt := 207) hx hb dX0_judge_199 rfl (fun c_166 => ?_) (fun c_166 => ?_)
            · have hF := itn c_166 hF
              refine lv_iload_n hx hb dX0_judge_207 rfl (lv_at hl 1 rfl) ?_
              refine lv_iconst (v := 2) hx hb dX0_judge_208 kyi_2 ?_
              refine lv_icmp_ne (tgt := 221) hx hb dX0_judge_209 rfl (fun c_167 => ?_) (fun c_167 => ?_)
              · have hF := itn c_167 hF
                refine lv_iload hx hb dX0_judge_221 (lv_at hl 4 rfl) ?_
                refine lv_aload_n hx hb dX0_judge_223 rfl (lv_at hl 0 rfl) ?_
                refine cg_Y_this_s hX hK hNW hH dX0_judge_224 ?_
                refine cg_Y_state_year hX hK hNW hH dX0_judge_227 ?_
                refine lv_isub hx hb dX0_judge_230 ?_
                obtain ⟨rfl, rfl, rfl, rfl⟩ := re4 hF
                exact hret _ _ _ _ _ ⟨_, _, _, _, _, _, _, rfl⟩ hH dX0_judge_231
              · have hF := itp c_167 hF
                refine lv_aload hx hb dX0_judge_212 (lv_at hl 3 rfl) ?_
                refine lv_iconst (v := (-1)) hx hb dX0_judge_214 kyi_m1 ?_
                obtain ⟨x_168, he, hF⟩ := bd1e hF
                refine mxV hX hK hEv hE0 hH (met_X4_right_h hE hPO hT he) (crecv hK hH 4 4 rfl rfl) gw_StoneYear_292 hd_yX4_right ⟨Nat.le_of_ble_eq_true rfl, Nat.le_of_ble_eq_true rfl⟩ rfl rfl hl (Nat.le_of_ble_eq_true rfl) dX0_judge_215 ⟨Nat.le_of_ble_eq_true rfl, Nat.le_of_ble_eq_true rfl⟩ (fun w2 H locs hw hH => ?_)
                subst hw
                refine lv_goto (tgt := 231) hx hb dX0_judge_218 rfl ?_
                obtain ⟨rfl, rfl, rfl, rfl⟩ := re4 hF
                exact hret _ _ _ _ _ ⟨_, _, _, _, _, _, _, rfl⟩ hH dX0_judge_231
            · have hF := itp c_166 hF
              refine lv_iload hx hb dX0_judge_202 (lv_at hl 6 rfl) ?_
              refine lv_goto (tgt := 231) hx hb dX0_judge_204 rfl ?_
              obtain ⟨rfl, rfl, rfl, rfl⟩ := re4 hF
              exact hret _ _ _ _ _ ⟨_, _, _, _, _, _, _, rfl⟩ hH dX0_judge_231
          · have hF := itp c_163 hF
            refine lv_iload hx hb dX0_judge_179 (lv_at hl 5 rfl) ?_
            refine lv_aload_n hx hb dX0_judge_181 rfl (lv_at hl 2 rfl) ?_
            obtain ⟨x_164, he, hF⟩ := bd1e hF
            refine ck_many hPO hX hK hE hE0 hNW hH (alg_lt hg_60) he q1192 hl ⟨Nat.le_of_ble_eq_true rfl, Nat.le_of_ble_eq_true rfl⟩ ⟨Nat.le_of_ble_eq_true rfl, Nat.le_of_ble_eq_true rfl⟩ (Nat.le_of_ble_eq_true rfl) dX0_judge_182 (fun H locs hH => ?_)
            refine lv_icmp_ne (tgt := 192) hx hb dX0_judge_185 rfl (fun c_165 => ?_) (fun c_165 => ?_)
            · have hF := itn c_165 hF
              refine lv_iload hx hb dX0_judge_192 (lv_at hl 5 rfl) ?_
              refine lv_goto (tgt := 231) hx hb dX0_judge_194 rfl ?_
              obtain ⟨rfl, rfl, rfl, rfl⟩ := re4 hF
              exact hret _ _ _ _ _ ⟨_, _, _, _, _, _, _, rfl⟩ hH dX0_judge_231
            · have hF := itp c_165 hF
              refine lv_iconst (v := (-1)) hx hb dX0_judge_188 kyi_m1 ?_
              refine lv_goto (tgt := 231) hx hb dX0_judge_189 rfl ?_
              obtain ⟨rfl, rfl, rfl, rfl⟩ := re4 hF
              exact hret _ _ _ _ _ ⟨_, _, _, _, _, _, _, rfl⟩ hH dX0_judge_231
        obtain ⟨xx60, ee60, kk60_0, kk60_1⟩ := bdS2e hF
        have k60_0 : ∀ (x_127 : Int32) (x_128 : Int32) (x_129 : Int32) (a_hAt_130 : Nat → Int32) (a_hMany_131 : Nat → Int32) (v_hMoved_132 : Int32), xx60 = (.inl (x_127, x_128, x_129, a_hAt_130, a_hMany_131, v_hMoved_132)) → ∀ (g_sort_133 : Int32) (g_size_134 : Int32) (g_from_135 : Int32) (g_to_136 : Int32) (g_level_137 : Int32) (g_full_138 : Int32), ∀ (H : Heap) (locs : List Loc) (ls : Array Slot), MH D vwA A s.heap (cW ad cA sA ta ba na gi (some (ta 0)) rt g_sort_133 g_size_134 g_from_135 g_to_136 g_level_137 g_full_138 a_tape a_hAt_130 a_hMany_131 a_tAt a_tMany a_least a_place a_to a_order a_fails a_sKeys a_sRow a_sSlots a_bKeys a_bRow a_bSlots a_easy a_wants a_wantedBy a_ring a_carried a_latest v_taped v_faultKind v_faultPlace v_x v_ordered v_sought v_lastSought v_hMoved_132 v_hWithout v_tMoved v_tWithout v_places v_elsewhere v_sMany v_bMany v_year y_lies a_rsort a_rmany a_nums pl) H locs → lv_has ls 11 [(0, .ref (ad 0)), (2, .int p2), (3, .ref (ad (29 + p1.toNatClampNeg))), (4, .ref (ad 4)), (5, .int x_127), (6, .int x_128), (7, .int x_129)] → W p l e rm_X0_judge s m args below meth c H locs 0 0 Q (F0 m 93 ls []) := by
          intro x_127 x_128 x_129 a_hAt_130 a_hMany_131 v_hMoved_132 hxx g_sort_133 g_size_134 g_from_135 g_to_136 g_level_137 g_full_138 H locs ls hH hl
          have hF := un6e (kk60_0 (x_127, x_128, x_129, a_hAt_130, a_hMany_131, v_hMoved_132) hxx)
          refine lv_goto (tgt := 175) hx hb dX0_judge_93 rfl ?_
          exact j175 x_127 x_128 x_129 a_hAt_130 a_hMany_131 v_hMoved_132 hF _ _ _ _ _ _ _ _ _ hH (lv_sub hl [0, 1, 2, 3, 4, 5, 6] rfl)
        have k60_1 : ∀ (x_139 : Int32) (x_140 : Int32) (x_141 : Int32) (a_hAt_142 : Nat → Int32) (a_hMany_143 : Nat → Int32) (v_hMoved_144 : Int32), xx60 = (.inr (x_139, x_140, x_141, a_hAt_142, a_hMany_143, v_hMoved_144)) → ∀ (g_sort_145 : Int32) (g_size_146 : Int32) (g_from_147 : Int32) (g_to_148 : Int32) (g_level_149 : Int32) (g_full_150 : Int32), ∀ (H : Heap) (locs : List Loc) (ls : Array Slot), MH D vwA A s.heap (cW ad cA sA ta ba na gi (some (ta 0)) rt g_sort_145 g_size_146 g_from_147 g_to_148 g_level_149 g_full_150 a_tape a_hAt_142 a_hMany_143 a_tAt a_tMany a_least a_place a_to a_order a_fails a_sKeys a_sRow a_sSlots a_bKeys a_bRow a_bSlots a_easy a_wants a_wantedBy a_ring a_carried a_latest v_taped v_faultKind v_faultPlace v_x v_ordered v_sought v_lastSought v_hMoved_144 v_hWithout v_tMoved v_tWithout v_places v_elsewhere v_sMany v_bMany v_year y_lies a_rsort a_rmany a_nums pl) H locs → lv_has ls 11 [(0, .ref (ad 0)), (2, .int p2), (3, .ref (ad (29 + p1.toNatClampNeg))), (4, .ref (ad 4)), (5, .int x_139), (6, .int x_140), (7, .int x_141)] → W p l e rm_X0_judge s m args below meth c H locs 0 0 Q (F0 m 175 ls []) := by
          intro x_139 x_140 x_141 a_hAt_142 a_hMany_143 v_hMoved_144 hxx g_sort_145 g_size_146 g_from_147 g_to_148 g_level_149 g_full_150 H locs ls hH hl
          have hF := un6e (kk60_1 (x_139, x_140, x_141, a_hAt_142, a_hMany_143, v_hMoved_144) hxx)
          exact j175 x_139 x_140 x_141 a_hAt_142 a_hMany_143 v_hMoved_144 hF _ _ _ _ _ _ _ _ _ hH (lv_sub hl [0, 1, 2, 3, 4, 5, 6] rfl)
        obtain ⟨nn60, en60⟩ := loopC_some ee60
        have l60 : ∀ (n : Nat) (x_90 : Int32) (x_91 : Int32) (x_92 : Int32) (a_hAt_93 : Nat → Int32) (a_hMany_94 : Nat → Int32) (v_hMoved_95 : Int32), loopN (fun s => FX0_judge_b60 v_hWithout a_rsort a_rmany a_nums t nb bv p1 s.1 s.2.1 s.2.2.1 s.2.2.2.1 s.2.2.2.2.1 s.2.2.2.2.2) n (x_90, x_91, x_92, a_hAt_93, a_hMany_94, v_hMoved_95) = some xx60 → ∀ (g_sort_96 : Int32) (g_size_97 : Int32) (g_from_98 : Int32) (g_to_99 : Int32) (g_level_100 : Int32) (g_full_101 : Int32), ∀ (H : Heap) (locs : List Loc) (ls : Array Slot), MH D vwA A s.heap (cW ad cA sA ta ba na gi (some (ta 0)) rt g_sort_96 g_size_97 g_from_98 g_to_99 g_level_100 g_full_101 a_tape a_hAt_93 a_hMany_94 a_tAt a_tMany a_least a_place a_to a_order a_fails a_sKeys a_sRow a_sSlots a_bKeys a_bRow a_bSlots a_easy a_wants a_wantedBy a_ring a_carried a_latest v_taped v_faultKind v_faultPlace v_x v_ordered v_sought v_lastSought v_hMoved_95 v_hWithout v_tMoved v_tWithout v_places v_elsewhere v_sMany v_bMany v_year y_lies a_rsort a_rmany a_nums pl) H locs → lv_has ls 11 [(0, .ref (ad 0)), (2, .int p2), (3, .ref (ad (29 + p1.toNatClampNeg))), (4, .ref (ad 4)), (5, .int x_90), (6, .int x_91), (7, .int x_92)] → W p l e rm_X0_judge s m args below meth c H locs 0 0 Q (F0 m 60 ls []) := by
          intro n
          induction n with
          | zero =>
            intro x_90 x_91 x_92 a_hAt_93 a_hMany_94 v_hMoved_95 hN
            exact absurd hN loopN_zero
          | succ n ih =>
            intro x_90 x_91 x_92 a_hAt_93 a_hMany_94 v_hMoved_95 hN g_sort_96 g_size_97 g_from_98 g_to_99 g_level_100 g_full_101 H locs ls hH hl
            obtain ⟨yy60, hB60, hY60⟩ := loopN_succ hN
            have hF : FX0_judge_b60 v_hWithout a_rsort a_rmany a_nums t nb bv p1 x_90 x_91 x_92 a_hAt_93 a_hMany_94 v_hMoved_95 = some yy60 := hB60
            delta FX0_judge_b60 at hF
            refine lv_iload hx hb dX0_judge_60 (lv_at hl 5 rfl) ?_
            refine lv_aload_n hx hb dX0_judge_62 rfl (lv_at hl 2 rfl) ?_
            obtain ⟨x_102, he, hF⟩ := bd1e hF
            refine ck_many hPO hX hK hE hE0 hNW hH (alg_lt hg_60) he q1192 hl ⟨Nat.le_of_ble_eq_true rfl, Nat.le_of_ble_eq_true rfl⟩ ⟨Nat.le_of_ble_eq_true rfl, Nat.le_of_ble_eq_true rfl⟩ (Nat.le_of_ble_eq_true rfl) dX0_judge_63 (fun H locs hH => ?_)
            refine lv_icmp_ge (tgt := 175) hx hb dX0_judge_66 rfl (fun c_103 => ?_) (fun c_103 => ?_)
            · have hF := itp c_103 hF
              obtain rfl := Option.some.inj hF
              exact k60_1 x_90 x_91 x_92 a_hAt_93 a_hMany_94 v_hMoved_95 hY60 _ _ _ _ _ _ _ _ _ hH (lv_sub hl [0, 1, 2, 3, 4, 5, 6] rfl)
            · have hF := itn c_103 hF
              refine lv_aload_n hx hb dX0_judge_69 rfl (lv_at hl 2 rfl) ?_
              refine lv_iload hx hb dX0_judge_70 (lv_at hl 5 rfl) ?_
              obtain ⟨y_104, he, hF⟩ := bd1e hF
              refine ck_number hPO hX hK hE hE0 hNW hH (alg_lt hg_60) he q1200 hl ⟨Nat.le_of_ble_eq_true rfl, Nat.le_of_ble_eq_true rfl⟩ ⟨Nat.le_of_ble_eq_true rfl, Nat.le_of_ble_eq_true rfl⟩ (Nat.le_of_ble_eq_true rfl) dX0_judge_72 (fun H locs hH => ?_)
              refine lv_lstore (lv' := [(8, .long y_104), (0, .ref (ad 0)), (2, .int p2), (3, .ref (ad (29 + p1.toNatClampNeg))), (4, .ref (ad 4)), (5, .int x_90), (6, .int x_91), (7, .int x_92)]) hx hb dX0_judge_75 hl (by decide) rfl (fun ls hl => ?_)
              refine lv_aload hx hb dX0_judge_77 (lv_at hl 4 rfl) ?_
              refine lv_lload hx hb dX0_judge_79 (lv_at hl 0 rfl) ?_
              refine lv_iload hx hb dX0_judge_81 (lv_at hl 5 rfl) ?_
              obtain ⟨x_105, he, hF⟩ := bd1e hF
              refine mxS hX hK hEv hE0 hH (met_X0_whyNot hE hPO hT he) gw_StoneYear_320 hd_yX0_whyNot ⟨Nat.le_of_ble_eq_true rfl, Nat.le_of_ble_eq_true rfl⟩ rfl rfl hl (Nat.le_of_ble_eq_true rfl) dX0_judge_83 ⟨Nat.le_of_ble_eq_true rfl, Nat.le_of_ble_eq_true rfl⟩ (fun w2 H locs hw hH => ?_)
              obtain ⟨g_sort_106, g_size_107, g_from_108, g_to_109, g_level_110, g_full_111, rfl⟩ := hw
              refine lv_istore (lv' := [(7, .int x_105), (8, .long y_104), (0, .ref (ad 0)), (2, .int p2), (3, .ref (ad (29 + p1.toNatClampNeg))), (4, .ref (ad 4)), (5, .int x_90), (6, .int x_91)]) hx hb dX0_judge_86 hl (by decide) rfl (fun ls hl => ?_)
              refine lv_iload hx hb dX0_judge_88 (lv_at hl 0 rfl) ?_
              refine lv_if_eq (tgt := 96) hx hb dX0_judge_90 rfl (fun c_112 => ?_) (fun c_112 => ?_)
              · have hF := itp c_112 hF
                refine lv_lload hx hb dX0_judge_96 (lv_at hl 1 rfl) ?_
                obtain ⟨x_113, he, hF⟩ := bd1e hF
                refine mxS hX hK hEv hE0 hH (met_X0_kindOf hE hPO he) gw_StoneYear_301 hd_yX0_kindOf ⟨Nat.le_of_ble_eq_true rfl, Nat.le_of_ble_eq_true rfl⟩ rfl rfl hl (Nat.le_of_ble_eq_true rfl) dX0_judge_98 ⟨Nat.le_of_ble_eq_true rfl, Nat.le_of_ble_eq_true rfl⟩ (fun w2 H locs hw hH => ?_)
                subst hw
                refine lv_istore (lv' := [(10, .int x_113), (7, .int x_105), (8, .long y_104), (0, .ref (ad 0)), (2, .int p2), (3, .ref (ad (29 + p1.toNatClampNeg))), (4, .ref (ad 4)), (5, .int x_90), (6, .int x_91)]) hx hb dX0_judge_101 hl (by decide) rfl (fun ls hl => ?_)
                refine lv_iload hx hb dX0_judge_103 (lv_at hl 0 rfl) ?_
                refine lv_iconst (v := 2) hx hb dX0_judge_105 kyi_2 ?_
                have j169 : ∀ (x_123 : Int32) (a_hAt_124 : Nat → Int32) (a_hMany_125 : Nat → Int32) (v_hMoved_126 : Int32), FX0_judge_j169 x_91 x_105 x_123 a_hAt_124 a_hMany_125 v_hMoved_126 = some yy60 → ∀ (H : Heap) (locs : List Loc) (ls : Array Slot), MH D vwA A s.heap (cW ad cA sA ta ba na gi (some (ta 0)) rt g_sort_106 g_size_107 g_from_108 g_to_109 g_level_110 g_full_111 a_tape a_hAt_124 a_hMany_125 a_tAt a_tMany a_least a_place a_to a_order a_fails a_sKeys a_sRow a_sSlots a_bKeys a_bRow a_bSlots a_easy a_wants a_wantedBy a_ring a_carried a_latest v_taped v_faultKind v_faultPlace v_x v_ordered v_sought v_lastSought v_hMoved_126 v_hWithout v_tMoved v_tWithout v_places v_elsewhere v_sMany v_bMany v_year y_lies a_rsort a_rmany a_nums pl) H locs → lv_has ls 11 [(0, .ref (ad 0)), (2, .int p2), (3, .ref (ad (29 + p1.toNatClampNeg))), (4, .ref (ad 4)), (5, .int x_123), (6, .int x_91), (7, .int x_105)] → W p l e rm_X0_judge s m args below meth c H locs 0 0 Q (F0 m 169 ls []) := by
                  intro x_123 a_hAt_124 a_hMany_125 v_hMoved_126 hF H locs ls hH hl
                  delta FX0_judge_j169 at hF
                  refine lv_iinc (v := (x_91 + 1)) (lv' := [(6, .int (x_91 + 1)), (0, .ref (ad 0)), (2, .int p2), (3, .ref (ad (29 + p1.toNatClampNeg))), (4, .ref (ad 4)), (5, .int x_123), (7, .int x_105)]) hx hb dX0_judge_169 hl (k := 5) rfl (syc kyi_1) (by decide) rfl (fun ls hl => ?_)
                  refine lv_goto (tgt := 60) hx hb dX0_judge_172 rfl ?_
                  obtain rfl := Option.some.inj hF
                  exact ih x_123 (x_91 + 1) x_105 a_hAt_124 a_hMany_125 v_hMoved_126 hY60 _ _ _ _ _ _ _ _ _ hH (lv_sub hl [1, 2, 3, 4, 5, 0, 6] rfl)
                refine lv_icmp_ne (tgt := 121) hx hb dX0_judge_106 rfl (fun c_114 => ?_) (fun c_114 => ?_)
                · have hF := itn c_114 hF
                  refine lv_iload hx hb dX0_judge_121 (lv_at hl 0 rfl) ?_
                  refine lv_if_ne (tgt := 148) hx hb dX0_judge_123 rfl (fun c_115 => ?_) (fun c_115 => ?_)
                  · have hF := itn c_115 hF
                    refine lv_aload hx hb dX0_judge_148 (lv_at hl 6 rfl) ?_
                    refine lv_lload hx hb dX0_judge_150 (lv_at hl 2 rfl) ?_
                    refine lv_l2i (v := (Int64.toInt32 y_104)) hx hb dX0_judge_152 rfl ?_
                    refine lv_bipush (v := 100) hx hb dX0_judge_153 kyb_100 ?_
                    refine lv_irem hx hb dX0_judge_155 (by decide) ?_
                    refine lv_bipush (v := 10) hx hb dX0_judge_156 kyb_10 ?_
                    refine lv_idiv hx hb dX0_judge_158 (by decide) ?_
                    refine lv_lload hx hb dX0_judge_159 (lv_at hl 2 rfl) ?_
                    refine lv_l2i (v := (Int64.toInt32 y_104)) hx hb dX0_judge_161 rfl ?_
                    refine lv_bipush (v := 10) hx hb dX0_judge_162 kyb_10 ?_
                    refine lv_irem hx hb dX0_judge_164 (by decide) ?_
                    obtain ⟨x_120, a_hAt_121, v_hMoved_122, he, hF⟩ := bd3e hF
                    refine mxV hX hK hEv hE0 hH (met_X4_exchanges_h hE hPO hT he) (crecv hK hH 4 4 rfl rfl) gw_StoneYear_246 hd_yX4_exchanges ⟨Nat.le_of_ble_eq_true rfl, Nat.le_of_ble_eq_true rfl⟩ rfl rfl hl (Nat.le_of_ble_eq_true rfl) dX0_judge_165 ⟨Nat.le_of_ble_eq_true rfl, Nat.le_of_ble_eq_true rfl⟩ (fun w2 H locs hw hH => ?_)
                    subst hw
                    refine lv_pop hx hb dX0_judge_168 rfl ?_
                    exact j169 x_90 a_hAt_121 a_hMany_94 v_hMoved_122 hF _ _ _ hH (lv_sub hl [3, 4, 5, 6, 7, 8, 1] rfl)
                  · have hF := itp c_115 hF
                    refine lv_aload hx hb dX0_judge_126 (lv_at hl 6 rfl) ?_
                    refine lv_lload hx hb dX0_judge_128 (lv_at hl 2 rfl) ?_
                    refine lv_l2i (v := (Int64.toInt32 y_104)) hx hb dX0_judge_130 rfl ?_
                    refine lv_bipush (v := 10) hx hb dX0_judge_131 kyb_10 ?_
                    refine lv_idiv hx hb dX0_judge_133 (by decide) ?_
                    refine lv_lload hx hb dX0_judge_134 (lv_at hl 2 rfl) ?_
                    refine lv_l2i (v := (Int64.toInt32 y_104)) hx hb dX0_judge_136 rfl ?_
                    refine lv_bipush (v := 10) hx hb dX0_judge_137 kyb_10 ?_
                    refine lv_irem hx hb dX0_judge_139 (by decide) ?_
                    refine lv_iconst (v := 1) hx hb dX0_judge_140 kyi_1 ?_
                    obtain ⟨x_116, a_hAt_117, a_hMany_118, v_hMoved_119, he, hF⟩ := bd4e hF
                    refine mxV hX hK hEv hE0 hH (met_X4_carries_h hE hPO hT he) (crecv hK hH 4 4 rfl rfl) gw_StoneYear_236 hd_yX4_carries ⟨Nat.le_of_ble_eq_true rfl, Nat.le_of_ble_eq_true rfl⟩ rfl rfl hl (Nat.le_of_ble_eq_true rfl) dX0_judge_141 ⟨Nat.le_of_ble_eq_true rfl, Nat.le_of_ble_eq_true rfl⟩ (fun w2 H locs hw hH => ?_)
                    subst hw
                    refine lv_pop hx hb dX0_judge_144 rfl ?_
                    refine lv_goto (tgt := 169) hx hb dX0_judge_145 rfl ?_
                    exact j169 x_90 a_hAt_117 a_hMany_118 v_hMoved_119 hF _ _ _ hH (lv_sub hl [3, 4, 5, 6, 7, 8, 1] rfl)
                · have hF := itp c_114 hF
                  refine lv_aload hx hb dX0_judge_109 (lv_at hl 6 rfl) ?_
                  refine lv_iconst (v := 0) hx hb dX0_judge_111 kyi_0 ?_
                  refine cp_Y_stkh_moved hX hK hNW hH dX0_judge_112 (fun H locs hH => ?_)
                  refine lv_iinc (v := (x_90 + 1)) (lv' := [(5, .int (x_90 + 1)), (10, .int x_113), (7, .int x_105), (8, .long y_104), (0, .ref (ad 0)), (2, .int p2), (3, .ref (ad (29 + p1.toNatClampNeg))), (4, .ref (ad 4)), (6, .int x_91)]) hx hb dX0_judge_115 hl (k := 7) rfl (syc kyi_1) (by decide) rfl (fun ls hl => ?_)
                  refine lv_goto (tgt := 169) hx hb dX0_judge_118 rfl ?_
                  exact j169 (x_90 + 1) a_hAt_93 a_hMany_94 0 hF _ _ _ hH (lv_sub hl [4, 5, 6, 7, 0, 8, 2] rfl)
              · have hF := itn c_112 hF
                obtain rfl := Option.some.inj hF
                exact k60_0 x_90 x_91 x_105 a_hAt_93 a_hMany_94 v_hMoved_95 hY60 _ _ _ _ _ _ _ _ _ hH (lv_sub hl [2, 3, 4, 5, 6, 7, 0] rfl)
        exact l60 nn60 v_year 0 0 a_hAt_62 a_hMany_63 v_hMoved_64 en60 _ _ _ _ _ _ _ _ _ hH (lv_sub hl [5, 7, 4, 3, 2, 1, 0] rfl)
      · have hF := itp c_61 hF
        refine lv_bipush (v := (-6)) hx hb dX0_judge_36 kyb_m6 ?_
        obtain ⟨rfl, rfl, rfl, rfl⟩ := re4 hF
        exact hret _ _ _ _ _ ⟨_, _, _, _, _, _, _, rfl⟩ hH dX0_judge_38
    · have hF := itp c_59 hF
      refine lv_bipush (v := (-2)) hx hb dX0_judge_19 kyb_m2 ?_
      obtain ⟨rfl, rfl, rfl, rfl⟩ := re4 hF
      exact hret _ _ _ _ _ ⟨_, _, _, _, _, _, _, rfl⟩ hH dX0_judge_21
abbrev rm_X0_perform : Room := { frames := 263, cells := 0, slots := 0, locals := 6073 }
set_option maxHeartbeats 4000000 in
theorem met_X0_perform {l : Launch} {D : va_G} {ad : Nat → Nat} {cA : Nat → ClassId} {sA ta ba na : Nat → Nat} {gi : Nat → Option Nat} {rh : Option Nat} {rt : Option Nat} {g_sort : Int32} {g_size : Int32} {g_from : Int32} {g_to : Int32} {g_level : Int32} {g_full : Int32} {a_tape : Nat → Int32} {a_hAt : Nat → Int32} {a_hMany : Nat → Int32} {a_tAt : Nat → Int32} {a_tMany : Nat → Int32} {a_least : Nat → Int32} {a_place : Nat → Int32} {a_to : Nat → Int32} {a_order : Nat → Int32} {a_fails : Nat → Int32} {a_sKeys : Nat → Int64} {a_sRow : Nat → Int64} {a_sSlots : Nat → Int32} {a_bKeys : Nat → Int64} {a_bRow : Nat → Int64} {a_bSlots : Nat → Int32} {a_easy : Nat → Int32} {a_wants : Nat → Int32} {a_wantedBy : Nat → Int32} {a_ring : Nat → Int32} {a_carried : Nat → Int32} {a_latest : Nat → Int32} {v_taped : Int32} {v_faultKind : Int32} {v_faultPlace : Int32} {v_x : Int32} {v_ordered : Int32} {v_sought : Int32} {v_lastSought : Int32} {v_hMoved : Int32} {v_hWithout : Int32} {v_tMoved : Int32} {v_tWithout : Int32} {v_places : Int32} {v_elsewhere : Int32} {v_sMany : Int32} {v_bMany : Int32} {v_year : Int32} {y_lies : Int64} {a_rsort : Nat → Int32} {a_rmany : Nat → Int32} {a_nums : Nat → Nat → Int64} {t : Nat → Int32} {nb : Int32} {bv : Nat → Int32 → Int32 → Int32 → Int32 → Int32 → Int32 → Bool} {pl : va_W}  {p1 : Int32} {res : Int32} {ra_hAt : Nat → Int32} {ra_hMany : Nat → Int32} {ra_carried : Nat → Int32} {ra_latest : Nat → Int32} {rv_hMoved : Int32} {rv_year : Int32} {ry_lies : Int64} {E : EvT} (hE : EvN E) (hPO : PO cA pl ta ba t nb bv) (hF : FX0_perform a_hAt a_hMany a_carried a_latest v_hMoved v_hWithout v_year y_lies a_rsort a_rmany a_nums t nb bv p1 = some (res, ra_hAt, ra_hMany, ra_carried, ra_latest, rv_hMoved, rv_year, ry_lies)) : MX l yX0_perform (ws_ yX0_perform cX0_perform 8 (Option.some Jvm.ClassFile.FieldType.int)) rm_X0_perform D vwA (cT cA) E [.ref (ad 0), .int p1] (cW ad cA sA ta ba na gi rh rt g_sort g_size g_from g_to g_level g_full a_tape a_hAt a_hMany a_tAt a_tMany a_least a_place a_to a_order a_fails a_sKeys a_sRow a_sSlots a_bKeys a_bRow a_bSlots a_easy a_wants a_wantedBy a_ring a_carried a_latest v_taped v_faultKind v_faultPlace v_x v_ordered v_sought v_lastSought v_hMoved v_hWithout v_tMoved v_tWithout v_places v_elsewhere v_sMany v_bMany v_year y_lies a_rsort a_rmany a_nums pl) (fun z => ∃ rh' : Option Nat, ∃ g_sort' : Int32, ∃ g_size' : Int32, ∃ g_from' : Int32, ∃ g_to' : Int32, ∃ g_level' : Int32, ∃ g_full' : Int32, z = (cW ad cA sA ta ba na gi rh' rt g_sort' g_size' g_from' g_to' g_level' g_full' a_tape ra_hAt ra_hMany a_tAt a_tMany a_least a_place a_to a_order a_fails a_sKeys a_sRow a_sSlots a_bKeys a_bRow a_bSlots a_easy a_wants a_wantedBy a_ring ra_carried ra_latest v_taped v_faultKind v_faultPlace v_x v_ordered v_sought v_lastSought rv_hMoved v_hWithout v_tMoved v_tWithout v_places v_elsewhere v_sMany v_bMany rv_year ry_lies a_rsort a_rmany a_nums pl)) (some (.int res)) := by
  refine MX.ofI (by decide) (Nat.le_of_ble_eq_true rfl) ?_
  intro p e s m args below meth c Q A hX hK hE0 hname hret H locs ls hH hl
  have hX : CallFix p m c cX0_perform 8 s args lw_all RX0 := hX
  have hx := hX.1
  have hb := hX.2.1
  have hown := hX.2.2.2.1
  have hts := hX.2.2.2.2
  have hl : lv_has ls 8 [(0, .ref (ad 0)), (1, .int p1)] := hl
  have hEv := hE.1
  have hNW := hE.2.1 _ _ _ hE0
  have hT := hPO.1
  have hB := hPO.2
  delta FX0_perform at hF
  refine lv_iload_n hx hb dX0_perform_0 rfl (lv_at hl 1 rfl) ?_
  obtain ⟨b_55, he, hF⟩ := bd1e hF
  refine mxS hX hK hEv hE0 hH (met_X0_isNumbers hE hPO he) gw_StoneYear_305 hd_yX0_isNumbers ⟨Nat.le_of_ble_eq_true rfl, Nat.le_of_ble_eq_true rfl⟩ rfl rfl hl (Nat.le_of_ble_eq_true rfl) dX0_perform_1 ⟨Nat.le_of_ble_eq_true rfl, Nat.le_of_ble_eq_true rfl⟩ (fun w2 H locs hw hH => ?_)
  subst hw
  refine lv_if_ne (tgt := 10) hx hb dX0_perform_4 rfl (fun c_56 => ?_) (fun c_56 => ?_)
  · have hF := itn c_56 hF
    refine lv_aload_n hx hb dX0_perform_10 rfl (lv_at hl 0 rfl) ?_
    refine cg_Y_this_rows hX hK hNW hH dX0_perform_11 ?_
    refine lv_iload_n hx hb dX0_perform_14 rfl (lv_at hl 1 rfl) ?_
    obtain ⟨hg_57, hF⟩ := bd0e hF
    refine cl_rows hX hK hH hg_57 dX0_perform_15 ?_
    refine lv_astore_n (lv' := [(2, .ref (ad (29 + p1.toNatClampNeg))), (0, .ref (ad 0)), (1, .int p1)]) hx hb dX0_perform_16 rfl hl (by decide) rfl (fun ls hl => ?_)
    refine lv_aload_n hx hb dX0_perform_17 rfl (lv_at hl 0 rfl) ?_
    refine cg_num_held hX hK hNW hH (alg_lt hg_57) dX0_perform_18 ?_
    refine cn_ifnonnull (tgt := 27) hx hb dX0_perform_21 rfl (fun c_58 => ?_) (fun c_58 => ?_)
    · have hF := itn c_58 hF
      refine lv_iconst (v := 0) hx hb dX0_perform_27 kyi_0 ?_
      refine lv_istore_n (lv' := [(3, .int 0), (2, .ref (ad (29 + p1.toNatClampNeg))), (0, .ref (ad 0)), (1, .int p1)]) hx hb dX0_perform_28 rfl hl (by decide) rfl (fun ls hl => ?_)
      obtain ⟨xx29, ee29, kk29_0⟩ := bd8L hF
      have k29_0 : ∀ (x_200 : Int32) (a_hAt_201 : Nat → Int32) (a_hMany_202 : Nat → Int32) (a_carried_203 : Nat → Int32) (a_latest_204 : Nat → Int32) (v_hMoved_205 : Int32) (v_year_206 : Int32) (y_lies_207 : Int64), xx29 = (x_200, a_hAt_201, a_hMany_202, a_carried_203, a_latest_204, v_hMoved_205, v_year_206, y_lies_207) → ∀ (rh_208 : Option Nat) (g_sort_209 : Int32) (g_size_210 : Int32) (g_from_211 : Int32) (g_to_212 : Int32) (g_level_213 : Int32) (g_full_214 : Int32), ∀ (H : Heap) (locs : List Loc) (ls : Array Slot), MH D vwA A s.heap (cW ad cA sA ta ba na gi rh_208 rt g_sort_209 g_size_210 g_from_211 g_to_212 g_level_213 g_full_214 a_tape a_hAt_201 a_hMany_202 a_tAt a_tMany a_least a_place a_to a_order a_fails a_sKeys a_sRow a_sSlots a_bKeys a_bRow a_bSlots a_easy a_wants a_wantedBy a_ring a_carried_203 a_latest_204 v_taped v_faultKind v_faultPlace v_x v_ordered v_sought v_lastSought v_hMoved_205 v_hWithout v_tMoved v_tWithout v_places v_elsewhere v_sMany v_bMany v_year_206 y_lies_207 a_rsort a_rmany a_nums pl) H locs → lv_has ls 8 [(3, .int x_200)] → W p l e rm_X0_perform s m args below meth c H locs 0 0 Q (F0 m 147 ls []) := by
        intro x_200 a_hAt_201 a_hMany_202 a_carried_203 a_latest_204 v_hMoved_205 v_year_206 y_lies_207 hxx rh_208 g_sort_209 g_size_210 g_from_211 g_to_212 g_level_213 g_full_214 H locs ls hH hl
        have hF := un8e (kk29_0 (x_200, a_hAt_201, a_hMany_202, a_carried_203, a_latest_204, v_hMoved_205, v_year_206, y_lies_207) hxx)
        refine lv_iload_n hx hb dX0_perform_147 rfl (lv_at hl 0 rfl) ?_
        obtain ⟨rfl, rfl, rfl, rfl, rfl, rfl, rfl, rfl⟩ := re8 hF
        exact hret _ _ _ _ _ ⟨_, _, _, _, _, _, _, rfl⟩ hH dX0_perform_148
      obtain ⟨nn29, en29⟩ := loopC_some ee29
      have l29 : ∀ (n : Nat) (x_122 : Int32) (a_hAt_123 : Nat → Int32) (a_hMany_124 : Nat → Int32) (a_carried_125 : Nat → Int32) (a_latest_126 : Nat → Int32) (v_hMoved_127 : Int32) (v_year_128 : Int32) (y_lies_129 : Int64), loopN (fun s => FX0_perform_b29 v_hWithout a_rsort a_rmany a_nums t nb bv p1 s.1 s.2.1 s.2.2.1 s.2.2.2.1 s.2.2.2.2.1 s.2.2.2.2.2.1 s.2.2.2.2.2.2.1 s.2.2.2.2.2.2.2) n (x_122, a_hAt_123, a_hMany_124, a_carried_125, a_latest_126, v_hMoved_127, v_year_128, y_lies_129) = some xx29 → ∀ (rh_130 : Option Nat) (g_sort_131 : Int32) (g_size_132 : Int32) (g_from_133 : Int32) (g_to_134 : Int32) (g_level_135 : Int32) (g_full_136 : Int32), ∀ (H : Heap) (locs : List Loc) (ls : Array Slot), MH D vwA A s.heap (cW ad cA sA ta ba na gi rh_130 rt g_sort_131 g_size_132 g_from_133 g_to_134 g_level_135 g_full_136 a_tape a_hAt_123 a_hMany_124 a_tAt a_tMany a_least a_place a_to a_order a_fails a_sKeys a_sRow a_sSlots a_bKeys a_bRow a_bSlots a_easy a_wants a_wantedBy a_ring a_carried_125 a_latest_126 v_taped v_faultKind v_faultPlace v_x v_ordered v_sought v_lastSought v_hMoved_127 v_hWithout v_tMoved v_tWithout v_places v_elsewhere v_sMany v_bMany v_year_128 y_lies_129 a_rsort a_rmany a_nums pl) H locs → lv_has ls 8 [(0, .ref (ad 0)), (2, .ref (ad (29 + p1.toNatClampNeg))), (3, .int x_122)] → W p l e rm_X0_perform s m args below meth c H locs 0 0 Q (F0 m 29 ls []) := by
        intro n
        induction n with
        | zero =>
          intro x_122 a_hAt_123 a_hMany_124 a_carried_125 a_latest_126 v_hMoved_127 v_year_128 y_lies_129 hN
          exact absurd hN loopN_zero
        | succ n ih =>
          intro x_122 a_hAt_123 a_hMany_124 a_carried_125 a_latest_126 v_hMoved_127 v_year_128 y_lies_129 hN rh_130 g_sort_131 g_size_132 g_from_133 g_to_134 g_level_135 g_full_136 H locs ls hH hl
          obtain ⟨yy29, hB29, hY29⟩ := loopN_succ hN
          have hF : FX0_perform_b29 v_hWithout a_rsort a_rmany a_nums t nb bv p1 x_122 a_hAt_123 a_hMany_124 a_carried_125 a_latest_126 v_hMoved_127 v_year_128 y_lies_129 = some yy29 := hB29
          delta FX0_perform_b29 at hF
          refine lv_iload_n hx hb dX0_perform_29 rfl (lv_at hl 2 rfl) ?_
          refine lv_aload_n hx hb dX0_perform_30 rfl (lv_at hl 1 rfl) ?_
          obtain ⟨x_137, he, hF⟩ := bd1e hF
          refine ck_many hPO hX hK hE hE0 hNW hH (alg_lt hg_57) he q1192 hl ⟨Nat.le_of_ble_eq_true rfl, Nat.le_of_ble_eq_true rfl⟩ ⟨Nat.le_of_ble_eq_true rfl, Nat.le_of_ble_eq_true rfl⟩ (Nat.le_of_ble_eq_true rfl) dX0_perform_31 (fun H locs hH => ?_)
          refine lv_icmp_ge (tgt := 147) hx hb dX0_perform_34 rfl (fun c_138 => ?_) (fun c_138 => ?_)
          · have hF := itp c_138 hF
            obtain rfl := Option.some.inj hF
            exact k29_0 x_122 a_hAt_123 a_hMany_124 a_carried_125 a_latest_126 v_hMoved_127 v_year_128 y_lies_129 hY29 _ _ _ _ _ _ _ _ _ _ hH (lv_sub hl [2] rfl)
          · have hF := itn c_138 hF
            refine lv_aload_n hx hb dX0_perform_37 rfl (lv_at hl 0 rfl) ?_
            obtain ⟨a_hAt_139, a_hMany_140, v_hMoved_141, he, hF⟩ := bd3e hF
            refine mxV hX hK hEv hE0 hH (met_X0_here hE hPO he) (crecv hK hH 0 0 rfl rfl) gw_StoneYear_195 hd_yX0_here ⟨Nat.le_of_ble_eq_true rfl, Nat.le_of_ble_eq_true rfl⟩ rfl rfl hl (Nat.le_of_ble_eq_true rfl) dX0_perform_38 ⟨Nat.le_of_ble_eq_true rfl, Nat.le_of_ble_eq_true rfl⟩ (fun w2 H locs hw hH => ?_)
            subst hw
            refine lv_aload_n hx hb dX0_perform_41 rfl (lv_at hl 1 rfl) ?_
            refine lv_iload_n hx hb dX0_perform_42 rfl (lv_at hl 2 rfl) ?_
            obtain ⟨y_142, he, hF⟩ := bd1e hF
            refine ck_number hPO hX hK hE hE0 hNW hH (alg_lt hg_57) he q1200 hl ⟨Nat.le_of_ble_eq_true rfl, Nat.le_of_ble_eq_true rfl⟩ ⟨Nat.le_of_ble_eq_true rfl, Nat.le_of_ble_eq_true rfl⟩ (Nat.le_of_ble_eq_true rfl) dX0_perform_43 (fun H locs hH => ?_)
            refine lv_aload_n hx hb dX0_perform_46 rfl (lv_at hl 0 rfl) ?_
            refine cg_Y_this_s hX hK hNW hH dX0_perform_47 ?_
            refine cg_Y_state_year hX hK hNW hH dX0_perform_50 ?_
            obtain ⟨x_143, he, hF⟩ := bd1e hF
            refine mxS hX hK hEv hE0 hH (met_X0_whyNot hE hPO hT he) gw_StoneYear_320 hd_yX0_whyNot ⟨Nat.le_of_ble_eq_true rfl, Nat.le_of_ble_eq_true rfl⟩ rfl rfl hl (Nat.le_of_ble_eq_true rfl) dX0_perform_53 ⟨Nat.le_of_ble_eq_true rfl, Nat.le_of_ble_eq_true rfl⟩ (fun w2 H locs hw hH => ?_)
            obtain ⟨g_sort_144, g_size_145, g_from_146, g_to_147, g_level_148, g_full_149, rfl⟩ := hw
            refine lv_if_ne (tgt := 147) hx hb dX0_perform_56 rfl (fun c_150 => ?_) (fun c_150 => ?_)
            · have hF := itn c_150 hF
              obtain rfl := Option.some.inj hF
              exact k29_0 x_122 a_hAt_139 a_hMany_140 a_carried_125 a_latest_126 v_hMoved_141 v_year_128 y_lies_129 hY29 _ _ _ _ _ _ _ _ _ _ hH (lv_sub hl [2] rfl)
            · have hF := itp c_150 hF
              refine lv_aload_n hx hb dX0_perform_59 rfl (lv_at hl 1 rfl) ?_
              refine lv_iload_n hx hb dX0_perform_60 rfl (lv_at hl 2 rfl) ?_
              obtain ⟨y_151, he, hF⟩ := bd1e hF
              refine ck_number hPO hX hK hE hE0 hNW hH (alg_lt hg_57) he q1200 hl ⟨Nat.le_of_ble_eq_true rfl, Nat.le_of_ble_eq_true rfl⟩ ⟨Nat.le_of_ble_eq_true rfl, Nat.le_of_ble_eq_true rfl⟩ (Nat.le_of_ble_eq_true rfl) dX0_perform_61 (fun H locs hH => ?_)
              refine lv_lstore (lv' := [(4, .long y_151), (0, .ref (ad 0)), (2, .ref (ad (29 + p1.toNatClampNeg))), (3, .int x_122)]) hx hb dX0_perform_64 hl (by decide) rfl (fun ls hl => ?_)
              refine lv_lload hx hb dX0_perform_66 (lv_at hl 0 rfl) ?_
              obtain ⟨x_152, he, hF⟩ := bd1e hF
              refine mxS hX hK hEv hE0 hH (met_X0_kindOf hE hPO he) gw_StoneYear_301 hd_yX0_kindOf ⟨Nat.le_of_ble_eq_true rfl, Nat.le_of_ble_eq_true rfl⟩ rfl rfl hl (Nat.le_of_ble_eq_true rfl) dX0_perform_68 ⟨Nat.le_of_ble_eq_true rfl, Nat.le_of_ble_eq_true rfl⟩ (fun w2 H locs hw hH => ?_)
              subst hw
              refine lv_istore (lv' := [(6, .int x_152), (4, .long y_151), (0, .ref (ad 0)), (2, .ref (ad (29 + p1.toNatClampNeg))), (3, .int x_122)]) hx hb dX0_perform_71 hl (by decide) rfl (fun ls hl => ?_)
              refine lv_iload hx hb dX0_perform_73 (lv_at hl 0 rfl) ?_
              refine lv_iconst (v := 2) hx hb dX0_perform_75 kyi_2 ?_
              have j129 : ∀ (x_184 : Int32) (a_hAt_185 : Nat → Int32) (a_hMany_186 : Nat → Int32) (a_carried_187 : Nat → Int32) (a_latest_188 : Nat → Int32) (v_hMoved_189 : Int32) (v_year_190 : Int32) (y_lies_191 : Int64), FX0_perform_j129 x_122 x_184 a_hAt_185 a_hMany_186 a_carried_187 a_latest_188 v_hMoved_189 v_year_190 y_lies_191 = some yy29 → ∀ (g_sort_192 : Int32) (g_size_193 : Int32) (g_from_194 : Int32) (g_to_195 : Int32) (g_level_196 : Int32) (g_full_197 : Int32), ∀ (H : Heap) (locs : List Loc) (ls : Array Slot), MH D vwA A s.heap (cW ad cA sA ta ba na gi (some (ta 0)) rt g_sort_192 g_size_193 g_from_194 g_to_195 g_level_196 g_full_197 a_tape a_hAt_185 a_hMany_186 a_tAt a_tMany a_least a_place a_to a_order a_fails a_sKeys a_sRow a_sSlots a_bKeys a_bRow a_bSlots a_easy a_wants a_wantedBy a_ring a_carried_187 a_latest_188 v_taped v_faultKind v_faultPlace v_x v_ordered v_sought v_lastSought v_hMoved_189 v_hWithout v_tMoved v_tWithout v_places v_elsewhere v_sMany v_bMany v_year_190 y_lies_191 a_rsort a_rmany a_nums pl) H locs → lv_has ls 8 [(0, .ref (ad 0)), (2, .ref (ad (29 + p1.toNatClampNeg))), (3, .int x_122)] → W p l e rm_X0_perform s m args below meth c H locs 0 0 Q (F0 m 129 ls [.int x_184]) := by
                intro x_184 a_hAt_185 a_hMany_186 a_carried_187 a_latest_188 v_hMoved_189 v_year_190 y_lies_191 hF g_sort_192 g_size_193 g_from_194 g_to_195 g_level_196 g_full_197 H locs ls hH hl
                delta FX0_perform_j129 at hF
                refine lv_istore (lv' := [(7, .int x_184), (0, .ref (ad 0)), (2, .ref (ad (29 + p1.toNatClampNeg))), (3, .int x_122)]) hx hb dX0_perform_129 hl (by decide) rfl (fun ls hl => ?_)
                refine lv_iload_n hx hb dX0_perform_131 rfl (lv_at hl 3 rfl) ?_
                refine lv_iload hx hb dX0_perform_132 (lv_at hl 0 rfl) ?_
                have j142 : ∀ (x_199 : Int32), FX0_perform_j142 x_122 a_hAt_185 a_hMany_186 a_carried_187 a_latest_188 v_hMoved_189 v_year_190 y_lies_191 x_199 = some yy29 → ∀ (H : Heap) (locs : List Loc) (ls : Array Slot), MH D vwA A s.heap (cW ad cA sA ta ba na gi (some (ta 0)) rt g_sort_192 g_size_193 g_from_194 g_to_195 g_level_196 g_full_197 a_tape a_hAt_185 a_hMany_186 a_tAt a_tMany a_least a_place a_to a_order a_fails a_sKeys a_sRow a_sSlots a_bKeys a_bRow a_bSlots a_easy a_wants a_wantedBy a_ring a_carried_187 a_latest_188 v_taped v_faultKind v_faultPlace v_x v_ordered v_sought v_lastSought v_hMoved_189 v_hWithout v_tMoved v_tWithout v_places v_elsewhere v_sMany v_bMany v_year_190 y_lies_191 a_rsort a_rmany a_nums pl) H locs → lv_has ls 8 [(0, .ref (ad 0)), (2, .ref (ad (29 + p1.toNatClampNeg)))] → W p l e rm_X0_perform s m args below meth c H locs 0 0 Q (F0 m 142 ls [.int x_199, .int x_122]) := by
                  intro x_199 hF H locs ls hH hl
                  delta FX0_perform_j142 at hF
                  refine lv_iadd hx hb dX0_perform_142 ?_
                  refine lv_istore_n (lv' := [(3, .int (x_122 + x_199)), (0, .ref (ad 0)), (2, .ref (ad (29 + p1.toNatClampNeg)))]) hx hb dX0_perform_143 rfl hl (by decide) rfl (fun ls hl => ?_)
                  refine lv_goto (tgt := 29) hx hb dX0_perform_144 rfl ?_
                  obtain rfl := Option.some.inj hF
                  exact ih (x_122 + x_199) a_hAt_185 a_hMany_186 a_carried_187 a_latest_188 v_hMoved_189 v_year_190 y_lies_191 hY29 _ _ _ _ _ _ _ _ _ _ hH (lv_sub hl [1, 2, 0] rfl)
                refine lv_if_lt (tgt := 141) hx hb dX0_perform_134 rfl (fun c_198 => ?_) (fun c_198 => ?_)
                · have hF := itp c_198 hF
                  refine lv_iconst (v := 0) hx hb dX0_perform_141 kyi_0 ?_
                  exact j142 0 hF _ _ _ hH (lv_sub hl [1, 2] rfl)
                · have hF := itn c_198 hF
                  refine lv_iconst (v := 1) hx hb dX0_perform_137 kyi_1 ?_
                  refine lv_goto (tgt := 142) hx hb dX0_perform_138 rfl ?_
                  exact j142 1 hF _ _ _ hH (lv_sub hl [1, 2] rfl)
              refine lv_icmp_ne (tgt := 86) hx hb dX0_perform_76 rfl (fun c_153 => ?_) (fun c_153 => ?_)
              · have hF := itn c_153 hF
                refine lv_iload hx hb dX0_perform_86 (lv_at hl 0 rfl) ?_
                refine lv_if_ne (tgt := 110) hx hb dX0_perform_88 rfl (fun c_157 => ?_) (fun c_157 => ?_)
                · have hF := itn c_157 hF
                  refine lv_aload_n hx hb dX0_perform_110 rfl (lv_at hl 2 rfl) ?_
                  refine lv_lload hx hb dX0_perform_111 (lv_at hl 1 rfl) ?_
                  refine lv_l2i (v := (Int64.toInt32 y_151)) hx hb dX0_perform_113 rfl ?_
                  refine lv_bipush (v := 100) hx hb dX0_perform_114 kyb_100 ?_
                  refine lv_irem hx hb dX0_perform_116 (by decide) ?_
                  refine lv_bipush (v := 10) hx hb dX0_perform_117 kyb_10 ?_
                  refine lv_idiv hx hb dX0_perform_119 (by decide) ?_
                  refine lv_lload hx hb dX0_perform_120 (lv_at hl 1 rfl) ?_
                  refine lv_l2i (v := (Int64.toInt32 y_151)) hx hb dX0_perform_122 rfl ?_
                  refine lv_bipush (v := 10) hx hb dX0_perform_123 kyb_10 ?_
                  refine lv_irem hx hb dX0_perform_125 (by decide) ?_
                  obtain ⟨x_171, a_hAt_172, a_hMany_173, a_carried_174, a_latest_175, v_hMoved_176, y_lies_177, he, hF⟩ := bd7e hF
                  refine mxV hX hK hEv hE0 hH (met_X0_exchange hE hPO he) (crecv hK hH 0 0 rfl rfl) gw_StoneYear_332 hd_yX0_exchange ⟨Nat.le_of_ble_eq_true rfl, Nat.le_of_ble_eq_true rfl⟩ rfl rfl hl (Nat.le_of_ble_eq_true rfl) dX0_perform_126 ⟨Nat.le_of_ble_eq_true rfl, Nat.le_of_ble_eq_true rfl⟩ (fun w2 H locs hw hH => ?_)
                  obtain ⟨g_sort_178, g_size_179, g_from_180, g_to_181, g_level_182, g_full_183, rfl⟩ := hw
                  exact j129 x_171 a_hAt_172 a_hMany_173 a_carried_174 a_latest_175 v_hMoved_176 v_year_128 y_lies_177 hF _ _ _ _ _ _ _ _ _ hH (lv_sub hl [2, 3, 4] rfl)
                · have hF := itp c_157 hF
                  refine lv_aload_n hx hb dX0_perform_91 rfl (lv_at hl 2 rfl) ?_
                  refine lv_lload hx hb dX0_perform_92 (lv_at hl 1 rfl) ?_
                  refine lv_l2i (v := (Int64.toInt32 y_151)) hx hb dX0_perform_94 rfl ?_
                  refine lv_bipush (v := 10) hx hb dX0_perform_95 kyb_10 ?_
                  refine lv_idiv hx hb dX0_perform_97 (by decide) ?_
                  refine lv_lload hx hb dX0_perform_98 (lv_at hl 1 rfl) ?_
                  refine lv_l2i (v := (Int64.toInt32 y_151)) hx hb dX0_perform_100 rfl ?_
                  refine lv_bipush (v := 10) hx hb dX0_perform_101 kyb_10 ?_
                  refine lv_irem hx hb dX0_perform_103 (by decide) ?_
                  obtain ⟨x_158, a_hAt_159, a_hMany_160, a_carried_161, a_latest_162, v_hMoved_163, y_lies_164, he, hF⟩ := bd7e hF
                  refine mxV hX hK hEv hE0 hH (met_X0_carry hE hPO he) (crecv hK hH 0 0 rfl rfl) gw_StoneYear_329 hd_yX0_carry ⟨Nat.le_of_ble_eq_true rfl, Nat.le_of_ble_eq_true rfl⟩ rfl rfl hl (Nat.le_of_ble_eq_true rfl) dX0_perform_104 ⟨Nat.le_of_ble_eq_true rfl, Nat.le_of_ble_eq_true rfl⟩ (fun w2 H locs hw hH => ?_)
                  obtain ⟨g_sort_165, g_size_166, g_from_167, g_to_168, g_level_169, g_full_170, rfl⟩ := hw
                  refine lv_goto (tgt := 129) hx hb dX0_perform_107 rfl ?_
                  exact j129 x_158 a_hAt_159 a_hMany_160 a_carried_161 a_latest_162 v_hMoved_163 v_year_128 y_lies_164 hF _ _ _ _ _ _ _ _ _ hH (lv_sub hl [2, 3, 4] rfl)
              · have hF := itp c_153 hF
                refine lv_aload_n hx hb dX0_perform_79 rfl (lv_at hl 2 rfl) ?_
                obtain ⟨x_154, v_year_155, y_lies_156, he, hF⟩ := bd3e hF
                refine mxV hX hK hEv hE0 hH (met_X0_year hE hPO he) (crecv hK hH 0 0 rfl rfl) gw_StoneYear_327 hd_yX0_year ⟨Nat.le_of_ble_eq_true rfl, Nat.le_of_ble_eq_true rfl⟩ rfl rfl hl (Nat.le_of_ble_eq_true rfl) dX0_perform_80 ⟨Nat.le_of_ble_eq_true rfl, Nat.le_of_ble_eq_true rfl⟩ (fun w2 H locs hw hH => ?_)
                subst hw
                refine lv_goto (tgt := 129) hx hb dX0_perform_83 rfl ?_
                exact j129 x_154 a_hAt_139 a_hMany_140 a_carried_125 a_latest_126 v_hMoved_141 v_year_155 y_lies_156 hF _ _ _ _ _ _ _ _ _ hH (lv_sub hl [2, 3, 4] rfl)
      exact l29 nn29 0 a_hAt a_hMany a_carried a_latest v_hMoved v_year y_lies en29 _ _ _ _ _ _ _ _ _ _ hH (lv_sub hl [2, 1, 0] rfl)
    · have hF := itp c_58 hF
      refine lv_bipush (v := (-6)) hx hb dX0_perform_24 kyb_m6 ?_
      obtain ⟨rfl, rfl, rfl, rfl, rfl, rfl, rfl, rfl⟩ := re8 hF
      exact hret _ _ _ _ _ ⟨_, _, _, _, _, _, _, rfl⟩ hH dX0_perform_26
  · have hF := itp c_56 hF
    refine lv_bipush (v := (-2)) hx hb dX0_perform_7 kyb_m2 ?_
    obtain ⟨rfl, rfl, rfl, rfl, rfl, rfl, rfl, rfl⟩ := re8 hF
    exact hret _ _ _ _ _ ⟨_, _, _, _, _, _, _, rfl⟩ hH dX0_perform_9
abbrev rm_X5_at : Room := { frames := 0, cells := 0, slots := 0, locals := 0 }
set_option maxHeartbeats 4000000 in
theorem met_X5_at {l : Launch} {D : va_G} {ad : Nat → Nat} {cA : Nat → ClassId} {sA ta ba na : Nat → Nat} {gi : Nat → Option Nat} {rh : Option Nat} {rt : Option Nat} {g_sort : Int32} {g_size : Int32} {g_from : Int32} {g_to : Int32} {g_level : Int32} {g_full : Int32} {a_tape : Nat → Int32} {a_hAt : Nat → Int32} {a_hMany : Nat → Int32} {a_tAt : Nat → Int32} {a_tMany : Nat → Int32} {a_least : Nat → Int32} {a_place : Nat → Int32} {a_to : Nat → Int32} {a_order : Nat → Int32} {a_fails : Nat → Int32} {a_sKeys : Nat → Int64} {a_sRow : Nat → Int64} {a_sSlots : Nat → Int32} {a_bKeys : Nat → Int64} {a_bRow : Nat → Int64} {a_bSlots : Nat → Int32} {a_easy : Nat → Int32} {a_wants : Nat → Int32} {a_wantedBy : Nat → Int32} {a_ring : Nat → Int32} {a_carried : Nat → Int32} {a_latest : Nat → Int32} {v_taped : Int32} {v_faultKind : Int32} {v_faultPlace : Int32} {v_x : Int32} {v_ordered : Int32} {v_sought : Int32} {v_lastSought : Int32} {v_hMoved : Int32} {v_hWithout : Int32} {v_tMoved : Int32} {v_tWithout : Int32} {v_places : Int32} {v_elsewhere : Int32} {v_sMany : Int32} {v_bMany : Int32} {v_year : Int32} {y_lies : Int64} {a_rsort : Nat → Int32} {a_rmany : Nat → Int32} {a_nums : Nat → Nat → Int64} {t : Nat → Int32} {nb : Int32} {bv : Nat → Int32 → Int32 → Int32 → Int32 → Int32 → Int32 → Bool} {pl : va_W}  {p1 : Int32} {p2 : Int32} {res : Int32} {E : EvT} (hE : EvN E) (hPO : PO cA pl ta ba t nb bv) (hF : FX5_at p1 p2 = some res) : MX l yX5_at (ws_ yX5_at cX5_at 3 (Option.some Jvm.ClassFile.FieldType.int)) rm_X5_at D vwA (cT cA) E [.ref (ad 10), .int p1, .int p2] (cW ad cA sA ta ba na gi rh rt g_sort g_size g_from g_to g_level g_full a_tape a_hAt a_hMany a_tAt a_tMany a_least a_place a_to a_order a_fails a_sKeys a_sRow a_sSlots a_bKeys a_bRow a_bSlots a_easy a_wants a_wantedBy a_ring a_carried a_latest v_taped v_faultKind v_faultPlace v_x v_ordered v_sought v_lastSought v_hMoved v_hWithout v_tMoved v_tWithout v_places v_elsewhere v_sMany v_bMany v_year y_lies a_rsort a_rmany a_nums pl) (fun z => z = (cW ad cA sA ta ba na gi rh rt g_sort g_size g_from g_to g_level g_full a_tape a_hAt a_hMany a_tAt a_tMany a_least a_place a_to a_order a_fails a_sKeys a_sRow a_sSlots a_bKeys a_bRow a_bSlots a_easy a_wants a_wantedBy a_ring a_carried a_latest v_taped v_faultKind v_faultPlace v_x v_ordered v_sought v_lastSought v_hMoved v_hWithout v_tMoved v_tWithout v_places v_elsewhere v_sMany v_bMany v_year y_lies a_rsort a_rmany a_nums pl)) (some (.int res)) := by
  refine MX.ofI (by decide) (Nat.le_of_ble_eq_true rfl) ?_
  intro p e s m args below meth c Q A hX hK hE0 hname hret H locs ls hH hl
  have hX : CallFix p m c cX5_at 3 s args lw_all RX5 := hX
  have hx := hX.1
  have hb := hX.2.1
  have hown := hX.2.2.2.1
  have hts := hX.2.2.2.2
  have hl : lv_has ls 3 [(0, .ref (ad 10)), (1, .int p1), (2, .int p2)] := hl
  have hEv := hE.1
  have hNW := hE.2.1 _ _ _ hE0
  have hT := hPO.1
  have hB := hPO.2
  delta FX5_at at hF
  refine lv_iload_n hx hb dX5_at_0 rfl (lv_at hl 1 rfl) ?_
  refine lv_bipush (v := 15) hx hb dX5_at_1 kyb_15 ?_
  refine lv_ishl hx hb dX5_at_3 ?_
  refine lv_iload_n hx hb dX5_at_4 rfl (lv_at hl 2 rfl) ?_
  refine lv_ior hx hb dX5_at_5 ?_
  obtain rfl := Option.some.inj hF
  exact hret _ _ _ _ _ rfl hH dX5_at_6
abbrev rm_X5_can : Room := { frames := 5, cells := 0, slots := 0, locals := 164 }
set_option maxHeartbeats 4000000 in
theorem met_X5_can {l : Launch} {D : va_G} {ad : Nat → Nat} {cA : Nat → ClassId} {sA ta ba na : Nat → Nat} {gi : Nat → Option Nat} {rh : Option Nat} {rt : Option Nat} {g_sort : Int32} {g_size : Int32} {g_from : Int32} {g_to : Int32} {g_level : Int32} {g_full : Int32} {a_tape : Nat → Int32} {a_hAt : Nat → Int32} {a_hMany : Nat → Int32} {a_tAt : Nat → Int32} {a_tMany : Nat → Int32} {a_least : Nat → Int32} {a_place : Nat → Int32} {a_to : Nat → Int32} {a_order : Nat → Int32} {a_fails : Nat → Int32} {a_sKeys : Nat → Int64} {a_sRow : Nat → Int64} {a_sSlots : Nat → Int32} {a_bKeys : Nat → Int64} {a_bRow : Nat → Int64} {a_bSlots : Nat → Int32} {a_easy : Nat → Int32} {a_wants : Nat → Int32} {a_wantedBy : Nat → Int32} {a_ring : Nat → Int32} {a_carried : Nat → Int32} {a_latest : Nat → Int32} {v_taped : Int32} {v_faultKind : Int32} {v_faultPlace : Int32} {v_x : Int32} {v_ordered : Int32} {v_sought : Int32} {v_lastSought : Int32} {v_hMoved : Int32} {v_hWithout : Int32} {v_tMoved : Int32} {v_tWithout : Int32} {v_places : Int32} {v_elsewhere : Int32} {v_sMany : Int32} {v_bMany : Int32} {v_year : Int32} {y_lies : Int64} {a_rsort : Nat → Int32} {a_rmany : Nat → Int32} {a_nums : Nat → Nat → Int64} {t : Nat → Int32} {nb : Int32} {bv : Nat → Int32 → Int32 → Int32 → Int32 → Int32 → Int32 → Bool} {pl : va_W}  {p1 : Int32} {p2 : Int32} {p3 : Int32} {res : Bool} {E : EvT} (hE : EvN E) (hPO : PO cA pl ta ba t nb bv) (hF : FX5_can a_place y_lies t p1 p2 p3 = some res) : MX l yX5_can (ws_ yX5_can cX5_can 4 (Option.some Jvm.ClassFile.FieldType.boolean)) rm_X5_can D vwA (cT cA) E [.ref (ad 10), .int p1, .int p2, .int p3] (cW ad cA sA ta ba na gi rh rt g_sort g_size g_from g_to g_level g_full a_tape a_hAt a_hMany a_tAt a_tMany a_least a_place a_to a_order a_fails a_sKeys a_sRow a_sSlots a_bKeys a_bRow a_bSlots a_easy a_wants a_wantedBy a_ring a_carried a_latest v_taped v_faultKind v_faultPlace v_x v_ordered v_sought v_lastSought v_hMoved v_hWithout v_tMoved v_tWithout v_places v_elsewhere v_sMany v_bMany v_year y_lies a_rsort a_rmany a_nums pl) (fun z => z = (cW ad cA sA ta ba na gi rh rt g_sort g_size g_from g_to g_level g_full a_tape a_hAt a_hMany a_tAt a_tMany a_least a_place a_to a_order a_fails a_sKeys a_sRow a_sSlots a_bKeys a_bRow a_bSlots a_easy a_wants a_wantedBy a_ring a_carried a_latest v_taped v_faultKind v_faultPlace v_x v_ordered v_sought v_lastSought v_hMoved v_hWithout v_tMoved v_tWithout v_places v_elsewhere v_sMany v_bMany v_year y_lies a_rsort a_rmany a_nums pl)) (some (.int (b2i res))) := by
  refine MX.ofZ (by decide) (Nat.le_of_ble_eq_true rfl) ?_
  intro p e s m args below meth c Q A hX hK hE0 hname hret H locs ls hH hl
  have hX : CallFix p m c cX5_can 4 s args lw_all RX5 := hX
  have hx := hX.1
  have hb := hX.2.1
  have hown := hX.2.2.2.1
  have hts := hX.2.2.2.2
  have hl : lv_has ls 4 [(0, .ref (ad 10)), (1, .int p1), (2, .int p2), (3, .int p3)] := hl
  have hEv := hE.1
  have hNW := hE.2.1 _ _ _ hE0
  have hT := hPO.1
  have hB := hPO.2
  delta FX5_can at hF
  refine lv_aload_n hx hb dX5_can_0 rfl (lv_at hl 0 rfl) ?_
  refine cg_Y_Match_match_this0 hX hK hNW hH dX5_can_1 ?_
  refine lv_iload_n hx hb dX5_can_4 rfl (lv_at hl 1 rfl) ?_
  obtain ⟨b_57, he, hF⟩ := bd1e hF
  refine mxVN hX hK hEv hE0 hH (met_X0_isThere hE hPO he) (crecv hK hH 0 0 rfl rfl) (lw_meth q973) (hNW _ nw_q1242) q129 q972 qs27 hd_yX0_isThere.2 ⟨Nat.le_of_ble_eq_true rfl, Nat.le_of_ble_eq_true rfl⟩ rfl rfl hl (Nat.le_of_ble_eq_true rfl) dX5_can_5 ⟨Nat.le_of_ble_eq_true rfl, Nat.le_of_ble_eq_true rfl⟩ (fun w2 H locs hw hH => ?_)
  subst hw
  refine lv_if_eq (tgt := 69) hx hb dX5_can_8 rfl (fun c_58 => ?_) (fun c_58 => ?_)
  · have hF := itp c_58 hF
    refine lv_iconst (v := 0) hx hb dX5_can_69 kyi_0 ?_
    obtain rfl := Option.some.inj hF
    exact hret _ _ _ _ _ rfl hH dX5_can_70
  · have hF := itn c_58 hF
    refine lv_iload_n hx hb dX5_can_11 rfl (lv_at hl 3 rfl) ?_
    refine lv_iload_n hx hb dX5_can_12 rfl (lv_at hl 2 rfl) ?_
    obtain ⟨b_59, he, hF⟩ := bd1e hF
    refine mxSN hX hK hEv hE0 hH (met_X0_has hE hPO he) (lw_meth q1040) (hNW _ nw_q1243) q129 q1039 hd_yX0_has ⟨Nat.le_of_ble_eq_true rfl, Nat.le_of_ble_eq_true rfl⟩ rfl rfl hl (Nat.le_of_ble_eq_true rfl) dX5_can_13 ⟨Nat.le_of_ble_eq_true rfl, Nat.le_of_ble_eq_true rfl⟩ (fun w2 H locs hw hH => ?_)
    subst hw
    refine lv_if_ne (tgt := 69) hx hb dX5_can_16 rfl (fun c_60 => ?_) (fun c_60 => ?_)
    · have hF := itn c_60 hF
      refine lv_iconst (v := 0) hx hb dX5_can_69 kyi_0 ?_
      obtain rfl := Option.some.inj hF
      exact hret _ _ _ _ _ rfl hH dX5_can_70
    · have hF := itp c_60 hF
      refine lv_aload_n hx hb dX5_can_19 rfl (lv_at hl 0 rfl) ?_
      refine cg_Y_Match_match_this0 hX hK hNW hH dX5_can_20 ?_
      refine cg_Y_Match_this_s hX hK hNW hH dX5_can_23 ?_
      refine cg_Y_Match_state_town hX hK hNW hH dX5_can_26 ?_
      refine lv_aload_n hx hb dX5_can_29 rfl (lv_at hl 0 rfl) ?_
      refine cg_Y_Match_match_place hX hK hNW hH dX5_can_30 ?_
      refine lv_iload_n hx hb dX5_can_33 rfl (lv_at hl 2 rfl) ?_
      obtain ⟨x_61, he, hF⟩ := bd1e hF
      refine cl_place hX hK hH he dX5_can_34 ?_
      refine lv_iconst (v := (-1)) hx hb dX5_can_35 kyi_m1 ?_
      obtain ⟨x_62, he, hF⟩ := bd1e hF
      refine mxV hX hK hEv hE0 hH (met_X2_wished hE hPO hT he) (precv (fun _ h => cW_pl h) hK hH 2 rfl ⟨_, hT.obj⟩) gw_StoneYear_Match_43 hd_yX2_wished ⟨Nat.le_of_ble_eq_true rfl, Nat.le_of_ble_eq_true rfl⟩ rfl rfl hl (Nat.le_of_ble_eq_true rfl) dX5_can_36 ⟨Nat.le_of_ble_eq_true rfl, Nat.le_of_ble_eq_true rfl⟩ (fun w2 H locs hw hH => ?_)
      subst hw
      refine lv_aload_n hx hb dX5_can_39 rfl (lv_at hl 0 rfl) ?_
      refine cg_Y_Match_match_this0 hX hK hNW hH dX5_can_40 ?_
      refine cg_Y_Match_this_s hX hK hNW hH dX5_can_43 ?_
      refine cg_Y_Match_state_town hX hK hNW hH dX5_can_46 ?_
      refine cg_Y_Match_town_stones hT (fun _ h => cW_pl h) hX hK hNW hH dX5_can_49 ?_
      refine lv_iload_n hx hb dX5_can_52 rfl (lv_at hl 1 rfl) ?_
      obtain ⟨hg_63, hF⟩ := bd0e hF
      refine mxV hX hK hEv hE0 hH (met_J2_get hE.1 rfl hT.stones hg_63 (fun _ h => cW_pl h)) (precv (fun _ h => cW_pl h) hK hH 17 rfl hT.stones.obj) gw_StoneYear_Match_85 hd_yJ2_get ⟨Nat.le_of_ble_eq_true rfl, Nat.le_of_ble_eq_true rfl⟩ rfl rfl hl (Nat.le_of_ble_eq_true rfl) dX5_can_53 ⟨Nat.le_of_ble_eq_true rfl, Nat.le_of_ble_eq_true rfl⟩ (fun w2 H locs hw hH => ?_)
      subst hw
      refine va_castE hx hb hown (hts _ q1245) (precv (fun _ h => cW_pl h) hK hH 11 rfl ⟨_, hT.stone (alg_lt hg_63)⟩) dX5_can_56 ?_
      refine cg_Y_Match_stone_sort hT (alg_lt hg_63) (fun _ h => cW_pl h) hX hK hNW hH dX5_can_59 ?_
      refine lv_icmp_ne (tgt := 69) hx hb dX5_can_62 rfl (fun c_64 => ?_) (fun c_64 => ?_)
      · have hF := itn c_64 hF
        refine lv_iconst (v := 0) hx hb dX5_can_69 kyi_0 ?_
        obtain rfl := Option.some.inj hF
        exact hret _ _ _ _ _ rfl hH dX5_can_70
      · have hF := itp c_64 hF
        refine lv_iconst (v := 1) hx hb dX5_can_65 kyi_1 ?_
        refine lv_goto (tgt := 70) hx hb dX5_can_66 rfl ?_
        obtain rfl := Option.some.inj hF
        exact hret _ _ _ _ _ rfl hH dX5_can_70
abbrev rm_X5_costs : Room := { frames := 1, cells := 0, slots := 0, locals := 70 }
set_option maxHeartbeats 4000000 in
theorem met_X5_costs {l : Launch} {D : va_G} {ad : Nat → Nat} {cA : Nat → ClassId} {sA ta ba na : Nat → Nat} {gi : Nat → Option Nat} {rh : Option Nat} {rt : Option Nat} {g_sort : Int32} {g_size : Int32} {g_from : Int32} {g_to : Int32} {g_level : Int32} {g_full : Int32} {a_tape : Nat → Int32} {a_hAt : Nat → Int32} {a_hMany : Nat → Int32} {a_tAt : Nat → Int32} {a_tMany : Nat → Int32} {a_least : Nat → Int32} {a_place : Nat → Int32} {a_to : Nat → Int32} {a_order : Nat → Int32} {a_fails : Nat → Int32} {a_sKeys : Nat → Int64} {a_sRow : Nat → Int64} {a_sSlots : Nat → Int32} {a_bKeys : Nat → Int64} {a_bRow : Nat → Int64} {a_bSlots : Nat → Int32} {a_easy : Nat → Int32} {a_wants : Nat → Int32} {a_wantedBy : Nat → Int32} {a_ring : Nat → Int32} {a_carried : Nat → Int32} {a_latest : Nat → Int32} {v_taped : Int32} {v_faultKind : Int32} {v_faultPlace : Int32} {v_x : Int32} {v_ordered : Int32} {v_sought : Int32} {v_lastSought : Int32} {v_hMoved : Int32} {v_hWithout : Int32} {v_tMoved : Int32} {v_tWithout : Int32} {v_places : Int32} {v_elsewhere : Int32} {v_sMany : Int32} {v_bMany : Int32} {v_year : Int32} {y_lies : Int64} {a_rsort : Nat → Int32} {a_rmany : Nat → Int32} {a_nums : Nat → Nat → Int64} {t : Nat → Int32} {nb : Int32} {bv : Nat → Int32 → Int32 → Int32 → Int32 → Int32 → Int32 → Bool} {pl : va_W}  {p1 : Int32} {p2 : Int32} {res : Int32} {E : EvT} (hE : EvN E) (hPO : PO cA pl ta ba t nb bv) (hF : FX5_costs a_place y_lies p1 p2 = some res) : MX l yX5_costs (ws_ yX5_costs cX5_costs 4 (Option.some Jvm.ClassFile.FieldType.int)) rm_X5_costs D vwA (cT cA) E [.ref (ad 10), .int p1, .int p2] (cW ad cA sA ta ba na gi rh rt g_sort g_size g_from g_to g_level g_full a_tape a_hAt a_hMany a_tAt a_tMany a_least a_place a_to a_order a_fails a_sKeys a_sRow a_sSlots a_bKeys a_bRow a_bSlots a_easy a_wants a_wantedBy a_ring a_carried a_latest v_taped v_faultKind v_faultPlace v_x v_ordered v_sought v_lastSought v_hMoved v_hWithout v_tMoved v_tWithout v_places v_elsewhere v_sMany v_bMany v_year y_lies a_rsort a_rmany a_nums pl) (fun z => z = (cW ad cA sA ta ba na gi rh rt g_sort g_size g_from g_to g_level g_full a_tape a_hAt a_hMany a_tAt a_tMany a_least a_place a_to a_order a_fails a_sKeys a_sRow a_sSlots a_bKeys a_bRow a_bSlots a_easy a_wants a_wantedBy a_ring a_carried a_latest v_taped v_faultKind v_faultPlace v_x v_ordered v_sought v_lastSought v_hMoved v_hWithout v_tMoved v_tWithout v_places v_elsewhere v_sMany v_bMany v_year y_lies a_rsort a_rmany a_nums pl)) (some (.int res)) := by
  refine MX.ofI (by decide) (Nat.le_of_ble_eq_true rfl) ?_
  intro p e s m args below meth c Q A hX hK hE0 hname hret H locs ls hH hl
  have hX : CallFix p m c cX5_costs 4 s args lw_all RX5 := hX
  have hx := hX.1
  have hb := hX.2.1
  have hown := hX.2.2.2.1
  have hts := hX.2.2.2.2
  have hl : lv_has ls 4 [(0, .ref (ad 10)), (1, .int p1), (2, .int p2)] := hl
  have hEv := hE.1
  have hNW := hE.2.1 _ _ _ hE0
  have hT := hPO.1
  have hB := hPO.2
  delta FX5_costs at hF
  refine lv_aload_n hx hb dX5_costs_0 rfl (lv_at hl 0 rfl) ?_
  refine cg_Y_Match_match_this0 hX hK hNW hH dX5_costs_1 ?_
  refine cg_Y_Match_this_s hX hK hNW hH dX5_costs_4 ?_
  refine cg_Y_Match_state_lies hX hK hNW hH dX5_costs_7 ?_
  refine lv_iload_n hx hb dX5_costs_10 rfl (lv_at hl 1 rfl) ?_
  obtain ⟨x_56, he, hF⟩ := bd1e hF
  refine mxSN hX hK hEv hE0 hH (met_X0_placeIn hE hPO he) (lw_meth q976) (hNW _ nw_q1250) q129 q975 hd_yX0_placeIn ⟨Nat.le_of_ble_eq_true rfl, Nat.le_of_ble_eq_true rfl⟩ rfl rfl hl (Nat.le_of_ble_eq_true rfl) dX5_costs_11 ⟨Nat.le_of_ble_eq_true rfl, Nat.le_of_ble_eq_true rfl⟩ (fun w2 H locs hw hH => ?_)
  subst hw
  refine lv_istore_n (lv' := [(3, .int x_56), (0, .ref (ad 10)), (1, .int p1), (2, .int p2)]) hx hb dX5_costs_14 rfl hl (by decide) rfl (fun ls hl => ?_)
  refine lv_iload_n hx hb dX5_costs_15 rfl (lv_at hl 0 rfl) ?_
  refine lv_aload_n hx hb dX5_costs_16 rfl (lv_at hl 1 rfl) ?_
  refine cg_Y_Match_match_place hX hK hNW hH dX5_costs_17 ?_
  refine lv_iload_n hx hb dX5_costs_20 rfl (lv_at hl 3 rfl) ?_
  obtain ⟨x_57, he, hF⟩ := bd1e hF
  refine cl_place hX hK hH he dX5_costs_21 ?_
  have j31 : ∀ (x_59 : Int32), FX5_costs_j31 a_place p2 x_56 x_59 = some res → ∀ (H : Heap) (locs : List Loc) (ls : Array Slot), MH D vwA A s.heap (cW ad cA sA ta ba na gi rh rt g_sort g_size g_from g_to g_level g_full a_tape a_hAt a_hMany a_tAt a_tMany a_least a_place a_to a_order a_fails a_sKeys a_sRow a_sSlots a_bKeys a_bRow a_bSlots a_easy a_wants a_wantedBy a_ring a_carried a_latest v_taped v_faultKind v_faultPlace v_x v_ordered v_sought v_lastSought v_hMoved v_hWithout v_tMoved v_tWithout v_places v_elsewhere v_sMany v_bMany v_year y_lies a_rsort a_rmany a_nums pl) H locs → lv_has ls 4 [(0, .ref (ad 10)), (2, .int p2), (3, .int x_56)] → W p l e rm_X5_costs s m args below meth c H locs 0 0 Q (F0 m 31 ls [.int x_59]) := by
    intro x_59 hF H locs ls hH hl
    delta FX5_costs_j31 at hF
    refine lv_iload_n hx hb dX5_costs_31 rfl (lv_at hl 2 rfl) ?_
    refine lv_iconst (v := 3) hx hb dX5_costs_32 kyi_3 ?_
    refine lv_idiv hx hb dX5_costs_33 (by decide) ?_
    refine lv_aload_n hx hb dX5_costs_34 rfl (lv_at hl 0 rfl) ?_
    refine cg_Y_Match_match_place hX hK hNW hH dX5_costs_35 ?_
    refine lv_iload_n hx hb dX5_costs_38 rfl (lv_at hl 1 rfl) ?_
    obtain ⟨x_60, he, hF⟩ := bd1e hF
    refine cl_place hX hK hH he dX5_costs_39 ?_
    refine lv_iconst (v := 3) hx hb dX5_costs_40 kyi_3 ?_
    refine lv_idiv hx hb dX5_costs_41 (by decide) ?_
    refine lv_isub hx hb dX5_costs_42 ?_
    refine cm_abs hX hl (hts _ q1251) dX5_costs_43 (Nat.le_of_ble_eq_true rfl) (Nat.le_of_ble_eq_true rfl) (Nat.le_of_ble_eq_true rfl) (Nat.le_of_ble_eq_true rfl) ?_
    refine lv_iadd hx hb dX5_costs_46 ?_
    obtain rfl := Option.some.inj hF
    exact hret _ _ _ _ _ rfl hH dX5_costs_47
  refine lv_icmp_ne (tgt := 29) hx hb dX5_costs_22 rfl (fun c_58 => ?_) (fun c_58 => ?_)
  · have hF := itn c_58 hF
    refine lv_bipush (v := 100) hx hb dX5_costs_29 kyb_100 ?_
    exact j31 100 hF _ _ _ hH (lv_sub hl [1, 3, 0] rfl)
  · have hF := itp c_58 hF
    refine lv_iconst (v := 0) hx hb dX5_costs_25 kyi_0 ?_
    refine lv_goto (tgt := 31) hx hb dX5_costs_26 rfl ?_
    exact j31 0 hF _ _ _ hH (lv_sub hl [1, 3, 0] rfl)
abbrev rm_X5_chosen : Room := { frames := 6, cells := 0, slots := 0, locals := 187 }
set_option maxHeartbeats 4000000 in
theorem met_X5_chosen {l : Launch} {D : va_G} {ad : Nat → Nat} {cA : Nat → ClassId} {sA ta ba na : Nat → Nat} {gi : Nat → Option Nat} {rh : Option Nat} {rt : Option Nat} {g_sort : Int32} {g_size : Int32} {g_from : Int32} {g_to : Int32} {g_level : Int32} {g_full : Int32} {a_tape : Nat → Int32} {a_hAt : Nat → Int32} {a_hMany : Nat → Int32} {a_tAt : Nat → Int32} {a_tMany : Nat → Int32} {a_least : Nat → Int32} {a_place : Nat → Int32} {a_to : Nat → Int32} {a_order : Nat → Int32} {a_fails : Nat → Int32} {a_sKeys : Nat → Int64} {a_sRow : Nat → Int64} {a_sSlots : Nat → Int32} {a_bKeys : Nat → Int64} {a_bRow : Nat → Int64} {a_bSlots : Nat → Int32} {a_easy : Nat → Int32} {a_wants : Nat → Int32} {a_wantedBy : Nat → Int32} {a_ring : Nat → Int32} {a_carried : Nat → Int32} {a_latest : Nat → Int32} {v_taped : Int32} {v_faultKind : Int32} {v_faultPlace : Int32} {v_x : Int32} {v_ordered : Int32} {v_sought : Int32} {v_lastSought : Int32} {v_hMoved : Int32} {v_hWithout : Int32} {v_tMoved : Int32} {v_tWithout : Int32} {v_places : Int32} {v_elsewhere : Int32} {v_sMany : Int32} {v_bMany : Int32} {v_year : Int32} {y_lies : Int64} {a_rsort : Nat → Int32} {a_rmany : Nat → Int32} {a_nums : Nat → Nat → Int64} {t : Nat → Int32} {nb : Int32} {bv : Nat → Int32 → Int32 → Int32 → Int32 → Int32 → Int32 → Bool} {pl : va_W}  {p1 : Int32} {p2 : Int32} {res : Int32} {E : EvT} (hE : EvN E) (hPO : PO cA pl ta ba t nb bv) (hF : FX5_chosen a_least a_place v_places y_lies t p1 p2 = some res) : MX l yX5_chosen (ws_ yX5_chosen cX5_chosen 4 (Option.some Jvm.ClassFile.FieldType.int)) rm_X5_chosen D vwA (cT cA) E [.ref (ad 10), .int p1, .int p2] (cW ad cA sA ta ba na gi rh rt g_sort g_size g_from g_to g_level g_full a_tape a_hAt a_hMany a_tAt a_tMany a_least a_place a_to a_order a_fails a_sKeys a_sRow a_sSlots a_bKeys a_bRow a_bSlots a_easy a_wants a_wantedBy a_ring a_carried a_latest v_taped v_faultKind v_faultPlace v_x v_ordered v_sought v_lastSought v_hMoved v_hWithout v_tMoved v_tWithout v_places v_elsewhere v_sMany v_bMany v_year y_lies a_rsort a_rmany a_nums pl) (fun z => z = (cW ad cA sA ta ba na gi rh rt g_sort g_size g_from g_to g_level g_full a_tape a_hAt a_hMany a_tAt a_tMany a_least a_place a_to a_order a_fails a_sKeys a_sRow a_sSlots a_bKeys a_bRow a_bSlots a_easy a_wants a_wantedBy a_ring a_carried a_latest v_taped v_faultKind v_faultPlace v_x v_ordered v_sought v_lastSought v_hMoved v_hWithout v_tMoved v_tWithout v_places v_elsewhere v_sMany v_bMany v_year y_lies a_rsort a_rmany a_nums pl)) (some (.int res)) := by
  refine MX.ofI (by decide) (Nat.le_of_ble_eq_true rfl) ?_
  intro p e s m args below meth c Q A hX hK hE0 hname hret H locs ls hH hl
  have hX : CallFix p m c cX5_chosen 4 s args lw_all RX5 := hX
  have hx := hX.1
  have hb := hX.2.1
  have hown := hX.2.2.2.1
  have hts := hX.2.2.2.2
  have hl : lv_has ls 4 [(0, .ref (ad 10)), (1, .int p1), (2, .int p2)] := hl
  have hEv := hE.1
  have hNW := hE.2.1 _ _ _ hE0
  have hT := hPO.1
  have hB := hPO.2
  delta FX5_chosen at hF
  refine lv_iconst (v := 0) hx hb dX5_chosen_0 kyi_0 ?_
  refine lv_istore_n (lv' := [(3, .int 0), (0, .ref (ad 10)), (1, .int p1), (2, .int p2)]) hx hb dX5_chosen_1 rfl hl (by decide) rfl (fun ls hl => ?_)
  obtain ⟨xx2, ee2, kk2_0, kk2_1⟩ := bdS2e hF
  have k2_0 : ∀ (x_75 : Int32), xx2 = (.inl x_75) → ∀ (H : Heap) (locs : List Loc) (ls : Array Slot), MH D vwA A s.heap (cW ad cA sA ta ba na gi rh rt g_sort g_size g_from g_to g_level g_full a_tape a_hAt a_hMany a_tAt a_tMany a_least a_place a_to a_order a_fails a_sKeys a_sRow a_sSlots a_bKeys a_bRow a_bSlots a_easy a_wants a_wantedBy a_ring a_carried a_latest v_taped v_faultKind v_faultPlace v_x v_ordered v_sought v_lastSought v_hMoved v_hWithout v_tMoved v_tWithout v_places v_elsewhere v_sMany v_bMany v_year y_lies a_rsort a_rmany a_nums pl) H locs → lv_has ls 4 [(3, .int x_75)] → W p l e rm_X5_chosen s m args below meth c H locs 0 0 Q (F0 m 58 ls []) := by
    intro x_75 hxx H locs ls hH hl
    have hF := un1e (kk2_0 x_75 hxx)
    refine lv_iload_n hx hb dX5_chosen_58 rfl (lv_at hl 0 rfl) ?_
    obtain rfl := Option.some.inj hF
    exact hret _ _ _ _ _ rfl hH dX5_chosen_59
  have k2_1 : xx2 = (.inr ()) → ∀ (H : Heap) (locs : List Loc) (ls : Array Slot), MH D vwA A s.heap (cW ad cA sA ta ba na gi rh rt g_sort g_size g_from g_to g_level g_full a_tape a_hAt a_hMany a_tAt a_tMany a_least a_place a_to a_order a_fails a_sKeys a_sRow a_sSlots a_bKeys a_bRow a_bSlots a_easy a_wants a_wantedBy a_ring a_carried a_latest v_taped v_faultKind v_faultPlace v_x v_ordered v_sought v_lastSought v_hMoved v_hWithout v_tMoved v_tWithout v_places v_elsewhere v_sMany v_bMany v_year y_lies a_rsort a_rmany a_nums pl) H locs → lv_has ls 4 [] → W p l e rm_X5_chosen s m args below meth c H locs 0 0 Q (F0 m 66 ls []) := by
    intro hxx H locs ls hH hl
    have hF := un0e (kk2_1 () hxx)
    refine lv_iconst (v := (-1)) hx hb dX5_chosen_66 kyi_m1 ?_
    obtain rfl := Option.some.inj hF
    exact hret _ _ _ _ _ rfl hH dX5_chosen_67
  obtain ⟨nn2, en2⟩ := loopC_some ee2
  have l2 : ∀ (n : Nat) (x_65 : Int32), loopN (fun s => FX5_chosen_b2 a_least a_place v_places y_lies t p1 p2 s) n x_65 = some xx2 → ∀ (H : Heap) (locs : List Loc) (ls : Array Slot), MH D vwA A s.heap (cW ad cA sA ta ba na gi rh rt g_sort g_size g_from g_to g_level g_full a_tape a_hAt a_hMany a_tAt a_tMany a_least a_place a_to a_order a_fails a_sKeys a_sRow a_sSlots a_bKeys a_bRow a_bSlots a_easy a_wants a_wantedBy a_ring a_carried a_latest v_taped v_faultKind v_faultPlace v_x v_ordered v_sought v_lastSought v_hMoved v_hWithout v_tMoved v_tWithout v_places v_elsewhere v_sMany v_bMany v_year y_lies a_rsort a_rmany a_nums pl) H locs → lv_has ls 4 [(0, .ref (ad 10)), (1, .int p1), (2, .int p2), (3, .int x_65)] → W p l e rm_X5_chosen s m args below meth c H locs 0 0 Q (F0 m 2 ls []) := by
    intro n
    induction n with
    | zero =>
      intro x_65 hN
      exact absurd hN loopN_zero
    | succ n ih =>
      intro x_65 hN H locs ls hH hl
      obtain ⟨yy2, hB2, hY2⟩ := loopN_succ hN
      have hF : FX5_chosen_b2 a_least a_place v_places y_lies t p1 p2 x_65 = some yy2 := hB2
      delta FX5_chosen_b2 at hF
      refine lv_iload_n hx hb dX5_chosen_2 rfl (lv_at hl 3 rfl) ?_
      refine lv_aload_n hx hb dX5_chosen_3 rfl (lv_at hl 0 rfl) ?_
      refine cg_Y_Match_match_places hX hK hNW hH dX5_chosen_4 ?_
      refine lv_icmp_ge (tgt := 66) hx hb dX5_chosen_7 rfl (fun c_66 => ?_) (fun c_66 => ?_)
      · have hF := itp c_66 hF
        obtain rfl := Option.some.inj hF
        exact k2_1 hY2 _ _ _ hH (lv_sub hl [] rfl)
      · have hF := itn c_66 hF
        refine lv_aload_n hx hb dX5_chosen_10 rfl (lv_at hl 0 rfl) ?_
        refine lv_iload_n hx hb dX5_chosen_11 rfl (lv_at hl 1 rfl) ?_
        refine lv_iload_n hx hb dX5_chosen_12 rfl (lv_at hl 3 rfl) ?_
        refine lv_iload_n hx hb dX5_chosen_13 rfl (lv_at hl 2 rfl) ?_
        obtain ⟨b_67, he, hF⟩ := bd1e hF
        refine mxV hX hK hEv hE0 hH (met_X5_can hE hPO he) (crecv hK hH 10 5 rfl rfl) gw_StoneYear_Match_100 hd_yX5_can ⟨Nat.le_of_ble_eq_true rfl, Nat.le_of_ble_eq_true rfl⟩ rfl rfl hl (Nat.le_of_ble_eq_true rfl) dX5_chosen_14 ⟨Nat.le_of_ble_eq_true rfl, Nat.le_of_ble_eq_true rfl⟩ (fun w2 H locs hw hH => ?_)
        subst hw
        have j60 : FX5_chosen_j60 x_65 = some yy2 → ∀ (H : Heap) (locs : List Loc) (ls : Array Slot), MH D vwA A s.heap (cW ad cA sA ta ba na gi rh rt g_sort g_size g_from g_to g_level g_full a_tape a_hAt a_hMany a_tAt a_tMany a_least a_place a_to a_order a_fails a_sKeys a_sRow a_sSlots a_bKeys a_bRow a_bSlots a_easy a_wants a_wantedBy a_ring a_carried a_latest v_taped v_faultKind v_faultPlace v_x v_ordered v_sought v_lastSought v_hMoved v_hWithout v_tMoved v_tWithout v_places v_elsewhere v_sMany v_bMany v_year y_lies a_rsort a_rmany a_nums pl) H locs → lv_has ls 4 [(0, .ref (ad 10)), (1, .int p1), (2, .int p2), (3, .int x_65)] → W p l e rm_X5_chosen s m args below meth c H locs 0 0 Q (F0 m 60 ls []) := by
          intro hF H locs ls hH hl
          delta FX5_chosen_j60 at hF
          refine lv_iinc (v := (x_65 + 1)) (lv' := [(3, .int (x_65 + 1)), (0, .ref (ad 10)), (1, .int p1), (2, .int p2)]) hx hb dX5_chosen_60 hl (k := 3) rfl (syc kyi_1) (by decide) rfl (fun ls hl => ?_)
          refine lv_goto (tgt := 2) hx hb dX5_chosen_63 rfl ?_
          obtain rfl := Option.some.inj hF
          exact ih (x_65 + 1) hY2 _ _ _ hH (lv_sub hl [1, 2, 3, 0] rfl)
        refine lv_if_eq (tgt := 60) hx hb dX5_chosen_17 rfl (fun c_68 => ?_) (fun c_68 => ?_)
        · have hF := itp c_68 hF
          exact j60 hF _ _ _ hH (lv_sub hl [0, 1, 2, 3] rfl)
        · have hF := itn c_68 hF
          refine lv_aload_n hx hb dX5_chosen_20 rfl (lv_at hl 0 rfl) ?_
          refine lv_iload_n hx hb dX5_chosen_21 rfl (lv_at hl 1 rfl) ?_
          refine lv_iload_n hx hb dX5_chosen_22 rfl (lv_at hl 3 rfl) ?_
          obtain ⟨x_69, he, hF⟩ := bd1e hF
          refine mxV hX hK hEv hE0 hH (met_X5_costs hE hPO he) (crecv hK hH 10 5 rfl rfl) gw_StoneYear_Match_104 hd_yX5_costs ⟨Nat.le_of_ble_eq_true rfl, Nat.le_of_ble_eq_true rfl⟩ rfl rfl hl (Nat.le_of_ble_eq_true rfl) dX5_chosen_23 ⟨Nat.le_of_ble_eq_true rfl, Nat.le_of_ble_eq_true rfl⟩ (fun w2 H locs hw hH => ?_)
          subst hw
          refine lv_aload_n hx hb dX5_chosen_26 rfl (lv_at hl 0 rfl) ?_
          refine cg_Y_Match_match_least hX hK hNW hH dX5_chosen_27 ?_
          refine lv_aload_n hx hb dX5_chosen_30 rfl (lv_at hl 0 rfl) ?_
          refine lv_iload_n hx hb dX5_chosen_31 rfl (lv_at hl 1 rfl) ?_
          refine lv_iconst (v := 1) hx hb dX5_chosen_32 kyi_1 ?_
          refine lv_iadd hx hb dX5_chosen_33 ?_
          refine lv_iload_n hx hb dX5_chosen_34 rfl (lv_at hl 2 rfl) ?_
          refine lv_iconst (v := 1) hx hb dX5_chosen_35 kyi_1 ?_
          refine lv_iload_n hx hb dX5_chosen_36 rfl (lv_at hl 3 rfl) ?_
          refine lv_ishl hx hb dX5_chosen_37 ?_
          refine lv_ior hx hb dX5_chosen_38 ?_
          obtain ⟨x_70, he, hF⟩ := bd1e hF
          refine mxV hX hK hEv hE0 hH (met_X5_at hE hPO he) (crecv hK hH 10 5 rfl rfl) gw_StoneYear_Match_59 hd_yX5_at ⟨Nat.le_of_ble_eq_true rfl, Nat.le_of_ble_eq_true rfl⟩ rfl rfl hl (Nat.le_of_ble_eq_true rfl) dX5_chosen_39 ⟨Nat.le_of_ble_eq_true rfl, Nat.le_of_ble_eq_true rfl⟩ (fun w2 H locs hw hH => ?_)
          subst hw
          obtain ⟨x_71, he, hF⟩ := bd1e hF
          refine cl_least hX hK hH he dX5_chosen_42 ?_
          refine lv_iadd hx hb dX5_chosen_43 ?_
          refine lv_aload_n hx hb dX5_chosen_44 rfl (lv_at hl 0 rfl) ?_
          refine cg_Y_Match_match_least hX hK hNW hH dX5_chosen_45 ?_
          refine lv_aload_n hx hb dX5_chosen_48 rfl (lv_at hl 0 rfl) ?_
          refine lv_iload_n hx hb dX5_chosen_49 rfl (lv_at hl 1 rfl) ?_
          refine lv_iload_n hx hb dX5_chosen_50 rfl (lv_at hl 2 rfl) ?_
          obtain ⟨x_72, he, hF⟩ := bd1e hF
          refine mxV hX hK hEv hE0 hH (met_X5_at hE hPO he) (crecv hK hH 10 5 rfl rfl) gw_StoneYear_Match_59 hd_yX5_at ⟨Nat.le_of_ble_eq_true rfl, Nat.le_of_ble_eq_true rfl⟩ rfl rfl hl (Nat.le_of_ble_eq_true rfl) dX5_chosen_51 ⟨Nat.le_of_ble_eq_true rfl, Nat.le_of_ble_eq_true rfl⟩ (fun w2 H locs hw hH => ?_)
          subst hw
          obtain ⟨x_73, he, hF⟩ := bd1e hF
          refine cl_least hX hK hH he dX5_chosen_54 ?_
          refine lv_icmp_ne (tgt := 60) hx hb dX5_chosen_55 rfl (fun c_74 => ?_) (fun c_74 => ?_)
          · have hF := itn c_74 hF
            exact j60 hF _ _ _ hH (lv_sub hl [0, 1, 2, 3] rfl)
          · have hF := itp c_74 hF
            obtain rfl := Option.some.inj hF
            exact k2_0 x_65 hY2 _ _ _ hH (lv_sub hl [3] rfl)
  exact l2 nn2 0 en2 _ _ _ hH (lv_sub hl [1, 2, 3, 0] rfl)
abbrev rm_X5_weighs : Room := { frames := 6, cells := 0, slots := 0, locals := 187 }
set_option maxHeartbeats 4000000 in
theorem met_X5_weighs {l : Launch} {D : va_G} {ad : Nat → Nat} {cA : Nat → ClassId} {sA ta ba na : Nat → Nat} {gi : Nat → Option Nat} {rh : Option Nat} {rt : Option Nat} {g_sort : Int32} {g_size : Int32} {g_from : Int32} {g_to : Int32} {g_level : Int32} {g_full : Int32} {a_tape : Nat → Int32} {a_hAt : Nat → Int32} {a_hMany : Nat → Int32} {a_tAt : Nat → Int32} {a_tMany : Nat → Int32} {a_least : Nat → Int32} {a_place : Nat → Int32} {a_to : Nat → Int32} {a_order : Nat → Int32} {a_fails : Nat → Int32} {a_sKeys : Nat → Int64} {a_sRow : Nat → Int64} {a_sSlots : Nat → Int32} {a_bKeys : Nat → Int64} {a_bRow : Nat → Int64} {a_bSlots : Nat → Int32} {a_easy : Nat → Int32} {a_wants : Nat → Int32} {a_wantedBy : Nat → Int32} {a_ring : Nat → Int32} {a_carried : Nat → Int32} {a_latest : Nat → Int32} {v_taped : Int32} {v_faultKind : Int32} {v_faultPlace : Int32} {v_x : Int32} {v_ordered : Int32} {v_sought : Int32} {v_lastSought : Int32} {v_hMoved : Int32} {v_hWithout : Int32} {v_tMoved : Int32} {v_tWithout : Int32} {v_places : Int32} {v_elsewhere : Int32} {v_sMany : Int32} {v_bMany : Int32} {v_year : Int32} {y_lies : Int64} {a_rsort : Nat → Int32} {a_rmany : Nat → Int32} {a_nums : Nat → Nat → Int64} {t : Nat → Int32} {nb : Int32} {bv : Nat → Int32 → Int32 → Int32 → Int32 → Int32 → Int32 → Bool} {pl : va_W}  {p1 : Int32} {p2 : Int32} {ra_least : Nat → Int32} {E : EvT} (hE : EvN E) (hPO : PO cA pl ta ba t nb bv) (hF : FX5_weighs a_least a_place v_places y_lies t p1 p2 = some ra_least) : MX l yX5_weighs (ws_ yX5_weighs cX5_weighs 5 (Option.none : Option Jvm.ClassFile.FieldType)) rm_X5_weighs D vwA (cT cA) E [.ref (ad 10), .int p1, .int p2] (cW ad cA sA ta ba na gi rh rt g_sort g_size g_from g_to g_level g_full a_tape a_hAt a_hMany a_tAt a_tMany a_least a_place a_to a_order a_fails a_sKeys a_sRow a_sSlots a_bKeys a_bRow a_bSlots a_easy a_wants a_wantedBy a_ring a_carried a_latest v_taped v_faultKind v_faultPlace v_x v_ordered v_sought v_lastSought v_hMoved v_hWithout v_tMoved v_tWithout v_places v_elsewhere v_sMany v_bMany v_year y_lies a_rsort a_rmany a_nums pl) (fun z => z = (cW ad cA sA ta ba na gi rh rt g_sort g_size g_from g_to g_level g_full a_tape a_hAt a_hMany a_tAt a_tMany ra_least a_place a_to a_order a_fails a_sKeys a_sRow a_sSlots a_bKeys a_bRow a_bSlots a_easy a_wants a_wantedBy a_ring a_carried a_latest v_taped v_faultKind v_faultPlace v_x v_ordered v_sought v_lastSought v_hMoved v_hWithout v_tMoved v_tWithout v_places v_elsewhere v_sMany v_bMany v_year y_lies a_rsort a_rmany a_nums pl)) none := by
  refine MX.ofV (by decide) (Nat.le_of_ble_eq_true rfl) ?_
  intro p e s m args below meth c Q A hX hK hE0 hname hret H locs ls hH hl
  have hX : CallFix p m c cX5_weighs 5 s args lw_all RX5 := hX
  have hx := hX.1
  have hb := hX.2.1
  have hown := hX.2.2.2.1
  have hts := hX.2.2.2.2
  have hl : lv_has ls 5 [(0, .ref (ad 10)), (1, .int p1), (2, .int p2)] := hl
  have hEv := hE.1
  have hNW := hE.2.1 _ _ _ hE0
  have hT := hPO.1
  have hB := hPO.2
  delta FX5_weighs at hF
  refine lv_sipush (v := 10000) hx hb dX5_weighs_0 kys_10000 ?_
  refine lv_aload_n hx hb dX5_weighs_3 rfl (lv_at hl 0 rfl) ?_
  refine cg_Y_Match_match_least hX hK hNW hH dX5_weighs_4 ?_
  refine lv_aload_n hx hb dX5_weighs_7 rfl (lv_at hl 0 rfl) ?_
  refine lv_iload_n hx hb dX5_weighs_8 rfl (lv_at hl 1 rfl) ?_
  refine lv_iconst (v := 1) hx hb dX5_weighs_9 kyi_1 ?_
  refine lv_iadd hx hb dX5_weighs_10 ?_
  refine lv_iload_n hx hb dX5_weighs_11 rfl (lv_at hl 2 rfl) ?_
  obtain ⟨x_56, he, hF⟩ := bd1e hF
  refine mxV hX hK hEv hE0 hH (met_X5_at hE hPO he) (crecv hK hH 10 5 rfl rfl) gw_StoneYear_Match_59 hd_yX5_at ⟨Nat.le_of_ble_eq_true rfl, Nat.le_of_ble_eq_true rfl⟩ rfl rfl hl (Nat.le_of_ble_eq_true rfl) dX5_weighs_12 ⟨Nat.le_of_ble_eq_true rfl, Nat.le_of_ble_eq_true rfl⟩ (fun w2 H locs hw hH => ?_)
  subst hw
  obtain ⟨x_57, he, hF⟩ := bd1e hF
  refine cl_least hX hK hH he dX5_weighs_15 ?_
  refine lv_iadd hx hb dX5_weighs_16 ?_
  refine lv_istore_n (lv' := [(3, .int (10000 + x_57)), (0, .ref (ad 10)), (1, .int p1), (2, .int p2)]) hx hb dX5_weighs_17 rfl hl (by decide) rfl (fun ls hl => ?_)
  refine lv_iconst (v := 0) hx hb dX5_weighs_18 kyi_0 ?_
  refine lv_istore (lv' := [(4, .int 0), (3, .int (10000 + x_57)), (0, .ref (ad 10)), (1, .int p1), (2, .int p2)]) hx hb dX5_weighs_19 hl (by decide) rfl (fun ls hl => ?_)
  obtain ⟨xx21, ee21, kk21_0⟩ := bd1L hF
  have k21_0 : ∀ (x_74 : Int32), xx21 = x_74 → ∀ (H : Heap) (locs : List Loc) (ls : Array Slot), MH D vwA A s.heap (cW ad cA sA ta ba na gi rh rt g_sort g_size g_from g_to g_level g_full a_tape a_hAt a_hMany a_tAt a_tMany a_least a_place a_to a_order a_fails a_sKeys a_sRow a_sSlots a_bKeys a_bRow a_bSlots a_easy a_wants a_wantedBy a_ring a_carried a_latest v_taped v_faultKind v_faultPlace v_x v_ordered v_sought v_lastSought v_hMoved v_hWithout v_tMoved v_tWithout v_places v_elsewhere v_sMany v_bMany v_year y_lies a_rsort a_rmany a_nums pl) H locs → lv_has ls 5 [(0, .ref (ad 10)), (1, .int p1), (2, .int p2), (3, .int x_74)] → W p l e rm_X5_weighs s m args below meth c H locs 0 0 Q (F0 m 78 ls []) := by
    intro x_74 hxx H locs ls hH hl
    have hF := un1e (kk21_0 x_74 hxx)
    refine lv_aload_n hx hb dX5_weighs_78 rfl (lv_at hl 0 rfl) ?_
    refine cg_Y_Match_match_least hX hK hNW hH dX5_weighs_79 ?_
    refine lv_aload_n hx hb dX5_weighs_82 rfl (lv_at hl 0 rfl) ?_
    refine lv_iload_n hx hb dX5_weighs_83 rfl (lv_at hl 1 rfl) ?_
    refine lv_iload_n hx hb dX5_weighs_84 rfl (lv_at hl 2 rfl) ?_
    obtain ⟨x_75, he, hF⟩ := bd1e hF
    refine mxV hX hK hEv hE0 hH (met_X5_at hE hPO he) (crecv hK hH 10 5 rfl rfl) gw_StoneYear_Match_59 hd_yX5_at ⟨Nat.le_of_ble_eq_true rfl, Nat.le_of_ble_eq_true rfl⟩ rfl rfl hl (Nat.le_of_ble_eq_true rfl) dX5_weighs_85 ⟨Nat.le_of_ble_eq_true rfl, Nat.le_of_ble_eq_true rfl⟩ (fun w2 H locs hw hH => ?_)
    subst hw
    refine lv_iload_n hx hb dX5_weighs_88 rfl (lv_at hl 3 rfl) ?_
    obtain ⟨a_least_76, he, hF⟩ := bd1e hF
    refine cs_least hX hK hH he dX5_weighs_89 (fun H locs hH => ?_)
    obtain rfl := Option.some.inj hF
    exact hret _ _ _ _ _ rfl hH dX5_weighs_90
  obtain ⟨nn21, en21⟩ := loopC_some ee21
  have l21 : ∀ (n : Nat) (x_65 : Int32) (x_66 : Int32), loopN (fun s => FX5_weighs_b21 a_least a_place v_places y_lies t p1 p2 s.1 s.2) n (x_65, x_66) = some xx21 → ∀ (H : Heap) (locs : List Loc) (ls : Array Slot), MH D vwA A s.heap (cW ad cA sA ta ba na gi rh rt g_sort g_size g_from g_to g_level g_full a_tape a_hAt a_hMany a_tAt a_tMany a_least a_place a_to a_order a_fails a_sKeys a_sRow a_sSlots a_bKeys a_bRow a_bSlots a_easy a_wants a_wantedBy a_ring a_carried a_latest v_taped v_faultKind v_faultPlace v_x v_ordered v_sought v_lastSought v_hMoved v_hWithout v_tMoved v_tWithout v_places v_elsewhere v_sMany v_bMany v_year y_lies a_rsort a_rmany a_nums pl) H locs → lv_has ls 5 [(0, .ref (ad 10)), (1, .int p1), (2, .int p2), (3, .int x_65), (4, .int x_66)] → W p l e rm_X5_weighs s m args below meth c H locs 0 0 Q (F0 m 21 ls []) := by
    intro n
    induction n with
    | zero =>
      intro x_65 x_66 hN
      exact absurd hN loopN_zero
    | succ n ih =>
      intro x_65 x_66 hN H locs ls hH hl
      obtain ⟨yy21, hB21, hY21⟩ := loopN_succ hN
      have hF : FX5_weighs_b21 a_least a_place v_places y_lies t p1 p2 x_65 x_66 = some yy21 := hB21
      delta FX5_weighs_b21 at hF
      refine lv_iload hx hb dX5_weighs_21 (lv_at hl 4 rfl) ?_
      refine lv_aload_n hx hb dX5_weighs_23 rfl (lv_at hl 0 rfl) ?_
      refine cg_Y_Match_match_places hX hK hNW hH dX5_weighs_24 ?_
      refine lv_icmp_ge (tgt := 78) hx hb dX5_weighs_27 rfl (fun c_67 => ?_) (fun c_67 => ?_)
      · have hF := itp c_67 hF
        obtain rfl := Option.some.inj hF
        exact k21_0 x_65 hY21 _ _ _ hH (lv_sub hl [0, 1, 2, 3] rfl)
      · have hF := itn c_67 hF
        refine lv_aload_n hx hb dX5_weighs_30 rfl (lv_at hl 0 rfl) ?_
        refine lv_iload_n hx hb dX5_weighs_31 rfl (lv_at hl 1 rfl) ?_
        refine lv_iload hx hb dX5_weighs_32 (lv_at hl 4 rfl) ?_
        refine lv_iload_n hx hb dX5_weighs_34 rfl (lv_at hl 2 rfl) ?_
        obtain ⟨b_68, he, hF⟩ := bd1e hF
        refine mxV hX hK hEv hE0 hH (met_X5_can hE hPO he) (crecv hK hH 10 5 rfl rfl) gw_StoneYear_Match_100 hd_yX5_can ⟨Nat.le_of_ble_eq_true rfl, Nat.le_of_ble_eq_true rfl⟩ rfl rfl hl (Nat.le_of_ble_eq_true rfl) dX5_weighs_35 ⟨Nat.le_of_ble_eq_true rfl, Nat.le_of_ble_eq_true rfl⟩ (fun w2 H locs hw hH => ?_)
        subst hw
        have j72 : ∀ (x_73 : Int32), FX5_weighs_j72 x_66 x_73 = some yy21 → ∀ (H : Heap) (locs : List Loc) (ls : Array Slot), MH D vwA A s.heap (cW ad cA sA ta ba na gi rh rt g_sort g_size g_from g_to g_level g_full a_tape a_hAt a_hMany a_tAt a_tMany a_least a_place a_to a_order a_fails a_sKeys a_sRow a_sSlots a_bKeys a_bRow a_bSlots a_easy a_wants a_wantedBy a_ring a_carried a_latest v_taped v_faultKind v_faultPlace v_x v_ordered v_sought v_lastSought v_hMoved v_hWithout v_tMoved v_tWithout v_places v_elsewhere v_sMany v_bMany v_year y_lies a_rsort a_rmany a_nums pl) H locs → lv_has ls 5 [(0, .ref (ad 10)), (1, .int p1), (2, .int p2), (3, .int x_73), (4, .int x_66)] → W p l e rm_X5_weighs s m args below meth c H locs 0 0 Q (F0 m 72 ls []) := by
          intro x_73 hF H locs ls hH hl
          delta FX5_weighs_j72 at hF
          refine lv_iinc (v := (x_66 + 1)) (lv' := [(4, .int (x_66 + 1)), (0, .ref (ad 10)), (1, .int p1), (2, .int p2), (3, .int x_73)]) hx hb dX5_weighs_72 hl (k := 4) rfl (syc kyi_1) (by decide) rfl (fun ls hl => ?_)
          refine lv_goto (tgt := 21) hx hb dX5_weighs_75 rfl ?_
          obtain rfl := Option.some.inj hF
          exact ih x_73 (x_66 + 1) hY21 _ _ _ hH (lv_sub hl [1, 2, 3, 4, 0] rfl)
        refine lv_if_eq (tgt := 72) hx hb dX5_weighs_38 rfl (fun c_69 => ?_) (fun c_69 => ?_)
        · have hF := itp c_69 hF
          exact j72 x_65 hF _ _ _ hH (lv_sub hl [0, 1, 2, 3, 4] rfl)
        · have hF := itn c_69 hF
          refine lv_iload_n hx hb dX5_weighs_41 rfl (lv_at hl 3 rfl) ?_
          refine lv_aload_n hx hb dX5_weighs_42 rfl (lv_at hl 0 rfl) ?_
          refine lv_iload_n hx hb dX5_weighs_43 rfl (lv_at hl 1 rfl) ?_
          refine lv_iload hx hb dX5_weighs_44 (lv_at hl 4 rfl) ?_
          obtain ⟨x_70, he, hF⟩ := bd1e hF
          refine mxV hX hK hEv hE0 hH (met_X5_costs hE hPO he) (crecv hK hH 10 5 rfl rfl) gw_StoneYear_Match_104 hd_yX5_costs ⟨Nat.le_of_ble_eq_true rfl, Nat.le_of_ble_eq_true rfl⟩ rfl rfl hl (Nat.le_of_ble_eq_true rfl) dX5_weighs_46 ⟨Nat.le_of_ble_eq_true rfl, Nat.le_of_ble_eq_true rfl⟩ (fun w2 H locs hw hH => ?_)
          subst hw
          refine lv_aload_n hx hb dX5_weighs_49 rfl (lv_at hl 0 rfl) ?_
          refine cg_Y_Match_match_least hX hK hNW hH dX5_weighs_50 ?_
          refine lv_aload_n hx hb dX5_weighs_53 rfl (lv_at hl 0 rfl) ?_
          refine lv_iload_n hx hb dX5_weighs_54 rfl (lv_at hl 1 rfl) ?_
          refine lv_iconst (v := 1) hx hb dX5_weighs_55 kyi_1 ?_
          refine lv_iadd hx hb dX5_weighs_56 ?_
          refine lv_iload_n hx hb dX5_weighs_57 rfl (lv_at hl 2 rfl) ?_
          refine lv_iconst (v := 1) hx hb dX5_weighs_58 kyi_1 ?_
          refine lv_iload hx hb dX5_weighs_59 (lv_at hl 4 rfl) ?_
          refine lv_ishl hx hb dX5_weighs_61 ?_
          refine lv_ior hx hb dX5_weighs_62 ?_
          obtain ⟨x_71, he, hF⟩ := bd1e hF
          refine mxV hX hK hEv hE0 hH (met_X5_at hE hPO he) (crecv hK hH 10 5 rfl rfl) gw_StoneYear_Match_59 hd_yX5_at ⟨Nat.le_of_ble_eq_true rfl, Nat.le_of_ble_eq_true rfl⟩ rfl rfl hl (Nat.le_of_ble_eq_true rfl) dX5_weighs_63 ⟨Nat.le_of_ble_eq_true rfl, Nat.le_of_ble_eq_true rfl⟩ (fun w2 H locs hw hH => ?_)
          subst hw
          obtain ⟨x_72, he, hF⟩ := bd1e hF
          refine cl_least hX hK hH he dX5_weighs_66 ?_
          refine lv_iadd hx hb dX5_weighs_67 ?_
          refine cm_min hX hl (hts _ q1254) dX5_weighs_68 (Nat.le_of_ble_eq_true rfl) (Nat.le_of_ble_eq_true rfl) (Nat.le_of_ble_eq_true rfl) (Nat.le_of_ble_eq_true rfl) ?_
          refine lv_istore_n (lv' := [(3, .int (mnI x_65 (x_70 + x_72))), (0, .ref (ad 10)), (1, .int p1), (2, .int p2), (4, .int x_66)]) hx hb dX5_weighs_71 rfl hl (by decide) rfl (fun ls hl => ?_)
          exact j72 (mnI x_65 (x_70 + x_72)) hF _ _ _ hH (lv_sub hl [1, 2, 3, 0, 4] rfl)
  exact l21 nn21 (10000 + x_57) 0 en21 _ _ _ hH (lv_sub hl [2, 3, 4, 1, 0] rfl)
abbrev rm_X5_finds : Room := { frames := 7, cells := 0, slots := 0, locals := 211 }
set_option maxHeartbeats 4000000 in
theorem met_X5_finds {l : Launch} {D : va_G} {ad : Nat → Nat} {cA : Nat → ClassId} {sA ta ba na : Nat → Nat} {gi : Nat → Option Nat} {rh : Option Nat} {rt : Option Nat} {g_sort : Int32} {g_size : Int32} {g_from : Int32} {g_to : Int32} {g_level : Int32} {g_full : Int32} {a_tape : Nat → Int32} {a_hAt : Nat → Int32} {a_hMany : Nat → Int32} {a_tAt : Nat → Int32} {a_tMany : Nat → Int32} {a_least : Nat → Int32} {a_place : Nat → Int32} {a_to : Nat → Int32} {a_order : Nat → Int32} {a_fails : Nat → Int32} {a_sKeys : Nat → Int64} {a_sRow : Nat → Int64} {a_sSlots : Nat → Int32} {a_bKeys : Nat → Int64} {a_bRow : Nat → Int64} {a_bSlots : Nat → Int32} {a_easy : Nat → Int32} {a_wants : Nat → Int32} {a_wantedBy : Nat → Int32} {a_ring : Nat → Int32} {a_carried : Nat → Int32} {a_latest : Nat → Int32} {v_taped : Int32} {v_faultKind : Int32} {v_faultPlace : Int32} {v_x : Int32} {v_ordered : Int32} {v_sought : Int32} {v_lastSought : Int32} {v_hMoved : Int32} {v_hWithout : Int32} {v_tMoved : Int32} {v_tWithout : Int32} {v_places : Int32} {v_elsewhere : Int32} {v_sMany : Int32} {v_bMany : Int32} {v_year : Int32} {y_lies : Int64} {a_rsort : Nat → Int32} {a_rmany : Nat → Int32} {a_nums : Nat → Nat → Int64} {t : Nat → Int32} {nb : Int32} {bv : Nat → Int32 → Int32 → Int32 → Int32 → Int32 → Int32 → Bool} {pl : va_W}   {ra_least : Nat → Int32} {ra_place : Nat → Int32} {ra_to : Nat → Int32} {rv_places : Int32} {rv_elsewhere : Int32} {E : EvT} (hE : EvN E) (hPO : PO cA pl ta ba t nb bv) (hF : FX5_finds a_least a_place a_to y_lies t = some (ra_least, ra_place, ra_to, rv_places, rv_elsewhere)) : MX l yX5_finds (ws_ yX5_finds cX5_finds 5 (Option.some (Jvm.ClassFile.FieldType.object "StoneYear$Match"))) rm_X5_finds D vwA (cT cA) E [.ref (ad 10)] (cW ad cA sA ta ba na gi rh rt g_sort g_size g_from g_to g_level g_full a_tape a_hAt a_hMany a_tAt a_tMany a_least a_place a_to a_order a_fails a_sKeys a_sRow a_sSlots a_bKeys a_bRow a_bSlots a_easy a_wants a_wantedBy a_ring a_carried a_latest v_taped v_faultKind v_faultPlace v_x v_ordered v_sought v_lastSought v_hMoved v_hWithout v_tMoved v_tWithout v_places v_elsewhere v_sMany v_bMany v_year y_lies a_rsort a_rmany a_nums pl) (fun z => z = (cW ad cA sA ta ba na gi rh rt g_sort g_size g_from g_to g_level g_full a_tape a_hAt a_hMany a_tAt a_tMany ra_least ra_place ra_to a_order a_fails a_sKeys a_sRow a_sSlots a_bKeys a_bRow a_bSlots a_easy a_wants a_wantedBy a_ring a_carried a_latest v_taped v_faultKind v_faultPlace v_x v_ordered v_sought v_lastSought v_hMoved v_hWithout v_tMoved v_tWithout rv_places rv_elsewhere v_sMany v_bMany v_year y_lies a_rsort a_rmany a_nums pl)) (some (.ref (ad 10))) := by
  refine MX.ofR (Or.inl ⟨_, rfl⟩) (Or.inr ⟨_, rfl⟩) (by decide) (Nat.le_of_ble_eq_true rfl) ?_
  intro p e s m args below meth c Q A hX hK hE0 hname hret H locs ls hH hl
  have hX : CallFix p m c cX5_finds 5 s args lw_all RX5 := hX
  have hx := hX.1
  have hb := hX.2.1
  have hown := hX.2.2.2.1
  have hts := hX.2.2.2.2
  have hl : lv_has ls 5 [(0, .ref (ad 10))] := hl
  have hEv := hE.1
  have hNW := hE.2.1 _ _ _ hE0
  have hT := hPO.1
  have hB := hPO.2
  delta FX5_finds at hF
  refine lv_aload_n hx hb dX5_finds_0 rfl (lv_at hl 0 rfl) ?_
  refine lv_iconst (v := 0) hx hb dX5_finds_1 kyi_0 ?_
  refine cp_Y_Match_match_places hX hK hNW hH dX5_finds_2 (fun H locs hH => ?_)
  refine lv_aload_n hx hb dX5_finds_5 rfl (lv_at hl 0 rfl) ?_
  refine lv_iconst (v := 0) hx hb dX5_finds_6 kyi_0 ?_
  refine cp_Y_Match_match_elsewhere hX hK hNW hH dX5_finds_7 (fun H locs hH => ?_)
  refine lv_iconst (v := 0) hx hb dX5_finds_10 kyi_0 ?_
  refine lv_istore_n (lv' := [(1, .int 0), (0, .ref (ad 10))]) hx hb dX5_finds_11 rfl hl (by decide) rfl (fun ls hl => ?_)
  obtain ⟨xx12, ee12, kk12_0⟩ := bd2L hF
  have k12_0 : ∀ (a_place_69 : Nat → Int32) (v_places_70 : Int32), xx12 = (a_place_69, v_places_70) → ∀ (H : Heap) (locs : List Loc) (ls : Array Slot), MH D vwA A s.heap (cW ad cA sA ta ba na gi rh rt g_sort g_size g_from g_to g_level g_full a_tape a_hAt a_hMany a_tAt a_tMany a_least a_place_69 a_to a_order a_fails a_sKeys a_sRow a_sSlots a_bKeys a_bRow a_bSlots a_easy a_wants a_wantedBy a_ring a_carried a_latest v_taped v_faultKind v_faultPlace v_x v_ordered v_sought v_lastSought v_hMoved v_hWithout v_tMoved v_tWithout v_places_70 0 v_sMany v_bMany v_year y_lies a_rsort a_rmany a_nums pl) H locs → lv_has ls 5 [(0, .ref (ad 10))] → W p l e rm_X5_finds s m args below meth c H locs 0 0 Q (F0 m 66 ls []) := by
    intro a_place_69 v_places_70 hxx H locs ls hH hl
    have hF := un2e (kk12_0 (a_place_69, v_places_70) hxx)
    refine lv_aload_n hx hb dX5_finds_66 rfl (lv_at hl 0 rfl) ?_
    refine cg_Y_Match_match_this0 hX hK hNW hH dX5_finds_67 ?_
    refine cg_Y_Match_this_s hX hK hNW hH dX5_finds_70 ?_
    refine cg_Y_Match_state_town hX hK hNW hH dX5_finds_73 ?_
    refine cg_Y_Match_town_stones hT (fun _ h => cW_pl h) hX hK hNW hH dX5_finds_76 ?_
    refine mxV hX hK hEv hE0 hH (met_J2_size hE.1 hT.stones (fun _ h => cW_pl h)) (precv (fun _ h => cW_pl h) hK hH 17 rfl hT.stones.obj) gw_StoneYear_Match_53 hd_yJ2_size ⟨Nat.le_of_ble_eq_true rfl, Nat.le_of_ble_eq_true rfl⟩ rfl rfl hl (Nat.le_of_ble_eq_true rfl) dX5_finds_79 ⟨Nat.le_of_ble_eq_true rfl, Nat.le_of_ble_eq_true rfl⟩ (fun w2 H locs hw hH => ?_)
    subst hw
    refine lv_istore_n (lv' := [(1, .int (t 6)), (0, .ref (ad 10))]) hx hb dX5_finds_82 rfl hl (by decide) rfl (fun ls hl => ?_)
    refine lv_iconst (v := 0) hx hb dX5_finds_83 kyi_0 ?_
    refine lv_istore_n (lv' := [(2, .int 0), (1, .int (t 6)), (0, .ref (ad 10))]) hx hb dX5_finds_84 rfl hl (by decide) rfl (fun ls hl => ?_)
    obtain ⟨xx85, ee85, kk85_0⟩ := bd1L hF
    have k85_0 : ∀ (a_least_79 : Nat → Int32), xx85 = a_least_79 → ∀ (H : Heap) (locs : List Loc) (ls : Array Slot), MH D vwA A s.heap (cW ad cA sA ta ba na gi rh rt g_sort g_size g_from g_to g_level g_full a_tape a_hAt a_hMany a_tAt a_tMany a_least_79 a_place_69 a_to a_order a_fails a_sKeys a_sRow a_sSlots a_bKeys a_bRow a_bSlots a_easy a_wants a_wantedBy a_ring a_carried a_latest v_taped v_faultKind v_faultPlace v_x v_ordered v_sought v_lastSought v_hMoved v_hWithout v_tMoved v_tWithout v_places_70 0 v_sMany v_bMany v_year y_lies a_rsort a_rmany a_nums pl) H locs → lv_has ls 5 [(0, .ref (ad 10)), (1, .int (t 6))] → W p l e rm_X5_finds s m args below meth c H locs 0 0 Q (F0 m 113 ls []) := by
      intro a_least_79 hxx H locs ls hH hl
      have hF := un1e (kk85_0 a_least_79 hxx)
      refine lv_iload_n hx hb dX5_finds_113 rfl (lv_at hl 1 rfl) ?_
      refine lv_iconst (v := 1) hx hb dX5_finds_114 kyi_1 ?_
      refine lv_isub hx hb dX5_finds_115 ?_
      refine lv_istore_n (lv' := [(2, .int ((t 6) - 1)), (0, .ref (ad 10)), (1, .int (t 6))]) hx hb dX5_finds_116 rfl hl (by decide) rfl (fun ls hl => ?_)
      obtain ⟨xx117, ee117, kk117_0⟩ := bd1L hF
      have k117_0 : ∀ (a_least_98 : Nat → Int32), xx117 = a_least_98 → ∀ (H : Heap) (locs : List Loc) (ls : Array Slot), MH D vwA A s.heap (cW ad cA sA ta ba na gi rh rt g_sort g_size g_from g_to g_level g_full a_tape a_hAt a_hMany a_tAt a_tMany a_least_98 a_place_69 a_to a_order a_fails a_sKeys a_sRow a_sSlots a_bKeys a_bRow a_bSlots a_easy a_wants a_wantedBy a_ring a_carried a_latest v_taped v_faultKind v_faultPlace v_x v_ordered v_sought v_lastSought v_hMoved v_hWithout v_tMoved v_tWithout v_places_70 0 v_sMany v_bMany v_year y_lies a_rsort a_rmany a_nums pl) H locs → lv_has ls 5 [(0, .ref (ad 10)), (1, .int (t 6))] → W p l e rm_X5_finds s m args below meth c H locs 0 0 Q (F0 m 151 ls []) := by
        intro a_least_98 hxx H locs ls hH hl
        have hF := un1e (kk117_0 a_least_98 hxx)
        refine lv_iconst (v := 0) hx hb dX5_finds_151 kyi_0 ?_
        refine lv_istore_n (lv' := [(2, .int 0), (0, .ref (ad 10)), (1, .int (t 6))]) hx hb dX5_finds_152 rfl hl (by decide) rfl (fun ls hl => ?_)
        refine lv_iconst (v := 0) hx hb dX5_finds_153 kyi_0 ?_
        refine lv_istore_n (lv' := [(3, .int 0), (2, .int 0), (0, .ref (ad 10)), (1, .int (t 6))]) hx hb dX5_finds_154 rfl hl (by decide) rfl (fun ls hl => ?_)
        obtain ⟨xx155, ee155, kk155_0⟩ := bd2L hF
        have k155_0 : ∀ (a_to_129 : Nat → Int32) (v_elsewhere_130 : Int32), xx155 = (a_to_129, v_elsewhere_130) → ∀ (H : Heap) (locs : List Loc) (ls : Array Slot), MH D vwA A s.heap (cW ad cA sA ta ba na gi rh rt g_sort g_size g_from g_to g_level g_full a_tape a_hAt a_hMany a_tAt a_tMany a_least_98 a_place_69 a_to_129 a_order a_fails a_sKeys a_sRow a_sSlots a_bKeys a_bRow a_bSlots a_easy a_wants a_wantedBy a_ring a_carried a_latest v_taped v_faultKind v_faultPlace v_x v_ordered v_sought v_lastSought v_hMoved v_hWithout v_tMoved v_tWithout v_places_70 v_elsewhere_130 v_sMany v_bMany v_year y_lies a_rsort a_rmany a_nums pl) H locs → lv_has ls 5 [(0, .ref (ad 10))] → W p l e rm_X5_finds s m args below meth c H locs 0 0 Q (F0 m 258 ls []) := by
          intro a_to_129 v_elsewhere_130 hxx H locs ls hH hl
          have hF := un2e (kk155_0 (a_to_129, v_elsewhere_130) hxx)
          refine lv_aload_n hx hb dX5_finds_258 rfl (lv_at hl 0 rfl) ?_
          obtain ⟨rfl, rfl, rfl, rfl, rfl⟩ := re5 hF
          exact hret _ _ _ _ _ rfl hH dX5_finds_259
        obtain ⟨nn155, en155⟩ := loopC_some ee155
        have l155 : ∀ (n : Nat) (x_112 : Int32) (x_113 : Int32) (a_to_114 : Nat → Int32) (v_elsewhere_115 : Int32), loopN (fun s => FX5_finds_b155 y_lies t a_place_69 v_places_70 a_least_98 s.1 s.2.1 s.2.2.1 s.2.2.2) n (x_112, x_113, a_to_114, v_elsewhere_115) = some xx155 → ∀ (H : Heap) (locs : List Loc) (ls : Array Slot), MH D vwA A s.heap (cW ad cA sA ta ba na gi rh rt g_sort g_size g_from g_to g_level g_full a_tape a_hAt a_hMany a_tAt a_tMany a_least_98 a_place_69 a_to_114 a_order a_fails a_sKeys a_sRow a_sSlots a_bKeys a_bRow a_bSlots a_easy a_wants a_wantedBy a_ring a_carried a_latest v_taped v_faultKind v_faultPlace v_x v_ordered v_sought v_lastSought v_hMoved v_hWithout v_tMoved v_tWithout v_places_70 v_elsewhere_115 v_sMany v_bMany v_year y_lies a_rsort a_rmany a_nums pl) H locs → lv_has ls 5 [(0, .ref (ad 10)), (1, .int (t 6)), (2, .int x_112), (3, .int x_113)] → W p l e rm_X5_finds s m args below meth c H locs 0 0 Q (F0 m 155 ls []) := by
          intro n
          induction n with
          | zero =>
            intro x_112 x_113 a_to_114 v_elsewhere_115 hN
            exact absurd hN loopN_zero
          | succ n ih =>
            intro x_112 x_113 a_to_114 v_elsewhere_115 hN H locs ls hH hl
            obtain ⟨yy155, hB155, hY155⟩ := loopN_succ hN
            have hF : FX5_finds_b155 y_lies t a_place_69 v_places_70 a_least_98 x_112 x_113 a_to_114 v_elsewhere_115 = some yy155 := hB155
            delta FX5_finds_b155 at hF
            refine lv_iload_n hx hb dX5_finds_155 rfl (lv_at hl 3 rfl) ?_
            refine lv_iload_n hx hb dX5_finds_156 rfl (lv_at hl 1 rfl) ?_
            refine lv_icmp_ge (tgt := 258) hx hb dX5_finds_157 rfl (fun c_116 => ?_) (fun c_116 => ?_)
            · have hF := itp c_116 hF
              obtain rfl := Option.some.inj hF
              exact k155_0 a_to_114 v_elsewhere_115 hY155 _ _ _ hH (lv_sub hl [0] rfl)
            · have hF := itn c_116 hF
              refine lv_aload_n hx hb dX5_finds_160 rfl (lv_at hl 0 rfl) ?_
              refine lv_iload_n hx hb dX5_finds_161 rfl (lv_at hl 3 rfl) ?_
              refine lv_iload_n hx hb dX5_finds_162 rfl (lv_at hl 2 rfl) ?_
              obtain ⟨x_117, he, hF⟩ := bd1e hF
              refine mxV hX hK hEv hE0 hH (met_X5_chosen hE hPO he) (crecv hK hH 10 5 rfl rfl) gw_StoneYear_Match_66 hd_yX5_chosen ⟨Nat.le_of_ble_eq_true rfl, Nat.le_of_ble_eq_true rfl⟩ rfl rfl hl (Nat.le_of_ble_eq_true rfl) dX5_finds_163 ⟨Nat.le_of_ble_eq_true rfl, Nat.le_of_ble_eq_true rfl⟩ (fun w2 H locs hw hH => ?_)
              subst hw
              refine lv_istore (lv' := [(4, .int x_117), (0, .ref (ad 10)), (1, .int (t 6)), (2, .int x_112), (3, .int x_113)]) hx hb dX5_finds_166 hl (by decide) rfl (fun ls hl => ?_)
              refine lv_aload_n hx hb dX5_finds_168 rfl (lv_at hl 1 rfl) ?_
              refine cg_Y_Match_match_to hX hK hNW hH dX5_finds_169 ?_
              refine lv_iload_n hx hb dX5_finds_172 rfl (lv_at hl 4 rfl) ?_
              refine lv_iload hx hb dX5_finds_173 (lv_at hl 0 rfl) ?_
              refine lv_iconst (v := (-1)) hx hb dX5_finds_175 kyi_m1 ?_
              have j190 : ∀ (x_120 : Int32), FX5_finds_j190 y_lies a_place_69 x_112 x_113 a_to_114 v_elsewhere_115 x_117 x_120 = some yy155 → ∀ (H : Heap) (locs : List Loc) (ls : Array Slot), MH D vwA A s.heap (cW ad cA sA ta ba na gi rh rt g_sort g_size g_from g_to g_level g_full a_tape a_hAt a_hMany a_tAt a_tMany a_least_98 a_place_69 a_to_114 a_order a_fails a_sKeys a_sRow a_sSlots a_bKeys a_bRow a_bSlots a_easy a_wants a_wantedBy a_ring a_carried a_latest v_taped v_faultKind v_faultPlace v_x v_ordered v_sought v_lastSought v_hMoved v_hWithout v_tMoved v_tWithout v_places_70 v_elsewhere_115 v_sMany v_bMany v_year y_lies a_rsort a_rmany a_nums pl) H locs → lv_has ls 5 [(0, .ref (ad 10)), (1, .int (t 6)), (2, .int x_112), (3, .int x_113), (4, .int x_117)] → W p l e rm_X5_finds s m args below meth c H locs 0 0 Q (F0 m 190 ls [.int x_120, .int x_113, .ref (ad 13)]) := by
                intro x_120 hF H locs ls hH hl
                delta FX5_finds_j190 at hF
                obtain ⟨a_to_121, he, hF⟩ := bd1e hF
                refine cs_to hX hK hH he dX5_finds_190 (fun H locs hH => ?_)
                refine lv_iload_n hx hb dX5_finds_191 rfl (lv_at hl 2 rfl) ?_
                refine lv_iload hx hb dX5_finds_192 (lv_at hl 4 rfl) ?_
                refine lv_iconst (v := (-1)) hx hb dX5_finds_194 kyi_m1 ?_
                have j206 : ∀ (x_123 : Int32), FX5_finds_j206 y_lies a_place_69 x_112 x_113 v_elsewhere_115 x_117 a_to_121 x_123 = some yy155 → ∀ (H : Heap) (locs : List Loc) (ls : Array Slot), MH D vwA A s.heap (cW ad cA sA ta ba na gi rh rt g_sort g_size g_from g_to g_level g_full a_tape a_hAt a_hMany a_tAt a_tMany a_least_98 a_place_69 a_to_121 a_order a_fails a_sKeys a_sRow a_sSlots a_bKeys a_bRow a_bSlots a_easy a_wants a_wantedBy a_ring a_carried a_latest v_taped v_faultKind v_faultPlace v_x v_ordered v_sought v_lastSought v_hMoved v_hWithout v_tMoved v_tWithout v_places_70 v_elsewhere_115 v_sMany v_bMany v_year y_lies a_rsort a_rmany a_nums pl) H locs → lv_has ls 5 [(0, .ref (ad 10)), (1, .int (t 6)), (3, .int x_113), (4, .int x_117)] → W p l e rm_X5_finds s m args below meth c H locs 0 0 Q (F0 m 206 ls [.int x_123, .int x_112]) := by
                  intro x_123 hF H locs ls hH hl
                  delta FX5_finds_j206 at hF
                  refine lv_ior hx hb dX5_finds_206 ?_
                  refine lv_istore_n (lv' := [(2, .int (x_112 ||| x_123)), (0, .ref (ad 10)), (1, .int (t 6)), (3, .int x_113), (4, .int x_117)]) hx hb dX5_finds_207 rfl hl (by decide) rfl (fun ls hl => ?_)
                  refine lv_aload_n hx hb dX5_finds_208 rfl (lv_at hl 1 rfl) ?_
                  refine lv_dup hx hb dX5_finds_209 rfl ?_
                  refine cg_Y_Match_match_elsewhere hX hK hNW hH dX5_finds_210 ?_
                  refine lv_iload hx hb dX5_finds_213 (lv_at hl 4 rfl) ?_
                  refine lv_iconst (v := (-1)) hx hb dX5_finds_215 kyi_m1 ?_
                  have j248 : ∀ (x_128 : Int32), FX5_finds_j248 x_112 x_113 v_elsewhere_115 a_to_121 x_123 x_128 = some yy155 → ∀ (H : Heap) (locs : List Loc) (ls : Array Slot), MH D vwA A s.heap (cW ad cA sA ta ba na gi rh rt g_sort g_size g_from g_to g_level g_full a_tape a_hAt a_hMany a_tAt a_tMany a_least_98 a_place_69 a_to_121 a_order a_fails a_sKeys a_sRow a_sSlots a_bKeys a_bRow a_bSlots a_easy a_wants a_wantedBy a_ring a_carried a_latest v_taped v_faultKind v_faultPlace v_x v_ordered v_sought v_lastSought v_hMoved v_hWithout v_tMoved v_tWithout v_places_70 v_elsewhere_115 v_sMany v_bMany v_year y_lies a_rsort a_rmany a_nums pl) H locs → lv_has ls 5 [(0, .ref (ad 10)), (1, .int (t 6)), (2, .int (x_112 ||| x_123)), (3, .int x_113)] → W p l e rm_X5_finds s m args below meth c H locs 0 0 Q (F0 m 248 ls [.int x_128, .int v_elsewhere_115, .ref (ad 10)]) := by
                    intro x_128 hF H locs ls hH hl
                    delta FX5_finds_j248 at hF
                    refine lv_iadd hx hb dX5_finds_248 ?_
                    refine cp_Y_Match_match_elsewhere hX hK hNW hH dX5_finds_249 (fun H locs hH => ?_)
                    refine lv_iinc (v := (x_113 + 1)) (lv' := [(3, .int (x_113 + 1)), (0, .ref (ad 10)), (1, .int (t 6)), (2, .int (x_112 ||| x_123))]) hx hb dX5_finds_252 hl (k := 3) rfl (syc kyi_1) (by decide) rfl (fun ls hl => ?_)
                    refine lv_goto (tgt := 155) hx hb dX5_finds_255 rfl ?_
                    obtain rfl := Option.some.inj hF
                    exact ih (x_112 ||| x_123) (x_113 + 1) a_to_121 (v_elsewhere_115 + x_128) hY155 _ _ _ hH (lv_sub hl [1, 2, 3, 0] rfl)
                  have j247 : FX5_finds_j247 x_112 x_113 v_elsewhere_115 a_to_121 x_123 = some yy155 → ∀ (H : Heap) (locs : List Loc) (ls : Array Slot), MH D vwA A s.heap (cW ad cA sA ta ba na gi rh rt g_sort g_size g_from g_to g_level g_full a_tape a_hAt a_hMany a_tAt a_tMany a_least_98 a_place_69 a_to_121 a_order a_fails a_sKeys a_sRow a_sSlots a_bKeys a_bRow a_bSlots a_easy a_wants a_wantedBy a_ring a_carried a_latest v_taped v_faultKind v_faultPlace v_x v_ordered v_sought v_lastSought v_hMoved v_hWithout v_tMoved v_tWithout v_places_70 v_elsewhere_115 v_sMany v_bMany v_year y_lies a_rsort a_rmany a_nums pl) H locs → lv_has ls 5 [(0, .ref (ad 10)), (1, .int (t 6)), (2, .int (x_112 ||| x_123)), (3, .int x_113)] → W p l e rm_X5_finds s m args below meth c H locs 0 0 Q (F0 m 247 ls [.int v_elsewhere_115, .ref (ad 10)]) := by
                    intro hF H locs ls hH hl
                    delta FX5_finds_j247 at hF
                    refine lv_iconst (v := 0) hx hb dX5_finds_247 kyi_0 ?_
                    exact j248 0 hF _ _ _ hH (lv_sub hl [0, 1, 2, 3] rfl)
                  refine lv_icmp_eq (tgt := 247) hx hb dX5_finds_216 rfl (fun c_124 => ?_) (fun c_124 => ?_)
                  · have hF := itp c_124 hF
                    exact j247 hF _ _ _ hH (lv_sub hl [1, 2, 0, 3] rfl)
                  · have hF := itn c_124 hF
                    refine lv_aload_n hx hb dX5_finds_219 rfl (lv_at hl 1 rfl) ?_
                    refine cg_Y_Match_match_place hX hK hNW hH dX5_finds_220 ?_
                    refine lv_iload hx hb dX5_finds_223 (lv_at hl 4 rfl) ?_
                    obtain ⟨x_125, he, hF⟩ := bd1e hF
                    refine cl_place hX hK hH he dX5_finds_225 ?_
                    refine lv_aload_n hx hb dX5_finds_226 rfl (lv_at hl 1 rfl) ?_
                    refine cg_Y_Match_match_this0 hX hK hNW hH dX5_finds_227 ?_
                    refine cg_Y_Match_this_s hX hK hNW hH dX5_finds_230 ?_
                    refine cg_Y_Match_state_lies hX hK hNW hH dX5_finds_233 ?_
                    refine lv_iload_n hx hb dX5_finds_236 rfl (lv_at hl 3 rfl) ?_
                    obtain ⟨x_126, he, hF⟩ := bd1e hF
                    refine mxSN hX hK hEv hE0 hH (met_X0_placeIn hE hPO he) (lw_meth q976) (hNW _ nw_q1250) q129 q975 hd_yX0_placeIn ⟨Nat.le_of_ble_eq_true rfl, Nat.le_of_ble_eq_true rfl⟩ rfl rfl hl (Nat.le_of_ble_eq_true rfl) dX5_finds_237 ⟨Nat.le_of_ble_eq_true rfl, Nat.le_of_ble_eq_true rfl⟩ (fun w2 H locs hw hH => ?_)
                    subst hw
                    refine lv_icmp_eq (tgt := 247) hx hb dX5_finds_240 rfl (fun c_127 => ?_) (fun c_127 => ?_)
                    · have hF := itp c_127 hF
                      exact j247 hF _ _ _ hH (lv_sub hl [1, 2, 0, 3] rfl)
                    · have hF := itn c_127 hF
                      refine lv_iconst (v := 1) hx hb dX5_finds_243 kyi_1 ?_
                      refine lv_goto (tgt := 248) hx hb dX5_finds_244 rfl ?_
                      exact j248 1 hF _ _ _ hH (lv_sub hl [1, 2, 0, 3] rfl)
                refine lv_icmp_ne (tgt := 202) hx hb dX5_finds_195 rfl (fun c_122 => ?_) (fun c_122 => ?_)
                · have hF := itn c_122 hF
                  refine lv_iconst (v := 1) hx hb dX5_finds_202 kyi_1 ?_
                  refine lv_iload hx hb dX5_finds_203 (lv_at hl 4 rfl) ?_
                  refine lv_ishl hx hb dX5_finds_205 ?_
                  exact j206 ((1 : Int32) <<< (x_117 &&& 31)) hF _ _ _ hH (lv_sub hl [0, 1, 3, 4] rfl)
                · have hF := itp c_122 hF
                  refine lv_iconst (v := 0) hx hb dX5_finds_198 kyi_0 ?_
                  refine lv_goto (tgt := 206) hx hb dX5_finds_199 rfl ?_
                  exact j206 0 hF _ _ _ hH (lv_sub hl [0, 1, 3, 4] rfl)
              refine lv_icmp_ne (tgt := 183) hx hb dX5_finds_176 rfl (fun c_118 => ?_) (fun c_118 => ?_)
              · have hF := itn c_118 hF
                refine lv_aload_n hx hb dX5_finds_183 rfl (lv_at hl 1 rfl) ?_
                refine cg_Y_Match_match_place hX hK hNW hH dX5_finds_184 ?_
                refine lv_iload hx hb dX5_finds_187 (lv_at hl 0 rfl) ?_
                obtain ⟨x_119, he, hF⟩ := bd1e hF
                refine cl_place hX hK hH he dX5_finds_189 ?_
                exact j190 x_119 hF _ _ _ hH (lv_sub hl [1, 2, 3, 4, 0] rfl)
              · have hF := itp c_118 hF
                refine lv_iconst (v := (-1)) hx hb dX5_finds_179 kyi_m1 ?_
                refine lv_goto (tgt := 190) hx hb dX5_finds_180 rfl ?_
                exact j190 (-1) hF _ _ _ hH (lv_sub hl [1, 2, 3, 4, 0] rfl)
        exact l155 nn155 0 0 a_to 0 en155 _ _ _ hH (lv_sub hl [2, 3, 1, 0] rfl)
      obtain ⟨nn117, en117⟩ := loopC_some ee117
      have l117 : ∀ (n : Nat) (x_88 : Int32) (a_least_89 : Nat → Int32), loopN (fun s => FX5_finds_b117 y_lies t a_place_69 v_places_70 s.1 s.2) n (x_88, a_least_89) = some xx117 → ∀ (H : Heap) (locs : List Loc) (ls : Array Slot), MH D vwA A s.heap (cW ad cA sA ta ba na gi rh rt g_sort g_size g_from g_to g_level g_full a_tape a_hAt a_hMany a_tAt a_tMany a_least_89 a_place_69 a_to a_order a_fails a_sKeys a_sRow a_sSlots a_bKeys a_bRow a_bSlots a_easy a_wants a_wantedBy a_ring a_carried a_latest v_taped v_faultKind v_faultPlace v_x v_ordered v_sought v_lastSought v_hMoved v_hWithout v_tMoved v_tWithout v_places_70 0 v_sMany v_bMany v_year y_lies a_rsort a_rmany a_nums pl) H locs → lv_has ls 5 [(0, .ref (ad 10)), (1, .int (t 6)), (2, .int x_88)] → W p l e rm_X5_finds s m args below meth c H locs 0 0 Q (F0 m 117 ls []) := by
        intro n
        induction n with
        | zero =>
          intro x_88 a_least_89 hN
          exact absurd hN loopN_zero
        | succ n ih =>
          intro x_88 a_least_89 hN H locs ls hH hl
          obtain ⟨yy117, hB117, hY117⟩ := loopN_succ hN
          have hF : FX5_finds_b117 y_lies t a_place_69 v_places_70 x_88 a_least_89 = some yy117 := hB117
          delta FX5_finds_b117 at hF
          refine lv_iload_n hx hb dX5_finds_117 rfl (lv_at hl 2 rfl) ?_
          refine lv_if_lt (tgt := 151) hx hb dX5_finds_118 rfl (fun c_90 => ?_) (fun c_90 => ?_)
          · have hF := itp c_90 hF
            obtain rfl := Option.some.inj hF
            exact k117_0 a_least_89 hY117 _ _ _ hH (lv_sub hl [0, 1] rfl)
          · have hF := itn c_90 hF
            refine lv_iconst (v := 0) hx hb dX5_finds_121 kyi_0 ?_
            refine lv_istore_n (lv' := [(3, .int 0), (0, .ref (ad 10)), (1, .int (t 6)), (2, .int x_88)]) hx hb dX5_finds_122 rfl hl (by decide) rfl (fun ls hl => ?_)
            obtain ⟨xx123, ee123, kk123_0⟩ := bd1L hF
            have k123_0 : ∀ (a_least_97 : Nat → Int32), xx123 = a_least_97 → ∀ (H : Heap) (locs : List Loc) (ls : Array Slot), MH D vwA A s.heap (cW ad cA sA ta ba na gi rh rt g_sort g_size g_from g_to g_level g_full a_tape a_hAt a_hMany a_tAt a_tMany a_least_97 a_place_69 a_to a_order a_fails a_sKeys a_sRow a_sSlots a_bKeys a_bRow a_bSlots a_easy a_wants a_wantedBy a_ring a_carried a_latest v_taped v_faultKind v_faultPlace v_x v_ordered v_sought v_lastSought v_hMoved v_hWithout v_tMoved v_tWithout v_places_70 0 v_sMany v_bMany v_year y_lies a_rsort a_rmany a_nums pl) H locs → lv_has ls 5 [(0, .ref (ad 10)), (1, .int (t 6)), (2, .int x_88)] → W p l e rm_X5_finds s m args below meth c H locs 0 0 Q (F0 m 145 ls []) := by
              intro a_least_97 hxx H locs ls hH hl
              have hF := un1e (kk123_0 a_least_97 hxx)
              refine lv_iinc (v := (x_88 + (-1))) (lv' := [(2, .int (x_88 + (-1))), (0, .ref (ad 10)), (1, .int (t 6))]) hx hb dX5_finds_145 hl (k := 2) rfl (syc kyi_m1) (by decide) rfl (fun ls hl => ?_)
              refine lv_goto (tgt := 117) hx hb dX5_finds_148 rfl ?_
              obtain rfl := Option.some.inj hF
              exact ih (x_88 + (-1)) a_least_97 hY117 _ _ _ hH (lv_sub hl [1, 2, 0] rfl)
            obtain ⟨nn123, en123⟩ := loopC_some ee123
            have l123 : ∀ (n : Nat) (x_93 : Int32) (a_least_94 : Nat → Int32), loopN (fun s => FX5_finds_b123 y_lies t a_place_69 v_places_70 x_88 s.1 s.2) n (x_93, a_least_94) = some xx123 → ∀ (H : Heap) (locs : List Loc) (ls : Array Slot), MH D vwA A s.heap (cW ad cA sA ta ba na gi rh rt g_sort g_size g_from g_to g_level g_full a_tape a_hAt a_hMany a_tAt a_tMany a_least_94 a_place_69 a_to a_order a_fails a_sKeys a_sRow a_sSlots a_bKeys a_bRow a_bSlots a_easy a_wants a_wantedBy a_ring a_carried a_latest v_taped v_faultKind v_faultPlace v_x v_ordered v_sought v_lastSought v_hMoved v_hWithout v_tMoved v_tWithout v_places_70 0 v_sMany v_bMany v_year y_lies a_rsort a_rmany a_nums pl) H locs → lv_has ls 5 [(0, .ref (ad 10)), (1, .int (t 6)), (2, .int x_88), (3, .int x_93)] → W p l e rm_X5_finds s m args below meth c H locs 0 0 Q (F0 m 123 ls []) := by
              intro n
              induction n with
              | zero =>
                intro x_93 a_least_94 hN
                exact absurd hN loopN_zero
              | succ n ih =>
                intro x_93 a_least_94 hN H locs ls hH hl
                obtain ⟨yy123, hB123, hY123⟩ := loopN_succ hN
                have hF : FX5_finds_b123 y_lies t a_place_69 v_places_70 x_88 x_93 a_least_94 = some yy123 := hB123
                delta FX5_finds_b123 at hF
                refine lv_iload_n hx hb dX5_finds_123 rfl (lv_at hl 3 rfl) ?_
                refine lv_iconst (v := 1) hx hb dX5_finds_124 kyi_1 ?_
                refine lv_aload_n hx hb dX5_finds_125 rfl (lv_at hl 0 rfl) ?_
                refine cg_Y_Match_match_places hX hK hNW hH dX5_finds_126 ?_
                refine lv_ishl hx hb dX5_finds_129 ?_
                refine lv_icmp_ge (tgt := 145) hx hb dX5_finds_130 rfl (fun c_95 => ?_) (fun c_95 => ?_)
                · have hF := itp c_95 hF
                  obtain rfl := Option.some.inj hF
                  exact k123_0 a_least_94 hY123 _ _ _ hH (lv_sub hl [0, 1, 2] rfl)
                · have hF := itn c_95 hF
                  refine lv_aload_n hx hb dX5_finds_133 rfl (lv_at hl 0 rfl) ?_
                  refine lv_iload_n hx hb dX5_finds_134 rfl (lv_at hl 2 rfl) ?_
                  refine lv_iload_n hx hb dX5_finds_135 rfl (lv_at hl 3 rfl) ?_
                  obtain ⟨a_least_96, he, hF⟩ := bd1e hF
                  refine mxV hX hK hEv hE0 hH (met_X5_weighs hE hPO he) (crecv hK hH 10 5 rfl rfl) gw_StoneYear_Match_62 hd_yX5_weighs ⟨Nat.le_of_ble_eq_true rfl, Nat.le_of_ble_eq_true rfl⟩ rfl rfl hl (Nat.le_of_ble_eq_true rfl) dX5_finds_136 ⟨Nat.le_of_ble_eq_true rfl, Nat.le_of_ble_eq_true rfl⟩ (fun w2 H locs hw hH => ?_)
                  subst hw
                  refine lv_iinc (v := (x_93 + 1)) (lv' := [(3, .int (x_93 + 1)), (0, .ref (ad 10)), (1, .int (t 6)), (2, .int x_88)]) hx hb dX5_finds_139 hl (k := 3) rfl (syc kyi_1) (by decide) rfl (fun ls hl => ?_)
                  refine lv_goto (tgt := 123) hx hb dX5_finds_142 rfl ?_
                  obtain rfl := Option.some.inj hF
                  exact ih (x_93 + 1) a_least_96 hY123 _ _ _ hH (lv_sub hl [1, 2, 3, 0] rfl)
            exact l123 nn123 0 a_least_89 en123 _ _ _ hH (lv_sub hl [1, 2, 3, 0] rfl)
      exact l117 nn117 ((t 6) - 1) a_least_79 en117 _ _ _ hH (lv_sub hl [1, 2, 0] rfl)
    obtain ⟨nn85, en85⟩ := loopC_some ee85
    have l85 : ∀ (n : Nat) (x_74 : Int32) (a_least_75 : Nat → Int32), loopN (fun s => FX5_finds_b85 t v_places_70 s.1 s.2) n (x_74, a_least_75) = some xx85 → ∀ (H : Heap) (locs : List Loc) (ls : Array Slot), MH D vwA A s.heap (cW ad cA sA ta ba na gi rh rt g_sort g_size g_from g_to g_level g_full a_tape a_hAt a_hMany a_tAt a_tMany a_least_75 a_place_69 a_to a_order a_fails a_sKeys a_sRow a_sSlots a_bKeys a_bRow a_bSlots a_easy a_wants a_wantedBy a_ring a_carried a_latest v_taped v_faultKind v_faultPlace v_x v_ordered v_sought v_lastSought v_hMoved v_hWithout v_tMoved v_tWithout v_places_70 0 v_sMany v_bMany v_year y_lies a_rsort a_rmany a_nums pl) H locs → lv_has ls 5 [(0, .ref (ad 10)), (1, .int (t 6)), (2, .int x_74)] → W p l e rm_X5_finds s m args below meth c H locs 0 0 Q (F0 m 85 ls []) := by
      intro n
      induction n with
      | zero =>
        intro x_74 a_least_75 hN
        exact absurd hN loopN_zero
      | succ n ih =>
        intro x_74 a_least_75 hN H locs ls hH hl
        obtain ⟨yy85, hB85, hY85⟩ := loopN_succ hN
        have hF : FX5_finds_b85 t v_places_70 x_74 a_least_75 = some yy85 := hB85
        delta FX5_finds_b85 at hF
        refine lv_iload_n hx hb dX5_finds_85 rfl (lv_at hl 2 rfl) ?_
        refine lv_iconst (v := 1) hx hb dX5_finds_86 kyi_1 ?_
        refine lv_aload_n hx hb dX5_finds_87 rfl (lv_at hl 0 rfl) ?_
        refine cg_Y_Match_match_places hX hK hNW hH dX5_finds_88 ?_
        refine lv_ishl hx hb dX5_finds_91 ?_
        refine lv_icmp_ge (tgt := 113) hx hb dX5_finds_92 rfl (fun c_76 => ?_) (fun c_76 => ?_)
        · have hF := itp c_76 hF
          obtain rfl := Option.some.inj hF
          exact k85_0 a_least_75 hY85 _ _ _ hH (lv_sub hl [0, 1] rfl)
        · have hF := itn c_76 hF
          refine lv_aload_n hx hb dX5_finds_95 rfl (lv_at hl 0 rfl) ?_
          refine cg_Y_Match_match_least hX hK hNW hH dX5_finds_96 ?_
          refine lv_aload_n hx hb dX5_finds_99 rfl (lv_at hl 0 rfl) ?_
          refine lv_iload_n hx hb dX5_finds_100 rfl (lv_at hl 1 rfl) ?_
          refine lv_iload_n hx hb dX5_finds_101 rfl (lv_at hl 2 rfl) ?_
          obtain ⟨x_77, he, hF⟩ := bd1e hF
          refine mxV hX hK hEv hE0 hH (met_X5_at hE hPO he) (crecv hK hH 10 5 rfl rfl) gw_StoneYear_Match_59 hd_yX5_at ⟨Nat.le_of_ble_eq_true rfl, Nat.le_of_ble_eq_true rfl⟩ rfl rfl hl (Nat.le_of_ble_eq_true rfl) dX5_finds_102 ⟨Nat.le_of_ble_eq_true rfl, Nat.le_of_ble_eq_true rfl⟩ (fun w2 H locs hw hH => ?_)
          subst hw
          refine lv_iconst (v := 0) hx hb dX5_finds_105 kyi_0 ?_
          obtain ⟨a_least_78, he, hF⟩ := bd1e hF
          refine cs_least hX hK hH he dX5_finds_106 (fun H locs hH => ?_)
          refine lv_iinc (v := (x_74 + 1)) (lv' := [(2, .int (x_74 + 1)), (0, .ref (ad 10)), (1, .int (t 6))]) hx hb dX5_finds_107 hl (k := 2) rfl (syc kyi_1) (by decide) rfl (fun ls hl => ?_)
          refine lv_goto (tgt := 85) hx hb dX5_finds_110 rfl ?_
          obtain rfl := Option.some.inj hF
          exact ih (x_74 + 1) a_least_78 hY85 _ _ _ hH (lv_sub hl [1, 2, 0] rfl)
    exact l85 nn85 0 a_least en85 _ _ _ hH (lv_sub hl [2, 1, 0] rfl)
  obtain ⟨nn12, en12⟩ := loopC_some ee12
  have l12 : ∀ (n : Nat) (x_60 : Int32) (a_place_61 : Nat → Int32) (v_places_62 : Int32), loopN (fun s => FX5_finds_b12 t s.1 s.2.1 s.2.2) n (x_60, a_place_61, v_places_62) = some xx12 → ∀ (H : Heap) (locs : List Loc) (ls : Array Slot), MH D vwA A s.heap (cW ad cA sA ta ba na gi rh rt g_sort g_size g_from g_to g_level g_full a_tape a_hAt a_hMany a_tAt a_tMany a_least a_place_61 a_to a_order a_fails a_sKeys a_sRow a_sSlots a_bKeys a_bRow a_bSlots a_easy a_wants a_wantedBy a_ring a_carried a_latest v_taped v_faultKind v_faultPlace v_x v_ordered v_sought v_lastSought v_hMoved v_hWithout v_tMoved v_tWithout v_places_62 0 v_sMany v_bMany v_year y_lies a_rsort a_rmany a_nums pl) H locs → lv_has ls 5 [(0, .ref (ad 10)), (1, .int x_60)] → W p l e rm_X5_finds s m args below meth c H locs 0 0 Q (F0 m 12 ls []) := by
    intro n
    induction n with
    | zero =>
      intro x_60 a_place_61 v_places_62 hN
      exact absurd hN loopN_zero
    | succ n ih =>
      intro x_60 a_place_61 v_places_62 hN H locs ls hH hl
      obtain ⟨yy12, hB12, hY12⟩ := loopN_succ hN
      have hF : FX5_finds_b12 t x_60 a_place_61 v_places_62 = some yy12 := hB12
      delta FX5_finds_b12 at hF
      refine lv_iload_n hx hb dX5_finds_12 rfl (lv_at hl 1 rfl) ?_
      refine lv_bipush (v := 15) hx hb dX5_finds_13 kyb_15 ?_
      refine lv_icmp_ge (tgt := 66) hx hb dX5_finds_15 rfl (fun c_63 => ?_) (fun c_63 => ?_)
      · have hF := itp c_63 hF
        obtain rfl := Option.some.inj hF
        exact k12_0 a_place_61 v_places_62 hY12 _ _ _ hH (lv_sub hl [0] rfl)
      · have hF := itn c_63 hF
        refine lv_aload_n hx hb dX5_finds_18 rfl (lv_at hl 0 rfl) ?_
        refine cg_Y_Match_match_this0 hX hK hNW hH dX5_finds_19 ?_
        refine cg_Y_Match_this_s hX hK hNW hH dX5_finds_22 ?_
        refine cg_Y_Match_state_town hX hK hNW hH dX5_finds_25 ?_
        refine lv_iload_n hx hb dX5_finds_28 rfl (lv_at hl 1 rfl) ?_
        refine lv_iconst (v := (-1)) hx hb dX5_finds_29 kyi_m1 ?_
        obtain ⟨x_64, he, hF⟩ := bd1e hF
        refine mxV hX hK hEv hE0 hH (met_X2_wished hE hPO hT he) (precv (fun _ h => cW_pl h) hK hH 2 rfl ⟨_, hT.obj⟩) gw_StoneYear_Match_43 hd_yX2_wished ⟨Nat.le_of_ble_eq_true rfl, Nat.le_of_ble_eq_true rfl⟩ rfl rfl hl (Nat.le_of_ble_eq_true rfl) dX5_finds_30 ⟨Nat.le_of_ble_eq_true rfl, Nat.le_of_ble_eq_true rfl⟩ (fun w2 H locs hw hH => ?_)
        subst hw
        refine lv_iconst (v := (-1)) hx hb dX5_finds_33 kyi_m1 ?_
        have j60 : ∀ (a_place_67 : Nat → Int32) (v_places_68 : Int32), FX5_finds_j60 x_60 a_place_67 v_places_68 = some yy12 → ∀ (H : Heap) (locs : List Loc) (ls : Array Slot), MH D vwA A s.heap (cW ad cA sA ta ba na gi rh rt g_sort g_size g_from g_to g_level g_full a_tape a_hAt a_hMany a_tAt a_tMany a_least a_place_67 a_to a_order a_fails a_sKeys a_sRow a_sSlots a_bKeys a_bRow a_bSlots a_easy a_wants a_wantedBy a_ring a_carried a_latest v_taped v_faultKind v_faultPlace v_x v_ordered v_sought v_lastSought v_hMoved v_hWithout v_tMoved v_tWithout v_places_68 0 v_sMany v_bMany v_year y_lies a_rsort a_rmany a_nums pl) H locs → lv_has ls 5 [(0, .ref (ad 10)), (1, .int x_60)] → W p l e rm_X5_finds s m args below meth c H locs 0 0 Q (F0 m 60 ls []) := by
          intro a_place_67 v_places_68 hF H locs ls hH hl
          delta FX5_finds_j60 at hF
          refine lv_iinc (v := (x_60 + 1)) (lv' := [(1, .int (x_60 + 1)), (0, .ref (ad 10))]) hx hb dX5_finds_60 hl (k := 1) rfl (syc kyi_1) (by decide) rfl (fun ls hl => ?_)
          refine lv_goto (tgt := 12) hx hb dX5_finds_63 rfl ?_
          obtain rfl := Option.some.inj hF
          exact ih (x_60 + 1) a_place_67 v_places_68 hY12 _ _ _ hH (lv_sub hl [1, 0] rfl)
        refine lv_icmp_ne (tgt := 40) hx hb dX5_finds_34 rfl (fun c_65 => ?_) (fun c_65 => ?_)
        · have hF := itn c_65 hF
          refine lv_aload_n hx hb dX5_finds_40 rfl (lv_at hl 0 rfl) ?_
          refine cg_Y_Match_match_place hX hK hNW hH dX5_finds_41 ?_
          refine lv_aload_n hx hb dX5_finds_44 rfl (lv_at hl 0 rfl) ?_
          refine cg_Y_Match_match_places hX hK hNW hH dX5_finds_45 ?_
          refine lv_iload_n hx hb dX5_finds_48 rfl (lv_at hl 1 rfl) ?_
          obtain ⟨a_place_66, he, hF⟩ := bd1e hF
          refine cs_place hX hK hH he dX5_finds_49 (fun H locs hH => ?_)
          refine lv_aload_n hx hb dX5_finds_50 rfl (lv_at hl 0 rfl) ?_
          refine lv_dup hx hb dX5_finds_51 rfl ?_
          refine cg_Y_Match_match_places hX hK hNW hH dX5_finds_52 ?_
          refine lv_iconst (v := 1) hx hb dX5_finds_55 kyi_1 ?_
          refine lv_iadd hx hb dX5_finds_56 ?_
          refine cp_Y_Match_match_places hX hK hNW hH dX5_finds_57 (fun H locs hH => ?_)
          exact j60 a_place_66 (v_places_62 + 1) hF _ _ _ hH (lv_sub hl [0, 1] rfl)
        · have hF := itp c_65 hF
          refine lv_goto (tgt := 60) hx hb dX5_finds_37 rfl ?_
          exact j60 a_place_61 v_places_62 hF _ _ _ hH (lv_sub hl [0, 1] rfl)
  exact l12 nn12 0 a_place 0 en12 _ _ _ hH (lv_sub hl [1, 0] rfl)
abbrev rm_X0_match : Room := { frames := 8, cells := 0, slots := 0, locals := 235 }
set_option maxHeartbeats 4000000 in
theorem met_X0_match {l : Launch} {D : va_G} {ad : Nat → Nat} {cA : Nat → ClassId} {sA ta ba na : Nat → Nat} {gi : Nat → Option Nat} {rh : Option Nat} {rt : Option Nat} {g_sort : Int32} {g_size : Int32} {g_from : Int32} {g_to : Int32} {g_level : Int32} {g_full : Int32} {a_tape : Nat → Int32} {a_hAt : Nat → Int32} {a_hMany : Nat → Int32} {a_tAt : Nat → Int32} {a_tMany : Nat → Int32} {a_least : Nat → Int32} {a_place : Nat → Int32} {a_to : Nat → Int32} {a_order : Nat → Int32} {a_fails : Nat → Int32} {a_sKeys : Nat → Int64} {a_sRow : Nat → Int64} {a_sSlots : Nat → Int32} {a_bKeys : Nat → Int64} {a_bRow : Nat → Int64} {a_bSlots : Nat → Int32} {a_easy : Nat → Int32} {a_wants : Nat → Int32} {a_wantedBy : Nat → Int32} {a_ring : Nat → Int32} {a_carried : Nat → Int32} {a_latest : Nat → Int32} {v_taped : Int32} {v_faultKind : Int32} {v_faultPlace : Int32} {v_x : Int32} {v_ordered : Int32} {v_sought : Int32} {v_lastSought : Int32} {v_hMoved : Int32} {v_hWithout : Int32} {v_tMoved : Int32} {v_tWithout : Int32} {v_places : Int32} {v_elsewhere : Int32} {v_sMany : Int32} {v_bMany : Int32} {v_year : Int32} {y_lies : Int64} {a_rsort : Nat → Int32} {a_rmany : Nat → Int32} {a_nums : Nat → Nat → Int64} {t : Nat → Int32} {nb : Int32} {bv : Nat → Int32 → Int32 → Int32 → Int32 → Int32 → Int32 → Bool} {pl : va_W}  {p1 : Int32} {res : Int32} {ra_least : Nat → Int32} {ra_place : Nat → Int32} {ra_to : Nat → Int32} {rv_places : Int32} {rv_elsewhere : Int32} {E : EvT} (hE : EvN E) (hPO : PO cA pl ta ba t nb bv) (hF : FX0_match a_least a_place a_to v_places v_elsewhere y_lies t p1 = some (res, ra_least, ra_place, ra_to, rv_places, rv_elsewhere)) : MX l yX0_match (ws_ yX0_match cX0_match 2 (Option.some Jvm.ClassFile.FieldType.int)) rm_X0_match D vwA (cT cA) E [.ref (ad 0), .int p1] (cW ad cA sA ta ba na gi rh rt g_sort g_size g_from g_to g_level g_full a_tape a_hAt a_hMany a_tAt a_tMany a_least a_place a_to a_order a_fails a_sKeys a_sRow a_sSlots a_bKeys a_bRow a_bSlots a_easy a_wants a_wantedBy a_ring a_carried a_latest v_taped v_faultKind v_faultPlace v_x v_ordered v_sought v_lastSought v_hMoved v_hWithout v_tMoved v_tWithout v_places v_elsewhere v_sMany v_bMany v_year y_lies a_rsort a_rmany a_nums pl) (fun z => z = (cW ad cA sA ta ba na gi rh rt g_sort g_size g_from g_to g_level g_full a_tape a_hAt a_hMany a_tAt a_tMany ra_least ra_place ra_to a_order a_fails a_sKeys a_sRow a_sSlots a_bKeys a_bRow a_bSlots a_easy a_wants a_wantedBy a_ring a_carried a_latest v_taped v_faultKind v_faultPlace v_x v_ordered v_sought v_lastSought v_hMoved v_hWithout v_tMoved v_tWithout rv_places rv_elsewhere v_sMany v_bMany v_year y_lies a_rsort a_rmany a_nums pl)) (some (.int res)) := by
  refine MX.ofI (by decide) (Nat.le_of_ble_eq_true rfl) ?_
  intro p e s m args below meth c Q A hX hK hE0 hname hret H locs ls hH hl
  have hX : CallFix p m c cX0_match 2 s args lw_all RX0 := hX
  have hx := hX.1
  have hb := hX.2.1
  have hown := hX.2.2.2.1
  have hts := hX.2.2.2.2
  have hl : lv_has ls 2 [(0, .ref (ad 0)), (1, .int p1)] := hl
  have hEv := hE.1
  have hNW := hE.2.1 _ _ _ hE0
  have hT := hPO.1
  have hB := hPO.2
  delta FX0_match at hF
  refine lv_iload_n hx hb dX0_match_0 rfl (lv_at hl 1 rfl) ?_
  refine lv_iconst (v := (-1)) hx hb dX0_match_1 kyi_m1 ?_
  have j16 : FX0_match_j16 a_least a_place a_to y_lies t p1 = some (res, ra_least, ra_place, ra_to, rv_places, rv_elsewhere) → ∀ (H : Heap) (locs : List Loc) (ls : Array Slot), MH D vwA A s.heap (cW ad cA sA ta ba na gi rh rt g_sort g_size g_from g_to g_level g_full a_tape a_hAt a_hMany a_tAt a_tMany a_least a_place a_to a_order a_fails a_sKeys a_sRow a_sSlots a_bKeys a_bRow a_bSlots a_easy a_wants a_wantedBy a_ring a_carried a_latest v_taped v_faultKind v_faultPlace v_x v_ordered v_sought v_lastSought v_hMoved v_hWithout v_tMoved v_tWithout v_places v_elsewhere v_sMany v_bMany v_year y_lies a_rsort a_rmany a_nums pl) H locs → lv_has ls 2 [(0, .ref (ad 0)), (1, .int p1)] → W p l e rm_X0_match s m args below meth c H locs 0 0 Q (F0 m 16 ls []) := by
    intro hF H locs ls hH hl
    delta FX0_match_j16 at hF
    refine lv_aload_n hx hb dX0_match_16 rfl (lv_at hl 0 rfl) ?_
    refine cg_Y_this_match hX hK hNW hH dX0_match_17 ?_
    obtain ⟨a_least_58, a_place_59, a_to_60, v_places_61, v_elsewhere_62, he, hF⟩ := bd5e hF
    refine mxV hX hK hEv hE0 hH (met_X5_finds hE hPO he) (crecv hK hH 10 5 rfl rfl) gw_StoneYear_335 hd_yX5_finds ⟨Nat.le_of_ble_eq_true rfl, Nat.le_of_ble_eq_true rfl⟩ rfl rfl hl (Nat.le_of_ble_eq_true rfl) dX0_match_20 ⟨Nat.le_of_ble_eq_true rfl, Nat.le_of_ble_eq_true rfl⟩ (fun w2 H locs hw hH => ?_)
    subst hw
    refine lv_pop hx hb dX0_match_23 rfl ?_
    refine lv_iload_n hx hb dX0_match_24 rfl (lv_at hl 1 rfl) ?_
    refine lv_iconst (v := (-1)) hx hb dX0_match_25 kyi_m1 ?_
    refine lv_icmp_ne (tgt := 39) hx hb dX0_match_26 rfl (fun c_63 => ?_) (fun c_63 => ?_)
    · have hF := itn c_63 hF
      refine lv_aload_n hx hb dX0_match_39 rfl (lv_at hl 0 rfl) ?_
      refine cg_Y_this_match hX hK hNW hH dX0_match_40 ?_
      refine cg_Y_match_to hX hK hNW hH dX0_match_43 ?_
      refine lv_iload_n hx hb dX0_match_46 rfl (lv_at hl 1 rfl) ?_
      obtain ⟨x_64, he, hF⟩ := bd1e hF
      refine cl_to hX hK hH he dX0_match_47 ?_
      obtain ⟨rfl, rfl, rfl, rfl, rfl, rfl⟩ := re6 hF
      exact hret _ _ _ _ _ rfl hH dX0_match_48
    · have hF := itp c_63 hF
      refine lv_aload_n hx hb dX0_match_29 rfl (lv_at hl 0 rfl) ?_
      refine cg_Y_this_match hX hK hNW hH dX0_match_30 ?_
      refine cg_Y_match_elsewhere hX hK hNW hH dX0_match_33 ?_
      refine lv_goto (tgt := 48) hx hb dX0_match_36 rfl ?_
      obtain ⟨rfl, rfl, rfl, rfl, rfl, rfl⟩ := re6 hF
      exact hret _ _ _ _ _ rfl hH dX0_match_48
  refine lv_icmp_eq (tgt := 16) hx hb dX0_match_2 rfl (fun c_55 => ?_) (fun c_55 => ?_)
  · have hF := itp c_55 hF
    exact j16 hF _ _ _ hH (lv_sub hl [0, 1] rfl)
  · have hF := itn c_55 hF
    refine lv_aload_n hx hb dX0_match_5 rfl (lv_at hl 0 rfl) ?_
    refine lv_iload_n hx hb dX0_match_6 rfl (lv_at hl 1 rfl) ?_
    obtain ⟨b_56, he, hF⟩ := bd1e hF
    refine mxV hX hK hEv hE0 hH (met_X0_isStone hE hPO he) (crecv hK hH 0 0 rfl rfl) gw_StoneYear_158 hd_yX0_isStone ⟨Nat.le_of_ble_eq_true rfl, Nat.le_of_ble_eq_true rfl⟩ rfl rfl hl (Nat.le_of_ble_eq_true rfl) dX0_match_7 ⟨Nat.le_of_ble_eq_true rfl, Nat.le_of_ble_eq_true rfl⟩ (fun w2 H locs hw hH => ?_)
    subst hw
    refine lv_if_ne (tgt := 16) hx hb dX0_match_10 rfl (fun c_57 => ?_) (fun c_57 => ?_)
    · have hF := itn c_57 hF
      exact j16 hF _ _ _ hH (lv_sub hl [0, 1] rfl)
    · have hF := itp c_57 hF
      refine lv_bipush (v := (-2)) hx hb dX0_match_13 kyb_m2 ?_
      obtain ⟨rfl, rfl, rfl, rfl, rfl, rfl⟩ := re6 hF
      exact hret _ _ _ _ _ rfl hH dX0_match_15