set_option maxRecDepth 100000
abbrev rm_X8_perform : Room := { frames := 5, cells := 0, slots := 0, locals := 127 }
set_option maxHeartbeats 4000000 in
theorem met_X8_perform {l : Launch} {D : va_G} {ad : Nat → Nat} {cA : Nat → ClassId} {a_all : Nat → Int32} {a_hasImage : Nat → Int32} {a_tape : Nat → Int32} {a_fresh : Nat → Int32} {v_taped : Int32} {v_at : Int32} {v_behind : Int32} {v_size : Int32} {v_kind : Int32} {v_number : Int32} {v_wrong : Int32} {v_wrongAt : Int32} {v_depth : Int32} {v_steps : Int32} {v_faultKind : Int32} {v_faultPlace : Int32} {a_on : Nat → Int32} {a_many : Nat → Int32} {v_moved : Int32} {a_pile : Nat → Int32} {v_aside : Int32} {v_judgedBy : Int32} {v_judgedYear : Int32} {a_leastCost : Nat → Int32} {a_matched : Nat → Int32} {a_order : Nat → Int32} {a_lies : Nat → Int64} {a_movedThen : Nat → Int32} {a_yearTable : Nat → Int32} {a_yearMark : Nat → Int32} {a_beginTable : Nat → Int32} {a_beginMark : Nat → Int32} {v_statesTold : Int32} {v_found : Int32} {v_yearFrom : Int32} {v_mark : Int32} {v_beginsMark : Int32} {v_begins : Int32} {a_began : Nat → Int64} {v_isSpent : Int32} {a_wants : Nat → Int32} {a_rowSort : Nat → Int32} {a_rowMany : Nat → Int32} {a_numbers : Nat → Int64}  {p1 : Int32} {res : Int32} {ra_all : Nat → Int32} {ra_on : Nat → Int32} {ra_many : Nat → Int32} {rv_moved : Int32} {ra_pile : Nat → Int32} {rv_judgedBy : Int32} {rv_judgedYear : Int32} {ak av fo : Nat} {E : EvT} (hE : EvM E ak av fo) (hF : FX8_perform a_all a_on a_many v_moved a_pile v_aside v_judgedBy v_judgedYear a_rowSort a_rowMany a_numbers p1 = some (res, ra_all, ra_on, ra_many, rv_moved, ra_pile, rv_judgedBy, rv_judgedYear)) : MM l yX8_perform (ws_ yX8_perform cX8_perform 6 (Option.some Jvm.ClassFile.FieldType.int)) rm_X8_perform D vwA (mT cA) E [.ref (ad 0), .int p1] (mW ad cA a_all a_hasImage a_tape a_fresh v_taped v_at v_behind v_size v_kind v_number v_wrong v_wrongAt v_depth v_steps v_faultKind v_faultPlace a_on a_many v_moved a_pile v_aside v_judgedBy v_judgedYear a_leastCost a_matched a_order a_lies a_movedThen a_yearTable a_yearMark a_beginTable a_beginMark v_statesTold v_found v_yearFrom v_mark v_beginsMark v_begins a_began v_isSpent a_wants a_rowSort a_rowMany a_numbers) (mW ad cA ra_all a_hasImage a_tape a_fresh v_taped v_at v_behind v_size v_kind v_number v_wrong v_wrongAt v_depth v_steps v_faultKind v_faultPlace ra_on ra_many rv_moved ra_pile v_aside rv_judgedBy rv_judgedYear a_leastCost a_matched a_order a_lies a_movedThen a_yearTable a_yearMark a_beginTable a_beginMark v_statesTold v_found v_yearFrom v_mark v_beginsMark v_begins a_began v_isSpent a_wants a_rowSort a_rowMany a_numbers) (some (.int res)) := by
  refine MM.ofI (by decide) (Nat.le_of_ble_eq_true rfl) ?_
  intro p e s m args below meth c Q A hX hK hE0 hret H locs ls hH hl
  have hX : CallFix p m c cX8_perform 6 s args lw_all RX8 := hX
  have hx := hX.1
  have hb := hX.2.1
  have hown := hX.2.2.2.1
  have hts := hX.2.2.2.2
  have hl : lv_has ls 6 [(0, .ref (ad 0)), (1, .int p1)] := hl
  have hEv := hE.1
  delta FX8_perform at hF
  refine lv_aload_n hx hb dX8_perform_0 rfl (lv_at hl 0 rfl) ?_
  refine lv_iconst (v := 0) hx hb dX8_perform_1 syi_0 ?_
  refine mp_thrown hX hK hH dX8_perform_2 (fun H locs hH => ?_)
  refine lv_iload_n hx hb dX8_perform_5 rfl (lv_at hl 1 rfl) ?_
  refine lv_i2l (v := (Int32.toInt64 p1)) hx hb dX8_perform_6 rfl ?_
  refine lv_lconst (v := 0) hx hb dX8_perform_7 rfl ?_
  refine lv_ldc2 (v := 3) hx hb hown (hts _ q2028) dX8_perform_8 ?_
  obtain ⟨b_46, he, hF⟩ := bd1e hF
  refine mcS hX hK hEv hE0 hH (met_X8_within hE he) gw_StoneYearModel_153 hd_yX8_within ⟨Nat.le_of_ble_eq_true rfl, Nat.le_of_ble_eq_true rfl⟩ rfl rfl hl (Nat.le_of_ble_eq_true rfl) dX8_perform_11 ⟨Nat.le_of_ble_eq_true rfl, Nat.le_of_ble_eq_true rfl⟩ (fun H locs hH => ?_)
  refine lv_if_ne (tgt := 20) hx hb dX8_perform_14 rfl (fun c_47 => ?_) (fun c_47 => ?_)
  · have hF := itn c_47 hF
    refine lv_aload_n hx hb dX8_perform_20 rfl (lv_at hl 0 rfl) ?_
    refine mg_rowSort hX hK hH dX8_perform_21 ?_
    refine lv_iload_n hx hb dX8_perform_24 rfl (lv_at hl 1 rfl) ?_
    obtain ⟨x_48, he, hF⟩ := bd1e hF
    refine ml_rowSort hX hK hH he dX8_perform_25 ?_
    refine lv_iconst (v := (-1)) hx hb dX8_perform_26 syi_m1 ?_
    refine lv_icmp_ne (tgt := 33) hx hb dX8_perform_27 rfl (fun c_49 => ?_) (fun c_49 => ?_)
    · have hF := itn c_49 hF
      refine lv_aload_n hx hb dX8_perform_33 rfl (lv_at hl 0 rfl) ?_
      refine lv_iload_n hx hb dX8_perform_34 rfl (lv_at hl 1 rfl) ?_
      obtain ⟨x_50, a_on_51, a_many_52, v_moved_53, a_pile_54, v_judgedBy_55, v_judgedYear_56, he, hF⟩ := bd7e hF
      refine mcV hX hK hEv hE0 hH (met_X8_goes hE he) (mrecv hK hH) gw_StoneYearModel_321 hd_yX8_goes ⟨Nat.le_of_ble_eq_true rfl, Nat.le_of_ble_eq_true rfl⟩ rfl rfl hl (Nat.le_of_ble_eq_true rfl) dX8_perform_35 ⟨Nat.le_of_ble_eq_true rfl, Nat.le_of_ble_eq_true rfl⟩ (fun H locs hH => ?_)
      refine lv_istore_n (lv' := [(2, .int x_50), (0, .ref (ad 0)), (1, .int p1)]) hx hb dX8_perform_38 rfl hl (by decide) rfl (fun ls hl => ?_)
      refine lv_iconst (v := 0) hx hb dX8_perform_39 syi_0 ?_
      refine lv_istore_n (lv' := [(3, .int 0), (2, .int x_50), (0, .ref (ad 0)), (1, .int p1)]) hx hb dX8_perform_40 rfl hl (by decide) rfl (fun ls hl => ?_)
      obtain ⟨xx41, ee41, kk41_0⟩ := bd5L hF
      have k41_0 : ∀ (a_all_109 : Nat → Int32) (a_on_110 : Nat → Int32) (a_many_111 : Nat → Int32) (v_moved_112 : Int32) (a_pile_113 : Nat → Int32), xx41 = (a_all_109, a_on_110, a_many_111, v_moved_112, a_pile_113) → ∀ (H : Heap) (locs : List Loc) (ls : Array Slot), MH D vwA A s.heap (mW ad cA a_all_109 a_hasImage a_tape a_fresh v_taped v_at v_behind v_size v_kind v_number v_wrong v_wrongAt v_depth v_steps v_faultKind v_faultPlace a_on_110 a_many_111 v_moved_112 a_pile_113 v_aside v_judgedBy_55 v_judgedYear_56 a_leastCost a_matched a_order a_lies a_movedThen a_yearTable a_yearMark a_beginTable a_beginMark v_statesTold v_found v_yearFrom v_mark v_beginsMark v_begins a_began v_isSpent a_wants a_rowSort a_rowMany a_numbers) H locs → lv_has ls 6 [(2, .int x_50)] → W p l e rm_X8_perform s m args below meth c H locs 0 0 Q (F0 m 131 ls []) := by
        intro a_all_109 a_on_110 a_many_111 v_moved_112 a_pile_113 hxx H locs ls hH hl
        have hF := un5e (kk41_0 (a_all_109, a_on_110, a_many_111, v_moved_112, a_pile_113) hxx)
        refine lv_iload_n hx hb dX8_perform_131 rfl (lv_at hl 0 rfl) ?_
        obtain ⟨rfl, rfl, rfl, rfl, rfl, rfl, rfl, rfl⟩ := re8 hF
        exact hret _ _ _ _ hH dX8_perform_132
      obtain ⟨nn41, en41⟩ := loopC_some ee41
      have l41 : ∀ (n : Nat) (x_80 : Int32) (a_all_81 : Nat → Int32) (a_on_82 : Nat → Int32) (a_many_83 : Nat → Int32) (v_moved_84 : Int32) (a_pile_85 : Nat → Int32), loopN (fun s => FX8_perform_b41 v_aside a_numbers p1 x_50 s.1 s.2.1 s.2.2.1 s.2.2.2.1 s.2.2.2.2.1 s.2.2.2.2.2) n (x_80, a_all_81, a_on_82, a_many_83, v_moved_84, a_pile_85) = some xx41 → ∀ (H : Heap) (locs : List Loc) (ls : Array Slot), MH D vwA A s.heap (mW ad cA a_all_81 a_hasImage a_tape a_fresh v_taped v_at v_behind v_size v_kind v_number v_wrong v_wrongAt v_depth v_steps v_faultKind v_faultPlace a_on_82 a_many_83 v_moved_84 a_pile_85 v_aside v_judgedBy_55 v_judgedYear_56 a_leastCost a_matched a_order a_lies a_movedThen a_yearTable a_yearMark a_beginTable a_beginMark v_statesTold v_found v_yearFrom v_mark v_beginsMark v_begins a_began v_isSpent a_wants a_rowSort a_rowMany a_numbers) H locs → lv_has ls 6 [(0, .ref (ad 0)), (1, .int p1), (2, .int x_50), (3, .int x_80)] → W p l e rm_X8_perform s m args below meth c H locs 0 0 Q (F0 m 41 ls []) := by
        intro n
        induction n with
        | zero =>
          intro x_80 a_all_81 a_on_82 a_many_83 v_moved_84 a_pile_85 hN
          exact absurd hN loopN_zero
        | succ n ih =>
          intro x_80 a_all_81 a_on_82 a_many_83 v_moved_84 a_pile_85 hN H locs ls hH hl
          obtain ⟨yy41, hB41, hY41⟩ := loopN_succ hN
          have hF : FX8_perform_b41 v_aside a_numbers p1 x_50 x_80 a_all_81 a_on_82 a_many_83 v_moved_84 a_pile_85 = some yy41 := hB41
          delta FX8_perform_b41 at hF
          refine lv_iload_n hx hb dX8_perform_41 rfl (lv_at hl 3 rfl) ?_
          refine lv_iload_n hx hb dX8_perform_42 rfl (lv_at hl 2 rfl) ?_
          refine lv_icmp_ge (tgt := 131) hx hb dX8_perform_43 rfl (fun c_86 => ?_) (fun c_86 => ?_)
          · have hF := itp c_86 hF
            obtain rfl := Option.some.inj hF
            exact k41_0 a_all_81 a_on_82 a_many_83 v_moved_84 a_pile_85 hY41 _ _ _ hH (lv_sub hl [2] rfl)
          · have hF := itn c_86 hF
            refine lv_aload_n hx hb dX8_perform_46 rfl (lv_at hl 0 rfl) ?_
            refine mg_numbers hX hK hH dX8_perform_47 ?_
            refine lv_bipush (v := 40) hx hb dX8_perform_50 syb_40 ?_
            refine lv_iload_n hx hb dX8_perform_52 rfl (lv_at hl 1 rfl) ?_
            refine lv_imul hx hb dX8_perform_53 ?_
            refine lv_iload_n hx hb dX8_perform_54 rfl (lv_at hl 3 rfl) ?_
            refine lv_iadd hx hb dX8_perform_55 ?_
            obtain ⟨y_87, he, hF⟩ := bd1e hF
            refine ml_numbers hX hK hH he dX8_perform_56 ?_
            refine lv_lstore (lv' := [(4, .long y_87), (0, .ref (ad 0)), (1, .int p1), (2, .int x_50), (3, .int x_80)]) hx hb dX8_perform_57 hl (by decide) rfl (fun ls hl => ?_)
            refine lv_lload hx hb dX8_perform_59 (lv_at hl 0 rfl) ?_
            refine lv_ldc2 (v := (-1)) hx hb hown (hts _ q2003) dX8_perform_61 ?_
            refine W.lcmp hx hb dX8_perform_64 ?_
            have j125 : ∀ (a_all_104 : Nat → Int32) (a_on_105 : Nat → Int32) (a_many_106 : Nat → Int32) (v_moved_107 : Int32) (a_pile_108 : Nat → Int32), FX8_perform_j125 x_80 a_all_104 a_on_105 a_many_106 v_moved_107 a_pile_108 = some yy41 → ∀ (H : Heap) (locs : List Loc) (ls : Array Slot), MH D vwA A s.heap (mW ad cA a_all_104 a_hasImage a_tape a_fresh v_taped v_at v_behind v_size v_kind v_number v_wrong v_wrongAt v_depth v_steps v_faultKind v_faultPlace a_on_105 a_many_106 v_moved_107 a_pile_108 v_aside v_judgedBy_55 v_judgedYear_56 a_leastCost a_matched a_order a_lies a_movedThen a_yearTable a_yearMark a_beginTable a_beginMark v_statesTold v_found v_yearFrom v_mark v_beginsMark v_begins a_began v_isSpent a_wants a_rowSort a_rowMany a_numbers) H locs → lv_has ls 6 [(0, .ref (ad 0)), (1, .int p1), (2, .int x_50), (3, .int x_80)] → W p l e rm_X8_perform s m args below meth c H locs 0 0 Q (F0 m 125 ls []) := by
              intro a_all_104 a_on_105 a_many_106 v_moved_107 a_pile_108 hF H locs ls hH hl
              delta FX8_perform_j125 at hF
              refine lv_iinc (v := (x_80 + 1)) (lv' := [(3, .int (x_80 + 1)), (0, .ref (ad 0)), (1, .int p1), (2, .int x_50)]) hx hb dX8_perform_125 hl (k := 3) rfl (syc syi_1) (by decide) rfl (fun ls hl => ?_)
              refine lv_goto (tgt := 41) hx hb dX8_perform_128 rfl ?_
              obtain rfl := Option.some.inj hF
              exact ih (x_80 + 1) a_all_104 a_on_105 a_many_106 v_moved_107 a_pile_108 hY41 _ _ _ hH (lv_sub hl [1, 2, 3, 0] rfl)
            refine lv_if_ne (tgt := 76) hx hb dX8_perform_65 rfl (fun c_88 => ?_) (fun c_88 => ?_)
            · have hF := itn c_88 hF
              refine lv_lload hx hb dX8_perform_76 (lv_at hl 0 rfl) ?_
              refine lv_ldc2 (v := 100) hx hb hown (hts _ q2038) dX8_perform_78 ?_
              refine W.lcmp hx hb dX8_perform_81 ?_
              refine lv_if_ge (tgt := 105) hx hb dX8_perform_82 rfl (fun c_91 => ?_) (fun c_91 => ?_)
              · have hF := itp c_91 hF
                refine lv_aload_n hx hb dX8_perform_105 rfl (lv_at hl 1 rfl) ?_
                refine lv_lload hx hb dX8_perform_106 (lv_at hl 0 rfl) ?_
                refine lv_l2i (v := (Int64.toInt32 y_87)) hx hb dX8_perform_108 rfl ?_
                refine lv_bipush (v := 100) hx hb dX8_perform_109 syb_100 ?_
                refine lv_irem hx hb dX8_perform_111 (by decide) ?_
                refine lv_bipush (v := 10) hx hb dX8_perform_112 syb_10 ?_
                refine lv_idiv hx hb dX8_perform_114 (by decide) ?_
                refine lv_lload hx hb dX8_perform_115 (lv_at hl 0 rfl) ?_
                refine lv_l2i (v := (Int64.toInt32 y_87)) hx hb dX8_perform_117 rfl ?_
                refine lv_bipush (v := 10) hx hb dX8_perform_118 syb_10 ?_
                refine lv_irem hx hb dX8_perform_120 (by decide) ?_
                obtain ⟨x_98, a_all_99, a_on_100, a_many_101, v_moved_102, a_pile_103, he, hF⟩ := bd6e hF
                refine mcV hX hK hEv hE0 hH (met_X8_exchange hE he) (mrecv hK hH) gw_StoneYearModel_330 hd_yX8_exchange ⟨Nat.le_of_ble_eq_true rfl, Nat.le_of_ble_eq_true rfl⟩ rfl rfl hl (Nat.le_of_ble_eq_true rfl) dX8_perform_121 ⟨Nat.le_of_ble_eq_true rfl, Nat.le_of_ble_eq_true rfl⟩ (fun H locs hH => ?_)
                refine lv_pop hx hb dX8_perform_124 rfl ?_
                exact j125 a_all_99 a_on_100 a_many_101 v_moved_102 a_pile_103 hF _ _ _ hH (lv_sub hl [1, 2, 3, 4] rfl)
              · have hF := itn c_91 hF
                refine lv_aload_n hx hb dX8_perform_85 rfl (lv_at hl 1 rfl) ?_
                refine lv_lload hx hb dX8_perform_86 (lv_at hl 0 rfl) ?_
                refine lv_l2i (v := (Int64.toInt32 y_87)) hx hb dX8_perform_88 rfl ?_
                refine lv_bipush (v := 10) hx hb dX8_perform_89 syb_10 ?_
                refine lv_idiv hx hb dX8_perform_91 (by decide) ?_
                refine lv_lload hx hb dX8_perform_92 (lv_at hl 0 rfl) ?_
                refine lv_l2i (v := (Int64.toInt32 y_87)) hx hb dX8_perform_94 rfl ?_
                refine lv_bipush (v := 10) hx hb dX8_perform_95 syb_10 ?_
                refine lv_irem hx hb dX8_perform_97 (by decide) ?_
                obtain ⟨x_92, a_all_93, a_on_94, a_many_95, v_moved_96, a_pile_97, he, hF⟩ := bd6e hF
                refine mcV hX hK hEv hE0 hH (met_X8_carry hE he) (mrecv hK hH) gw_StoneYearModel_327 hd_yX8_carry ⟨Nat.le_of_ble_eq_true rfl, Nat.le_of_ble_eq_true rfl⟩ rfl rfl hl (Nat.le_of_ble_eq_true rfl) dX8_perform_98 ⟨Nat.le_of_ble_eq_true rfl, Nat.le_of_ble_eq_true rfl⟩ (fun H locs hH => ?_)
                refine lv_pop hx hb dX8_perform_101 rfl ?_
                refine lv_goto (tgt := 125) hx hb dX8_perform_102 rfl ?_
                exact j125 a_all_93 a_on_94 a_many_95 v_moved_96 a_pile_97 hF _ _ _ hH (lv_sub hl [1, 2, 3, 4] rfl)
            · have hF := itp c_88 hF
              refine lv_aload_n hx hb dX8_perform_68 rfl (lv_at hl 1 rfl) ?_
              obtain ⟨x_89, a_all_90, he, hF⟩ := bd2e hF
              refine mcV hX hK hEv hE0 hH (met_X8_year hE he) (mrecv hK hH) gw_StoneYearModel_324 hd_yX8_year ⟨Nat.le_of_ble_eq_true rfl, Nat.le_of_ble_eq_true rfl⟩ rfl rfl hl (Nat.le_of_ble_eq_true rfl) dX8_perform_69 ⟨Nat.le_of_ble_eq_true rfl, Nat.le_of_ble_eq_true rfl⟩ (fun H locs hH => ?_)
              refine lv_pop hx hb dX8_perform_72 rfl ?_
              refine lv_goto (tgt := 125) hx hb dX8_perform_73 rfl ?_
              exact j125 a_all_90 a_on_82 a_many_83 v_moved_84 a_pile_85 hF _ _ _ hH (lv_sub hl [1, 2, 3, 4] rfl)
      exact l41 nn41 0 a_all a_on_51 a_many_52 v_moved_53 a_pile_54 en41 _ _ _ hH (lv_sub hl [2, 3, 1, 0] rfl)
    · have hF := itp c_49 hF
      refine lv_bipush (v := (-6)) hx hb dX8_perform_30 syb_m6 ?_
      obtain ⟨rfl, rfl, rfl, rfl, rfl, rfl, rfl, rfl⟩ := re8 hF
      exact hret _ _ _ _ hH dX8_perform_32
  · have hF := itp c_47 hF
    refine lv_bipush (v := (-2)) hx hb dX8_perform_17 syb_m2 ?_
    obtain ⟨rfl, rfl, rfl, rfl, rfl, rfl, rfl, rfl⟩ := re8 hF
    exact hret _ _ _ _ hH dX8_perform_19
abbrev rm_X8_isAway : Room := { frames := 1, cells := 0, slots := 0, locals := 22 }
set_option maxHeartbeats 4000000 in
theorem met_X8_isAway {l : Launch} {D : va_G} {ad : Nat → Nat} {cA : Nat → ClassId} {a_all : Nat → Int32} {a_hasImage : Nat → Int32} {a_tape : Nat → Int32} {a_fresh : Nat → Int32} {v_taped : Int32} {v_at : Int32} {v_behind : Int32} {v_size : Int32} {v_kind : Int32} {v_number : Int32} {v_wrong : Int32} {v_wrongAt : Int32} {v_depth : Int32} {v_steps : Int32} {v_faultKind : Int32} {v_faultPlace : Int32} {a_on : Nat → Int32} {a_many : Nat → Int32} {v_moved : Int32} {a_pile : Nat → Int32} {v_aside : Int32} {v_judgedBy : Int32} {v_judgedYear : Int32} {a_leastCost : Nat → Int32} {a_matched : Nat → Int32} {a_order : Nat → Int32} {a_lies : Nat → Int64} {a_movedThen : Nat → Int32} {a_yearTable : Nat → Int32} {a_yearMark : Nat → Int32} {a_beginTable : Nat → Int32} {a_beginMark : Nat → Int32} {v_statesTold : Int32} {v_found : Int32} {v_yearFrom : Int32} {v_mark : Int32} {v_beginsMark : Int32} {v_begins : Int32} {a_began : Nat → Int64} {v_isSpent : Int32} {a_wants : Nat → Int32} {a_rowSort : Nat → Int32} {a_rowMany : Nat → Int32} {a_numbers : Nat → Int64}  {p1 : Int32} {res : Bool} {ak av fo : Nat} {E : EvT} (hE : EvM E ak av fo) (hF : FX8_isAway a_all a_matched p1 = some res) : MM l yX8_isAway (ws_ yX8_isAway cX8_isAway 2 (Option.some Jvm.ClassFile.FieldType.boolean)) rm_X8_isAway D vwA (mT cA) E [.ref (ad 0), .int p1] (mW ad cA a_all a_hasImage a_tape a_fresh v_taped v_at v_behind v_size v_kind v_number v_wrong v_wrongAt v_depth v_steps v_faultKind v_faultPlace a_on a_many v_moved a_pile v_aside v_judgedBy v_judgedYear a_leastCost a_matched a_order a_lies a_movedThen a_yearTable a_yearMark a_beginTable a_beginMark v_statesTold v_found v_yearFrom v_mark v_beginsMark v_begins a_began v_isSpent a_wants a_rowSort a_rowMany a_numbers) (mW ad cA a_all a_hasImage a_tape a_fresh v_taped v_at v_behind v_size v_kind v_number v_wrong v_wrongAt v_depth v_steps v_faultKind v_faultPlace a_on a_many v_moved a_pile v_aside v_judgedBy v_judgedYear a_leastCost a_matched a_order a_lies a_movedThen a_yearTable a_yearMark a_beginTable a_beginMark v_statesTold v_found v_yearFrom v_mark v_beginsMark v_begins a_began v_isSpent a_wants a_rowSort a_rowMany a_numbers) (some (.int (b2i res))) := by
  refine MM.ofZ (by decide) (Nat.le_of_ble_eq_true rfl) ?_
  intro p e s m args below meth c Q A hX hK hE0 hret H locs ls hH hl
  have hX : CallFix p m c cX8_isAway 2 s args lw_all RX8 := hX
  have hx := hX.1
  have hb := hX.2.1
  have hown := hX.2.2.2.1
  have hts := hX.2.2.2.2
  have hl : lv_has ls 2 [(0, .ref (ad 0)), (1, .int p1)] := hl
  have hEv := hE.1
  delta FX8_isAway at hF
  refine lv_aload_n hx hb dX8_isAway_0 rfl (lv_at hl 0 rfl) ?_
  refine mg_matched hX hK hH dX8_isAway_1 ?_
  refine lv_iload_n hx hb dX8_isAway_4 rfl (lv_at hl 1 rfl) ?_
  obtain ⟨x_46, he, hF⟩ := bd1e hF
  refine ml_matched hX hK hH he dX8_isAway_5 ?_
  refine lv_iconst (v := (-1)) hx hb dX8_isAway_6 syi_m1 ?_
  refine lv_icmp_eq (tgt := 28) hx hb dX8_isAway_7 rfl (fun c_47 => ?_) (fun c_47 => ?_)
  · have hF := itp c_47 hF
    refine lv_iconst (v := 0) hx hb dX8_isAway_28 syi_0 ?_
    obtain rfl := Option.some.inj hF
    exact hret _ _ _ _ hH dX8_isAway_29
  · have hF := itn c_47 hF
    refine lv_aload_n hx hb dX8_isAway_10 rfl (lv_at hl 0 rfl) ?_
    refine mg_matched hX hK hH dX8_isAway_11 ?_
    refine lv_iload_n hx hb dX8_isAway_14 rfl (lv_at hl 1 rfl) ?_
    obtain ⟨x_48, he, hF⟩ := bd1e hF
    refine ml_matched hX hK hH he dX8_isAway_15 ?_
    refine lv_aload_n hx hb dX8_isAway_16 rfl (lv_at hl 0 rfl) ?_
    refine lv_iload_n hx hb dX8_isAway_17 rfl (lv_at hl 1 rfl) ?_
    obtain ⟨x_49, he, hF⟩ := bd1e hF
    refine mcV hX hK hEv hE0 hH (met_X8_placeOf hE he) (mrecv hK hH) gw_StoneYearModel_255 hd_yX8_placeOf ⟨Nat.le_of_ble_eq_true rfl, Nat.le_of_ble_eq_true rfl⟩ rfl rfl hl (Nat.le_of_ble_eq_true rfl) dX8_isAway_18 ⟨Nat.le_of_ble_eq_true rfl, Nat.le_of_ble_eq_true rfl⟩ (fun H locs hH => ?_)
    refine lv_icmp_eq (tgt := 28) hx hb dX8_isAway_21 rfl (fun c_50 => ?_) (fun c_50 => ?_)
    · have hF := itp c_50 hF
      refine lv_iconst (v := 0) hx hb dX8_isAway_28 syi_0 ?_
      obtain rfl := Option.some.inj hF
      exact hret _ _ _ _ hH dX8_isAway_29
    · have hF := itn c_50 hF
      refine lv_iconst (v := 1) hx hb dX8_isAway_24 syi_1 ?_
      refine lv_goto (tgt := 29) hx hb dX8_isAway_25 rfl ?_
      obtain rfl := Option.some.inj hF
      exact hret _ _ _ _ hH dX8_isAway_29
abbrev rm_X8_costOf : Room := { frames := 0, cells := 0, slots := 0, locals := 0 }
set_option maxHeartbeats 4000000 in
theorem met_X8_costOf {l : Launch} {D : va_G} {ad : Nat → Nat} {cA : Nat → ClassId} {a_all : Nat → Int32} {a_hasImage : Nat → Int32} {a_tape : Nat → Int32} {a_fresh : Nat → Int32} {v_taped : Int32} {v_at : Int32} {v_behind : Int32} {v_size : Int32} {v_kind : Int32} {v_number : Int32} {v_wrong : Int32} {v_wrongAt : Int32} {v_depth : Int32} {v_steps : Int32} {v_faultKind : Int32} {v_faultPlace : Int32} {a_on : Nat → Int32} {a_many : Nat → Int32} {v_moved : Int32} {a_pile : Nat → Int32} {v_aside : Int32} {v_judgedBy : Int32} {v_judgedYear : Int32} {a_leastCost : Nat → Int32} {a_matched : Nat → Int32} {a_order : Nat → Int32} {a_lies : Nat → Int64} {a_movedThen : Nat → Int32} {a_yearTable : Nat → Int32} {a_yearMark : Nat → Int32} {a_beginTable : Nat → Int32} {a_beginMark : Nat → Int32} {v_statesTold : Int32} {v_found : Int32} {v_yearFrom : Int32} {v_mark : Int32} {v_beginsMark : Int32} {v_begins : Int32} {a_began : Nat → Int64} {v_isSpent : Int32} {a_wants : Nat → Int32} {a_rowSort : Nat → Int32} {a_rowMany : Nat → Int32} {a_numbers : Nat → Int64}  {p1 : Int32} {p2 : Int32} {p3 : Int32} {res : Int32} {ak av fo : Nat} {E : EvT} (hE : EvM E ak av fo) (hF : FX8_costOf p1 p2 p3 = some res) : MM l yX8_costOf (ws_ yX8_costOf cX8_costOf 6 (Option.some Jvm.ClassFile.FieldType.int)) rm_X8_costOf D vwA (mT cA) E [.ref (ad 0), .int p1, .int p2, .int p3] (mW ad cA a_all a_hasImage a_tape a_fresh v_taped v_at v_behind v_size v_kind v_number v_wrong v_wrongAt v_depth v_steps v_faultKind v_faultPlace a_on a_many v_moved a_pile v_aside v_judgedBy v_judgedYear a_leastCost a_matched a_order a_lies a_movedThen a_yearTable a_yearMark a_beginTable a_beginMark v_statesTold v_found v_yearFrom v_mark v_beginsMark v_begins a_began v_isSpent a_wants a_rowSort a_rowMany a_numbers) (mW ad cA a_all a_hasImage a_tape a_fresh v_taped v_at v_behind v_size v_kind v_number v_wrong v_wrongAt v_depth v_steps v_faultKind v_faultPlace a_on a_many v_moved a_pile v_aside v_judgedBy v_judgedYear a_leastCost a_matched a_order a_lies a_movedThen a_yearTable a_yearMark a_beginTable a_beginMark v_statesTold v_found v_yearFrom v_mark v_beginsMark v_begins a_began v_isSpent a_wants a_rowSort a_rowMany a_numbers) (some (.int res)) := by
  refine MM.ofI (by decide) (Nat.le_of_ble_eq_true rfl) ?_
  intro p e s m args below meth c Q A hX hK hE0 hret H locs ls hH hl
  have hX : CallFix p m c cX8_costOf 6 s args lw_all RX8 := hX
  have hx := hX.1
  have hb := hX.2.1
  have hown := hX.2.2.2.1
  have hts := hX.2.2.2.2
  have hl : lv_has ls 6 [(0, .ref (ad 0)), (1, .int p1), (2, .int p2), (3, .int p3)] := hl
  have hEv := hE.1
  delta FX8_costOf at hF
  refine lv_iload_n hx hb dX8_costOf_0 rfl (lv_at hl 2 rfl) ?_
  refine lv_iconst (v := 3) hx hb dX8_costOf_1 syi_3 ?_
  refine lv_idiv hx hb dX8_costOf_2 (by decide) ?_
  refine lv_istore (lv' := [(4, .int (p2 / 3)), (0, .ref (ad 0)), (1, .int p1), (2, .int p2), (3, .int p3)]) hx hb dX8_costOf_3 hl (by decide) rfl (fun ls hl => ?_)
  refine lv_iload_n hx hb dX8_costOf_5 rfl (lv_at hl 4 rfl) ?_
  refine lv_iconst (v := 3) hx hb dX8_costOf_6 syi_3 ?_
  refine lv_idiv hx hb dX8_costOf_7 (by decide) ?_
  refine lv_istore (lv' := [(5, .int (p3 / 3)), (4, .int (p2 / 3)), (0, .ref (ad 0)), (1, .int p1), (2, .int p2), (3, .int p3)]) hx hb dX8_costOf_8 hl (by decide) rfl (fun ls hl => ?_)
  refine lv_iload_n hx hb dX8_costOf_10 rfl (lv_at hl 4 rfl) ?_
  refine lv_iload_n hx hb dX8_costOf_11 rfl (lv_at hl 5 rfl) ?_
  have j22 : ∀ (x_49 : Int32), FX8_costOf_j22 p2 p3 x_49 = some res → ∀ (H : Heap) (locs : List Loc) (ls : Array Slot), MH D vwA A s.heap (mW ad cA a_all a_hasImage a_tape a_fresh v_taped v_at v_behind v_size v_kind v_number v_wrong v_wrongAt v_depth v_steps v_faultKind v_faultPlace a_on a_many v_moved a_pile v_aside v_judgedBy v_judgedYear a_leastCost a_matched a_order a_lies a_movedThen a_yearTable a_yearMark a_beginTable a_beginMark v_statesTold v_found v_yearFrom v_mark v_beginsMark v_begins a_began v_isSpent a_wants a_rowSort a_rowMany a_numbers) H locs → lv_has ls 6 [(4, .int (p2 / 3)), (5, .int (p3 / 3))] → W p l e rm_X8_costOf s m args below meth c H locs 0 0 Q (F0 m 22 ls [.int x_49]) := by
    intro x_49 hF H locs ls hH hl
    delta FX8_costOf_j22 at hF
    refine lv_iload hx hb dX8_costOf_22 (lv_at hl 0 rfl) ?_
    refine lv_iload hx hb dX8_costOf_24 (lv_at hl 1 rfl) ?_
    have j42 : ∀ (x_51 : Int32), FX8_costOf_j42 x_49 x_51 = some res → ∀ (H : Heap) (locs : List Loc) (ls : Array Slot), MH D vwA A s.heap (mW ad cA a_all a_hasImage a_tape a_fresh v_taped v_at v_behind v_size v_kind v_number v_wrong v_wrongAt v_depth v_steps v_faultKind v_faultPlace a_on a_many v_moved a_pile v_aside v_judgedBy v_judgedYear a_leastCost a_matched a_order a_lies a_movedThen a_yearTable a_yearMark a_beginTable a_beginMark v_statesTold v_found v_yearFrom v_mark v_beginsMark v_begins a_began v_isSpent a_wants a_rowSort a_rowMany a_numbers) H locs → lv_has ls 6 [] → W p l e rm_X8_costOf s m args below meth c H locs 0 0 Q (F0 m 42 ls [.int x_51, .int x_49]) := by
      intro x_51 hF H locs ls hH hl
      delta FX8_costOf_j42 at hF
      refine lv_iadd hx hb dX8_costOf_42 ?_
      obtain rfl := Option.some.inj hF
      exact hret _ _ _ _ hH dX8_costOf_43
    refine lv_icmp_ge (tgt := 37) hx hb dX8_costOf_26 rfl (fun c_50 => ?_) (fun c_50 => ?_)
    · have hF := itp c_50 hF
      refine lv_iload hx hb dX8_costOf_37 (lv_at hl 0 rfl) ?_
      refine lv_iload hx hb dX8_costOf_39 (lv_at hl 1 rfl) ?_
      refine lv_isub hx hb dX8_costOf_41 ?_
      exact j42 ((p2 / 3) - (p3 / 3)) hF _ _ _ hH (lv_sub hl [] rfl)
    · have hF := itn c_50 hF
      refine lv_iload hx hb dX8_costOf_29 (lv_at hl 1 rfl) ?_
      refine lv_iload hx hb dX8_costOf_31 (lv_at hl 0 rfl) ?_
      refine lv_isub hx hb dX8_costOf_33 ?_
      refine lv_goto (tgt := 42) hx hb dX8_costOf_34 rfl ?_
      exact j42 ((p3 / 3) - (p2 / 3)) hF _ _ _ hH (lv_sub hl [] rfl)
  refine lv_icmp_ne (tgt := 19) hx hb dX8_costOf_12 rfl (fun c_48 => ?_) (fun c_48 => ?_)
  · have hF := itn c_48 hF
    refine lv_sipush (v := 1000) hx hb dX8_costOf_19 sys_1000 ?_
    exact j22 1000 hF _ _ _ hH (lv_sub hl [1, 0] rfl)
  · have hF := itp c_48 hF
    refine lv_iconst (v := 0) hx hb dX8_costOf_15 syi_0 ?_
    refine lv_goto (tgt := 22) hx hb dX8_costOf_16 rfl ?_
    exact j22 0 hF _ _ _ hH (lv_sub hl [1, 0] rfl)
abbrev rm_X8_matches : Room := { frames := 2, cells := 0, slots := 0, locals := 46 }
set_option maxHeartbeats 4000000 in
theorem met_X8_matches {l : Launch} {D : va_G} {ad : Nat → Nat} {cA : Nat → ClassId} {a_all : Nat → Int32} {a_hasImage : Nat → Int32} {a_tape : Nat → Int32} {a_fresh : Nat → Int32} {v_taped : Int32} {v_at : Int32} {v_behind : Int32} {v_size : Int32} {v_kind : Int32} {v_number : Int32} {v_wrong : Int32} {v_wrongAt : Int32} {v_depth : Int32} {v_steps : Int32} {v_faultKind : Int32} {v_faultPlace : Int32} {a_on : Nat → Int32} {a_many : Nat → Int32} {v_moved : Int32} {a_pile : Nat → Int32} {v_aside : Int32} {v_judgedBy : Int32} {v_judgedYear : Int32} {a_leastCost : Nat → Int32} {a_matched : Nat → Int32} {a_order : Nat → Int32} {a_lies : Nat → Int64} {a_movedThen : Nat → Int32} {a_yearTable : Nat → Int32} {a_yearMark : Nat → Int32} {a_beginTable : Nat → Int32} {a_beginMark : Nat → Int32} {v_statesTold : Int32} {v_found : Int32} {v_yearFrom : Int32} {v_mark : Int32} {v_beginsMark : Int32} {v_begins : Int32} {a_began : Nat → Int64} {v_isSpent : Int32} {a_wants : Nat → Int32} {a_rowSort : Nat → Int32} {a_rowMany : Nat → Int32} {a_numbers : Nat → Int64}   {ra_leastCost : Nat → Int32} {ra_matched : Nat → Int32} {ak av fo : Nat} {E : EvT} (hE : EvM E ak av fo) (hF : FX8_matches a_all a_leastCost a_matched = some (ra_leastCost, ra_matched)) : MM l yX8_matches (ws_ yX8_matches cX8_matches 7 (Option.none : Option Jvm.ClassFile.FieldType)) rm_X8_matches D vwA (mT cA) E [.ref (ad 0)] (mW ad cA a_all a_hasImage a_tape a_fresh v_taped v_at v_behind v_size v_kind v_number v_wrong v_wrongAt v_depth v_steps v_faultKind v_faultPlace a_on a_many v_moved a_pile v_aside v_judgedBy v_judgedYear a_leastCost a_matched a_order a_lies a_movedThen a_yearTable a_yearMark a_beginTable a_beginMark v_statesTold v_found v_yearFrom v_mark v_beginsMark v_begins a_began v_isSpent a_wants a_rowSort a_rowMany a_numbers) (mW ad cA a_all a_hasImage a_tape a_fresh v_taped v_at v_behind v_size v_kind v_number v_wrong v_wrongAt v_depth v_steps v_faultKind v_faultPlace a_on a_many v_moved a_pile v_aside v_judgedBy v_judgedYear ra_leastCost ra_matched a_order a_lies a_movedThen a_yearTable a_yearMark a_beginTable a_beginMark v_statesTold v_found v_yearFrom v_mark v_beginsMark v_begins a_began v_isSpent a_wants a_rowSort a_rowMany a_numbers) none := by
  refine MM.ofV (by decide) (Nat.le_of_ble_eq_true rfl) ?_
  intro p e s m args below meth c Q A hX hK hE0 hret H locs ls hH hl
  have hX : CallFix p m c cX8_matches 7 s args lw_all RX8 := hX
  have hx := hX.1
  have hb := hX.2.1
  have hown := hX.2.2.2.1
  have hts := hX.2.2.2.2
  have hl : lv_has ls 7 [(0, .ref (ad 0))] := hl
  have hEv := hE.1
  delta FX8_matches at hF
  refine lv_iconst (v := 0) hx hb dX8_matches_0 syi_0 ?_
  refine lv_istore_n (lv' := [(1, .int 0), (0, .ref (ad 0))]) hx hb dX8_matches_1 rfl hl (by decide) rfl (fun ls hl => ?_)
  obtain ⟨xx2, ee2, kk2_0⟩ := bd1L hF
  have k2_0 : ∀ (a_leastCost_51 : Nat → Int32), xx2 = a_leastCost_51 → ∀ (H : Heap) (locs : List Loc) (ls : Array Slot), MH D vwA A s.heap (mW ad cA a_all a_hasImage a_tape a_fresh v_taped v_at v_behind v_size v_kind v_number v_wrong v_wrongAt v_depth v_steps v_faultKind v_faultPlace a_on a_many v_moved a_pile v_aside v_judgedBy v_judgedYear a_leastCost_51 a_matched a_order a_lies a_movedThen a_yearTable a_yearMark a_beginTable a_beginMark v_statesTold v_found v_yearFrom v_mark v_beginsMark v_begins a_began v_isSpent a_wants a_rowSort a_rowMany a_numbers) H locs → lv_has ls 7 [(0, .ref (ad 0))] → W p l e rm_X8_matches s m args below meth c H locs 0 0 Q (F0 m 26 ls []) := by
    intro a_leastCost_51 hxx H locs ls hH hl
    have hF := un1e (kk2_0 a_leastCost_51 hxx)
    refine lv_bipush (v := 7) hx hb dX8_matches_26 syb_7 ?_
    refine lv_istore_n (lv' := [(1, .int 7), (0, .ref (ad 0))]) hx hb dX8_matches_28 rfl hl (by decide) rfl (fun ls hl => ?_)
    obtain ⟨xx29, ee29, kk29_0⟩ := bd1L hF
    have k29_0 : ∀ (a_leastCost_190 : Nat → Int32), xx29 = a_leastCost_190 → ∀ (H : Heap) (locs : List Loc) (ls : Array Slot), MH D vwA A s.heap (mW ad cA a_all a_hasImage a_tape a_fresh v_taped v_at v_behind v_size v_kind v_number v_wrong v_wrongAt v_depth v_steps v_faultKind v_faultPlace a_on a_many v_moved a_pile v_aside v_judgedBy v_judgedYear a_leastCost_190 a_matched a_order a_lies a_movedThen a_yearTable a_yearMark a_beginTable a_beginMark v_statesTold v_found v_yearFrom v_mark v_beginsMark v_begins a_began v_isSpent a_wants a_rowSort a_rowMany a_numbers) H locs → lv_has ls 7 [(0, .ref (ad 0))] → W p l e rm_X8_matches s m args below meth c H locs 0 0 Q (F0 m 217 ls []) := by
      intro a_leastCost_190 hxx H locs ls hH hl
      have hF := un1e (kk29_0 a_leastCost_190 hxx)
      refine lv_iconst (v := 0) hx hb dX8_matches_217 syi_0 ?_
      refine lv_istore_n (lv' := [(1, .int 0), (0, .ref (ad 0))]) hx hb dX8_matches_218 rfl hl (by decide) rfl (fun ls hl => ?_)
      refine lv_iconst (v := 0) hx hb dX8_matches_219 syi_0 ?_
      refine lv_istore_n (lv' := [(2, .int 0), (1, .int 0), (0, .ref (ad 0))]) hx hb dX8_matches_220 rfl hl (by decide) rfl (fun ls hl => ?_)
      obtain ⟨xx221, ee221, kk221_0⟩ := bd1L hF
      have k221_0 : ∀ (a_matched_276 : Nat → Int32), xx221 = a_matched_276 → ∀ (H : Heap) (locs : List Loc) (ls : Array Slot), MH D vwA A s.heap (mW ad cA a_all a_hasImage a_tape a_fresh v_taped v_at v_behind v_size v_kind v_number v_wrong v_wrongAt v_depth v_steps v_faultKind v_faultPlace a_on a_many v_moved a_pile v_aside v_judgedBy v_judgedYear a_leastCost_190 a_matched_276 a_order a_lies a_movedThen a_yearTable a_yearMark a_beginTable a_beginMark v_statesTold v_found v_yearFrom v_mark v_beginsMark v_begins a_began v_isSpent a_wants a_rowSort a_rowMany a_numbers) H locs → lv_has ls 7 [] → W p l e rm_X8_matches s m args below meth c H locs 0 0 Q (F0 m 400 ls []) := by
        intro a_matched_276 hxx H locs ls hH hl
        have hF := un1e (kk221_0 a_matched_276 hxx)
        obtain ⟨rfl, rfl⟩ := re2 hF
        exact hret _ _ _ _ hH dX8_matches_400
      obtain ⟨nn221, en221⟩ := loopC_some ee221
      have l221 : ∀ (n : Nat) (x_232 : Int32) (x_233 : Int32) (a_matched_234 : Nat → Int32), loopN (fun s => FX8_matches_b221 a_all a_leastCost_190 s.1 s.2.1 s.2.2) n (x_232, x_233, a_matched_234) = some xx221 → ∀ (H : Heap) (locs : List Loc) (ls : Array Slot), MH D vwA A s.heap (mW ad cA a_all a_hasImage a_tape a_fresh v_taped v_at v_behind v_size v_kind v_number v_wrong v_wrongAt v_depth v_steps v_faultKind v_faultPlace a_on a_many v_moved a_pile v_aside v_judgedBy v_judgedYear a_leastCost_190 a_matched_234 a_order a_lies a_movedThen a_yearTable a_yearMark a_beginTable a_beginMark v_statesTold v_found v_yearFrom v_mark v_beginsMark v_begins a_began v_isSpent a_wants a_rowSort a_rowMany a_numbers) H locs → lv_has ls 7 [(0, .ref (ad 0)), (1, .int x_232), (2, .int x_233)] → W p l e rm_X8_matches s m args below meth c H locs 0 0 Q (F0 m 221 ls []) := by
        intro n
        induction n with
        | zero =>
          intro x_232 x_233 a_matched_234 hN
          exact absurd hN loopN_zero
        | succ n ih =>
          intro x_232 x_233 a_matched_234 hN H locs ls hH hl
          obtain ⟨yy221, hB221, hY221⟩ := loopN_succ hN
          have hF : FX8_matches_b221 a_all a_leastCost_190 x_232 x_233 a_matched_234 = some yy221 := hB221
          delta FX8_matches_b221 at hF
          refine lv_iload_n hx hb dX8_matches_221 rfl (lv_at hl 2 rfl) ?_
          refine lv_bipush (v := 8) hx hb dX8_matches_222 syb_8 ?_
          refine lv_icmp_ge (tgt := 400) hx hb dX8_matches_224 rfl (fun c_235 => ?_) (fun c_235 => ?_)
          · have hF := itp c_235 hF
            obtain rfl := Option.some.inj hF
            exact k221_0 a_matched_234 hY221 _ _ _ hH (lv_sub hl [] rfl)
          · have hF := itn c_235 hF
            refine lv_aload_n hx hb dX8_matches_227 rfl (lv_at hl 0 rfl) ?_
            refine lv_iload_n hx hb dX8_matches_228 rfl (lv_at hl 2 rfl) ?_
            obtain ⟨b_236, he, hF⟩ := bd1e hF
            refine mcV hX hK hEv hE0 hH (met_X8_isStone hE he) (mrecv hK hH) gw_StoneYearModel_250 hd_yX8_isStone ⟨Nat.le_of_ble_eq_true rfl, Nat.le_of_ble_eq_true rfl⟩ rfl rfl hl (Nat.le_of_ble_eq_true rfl) dX8_matches_229 ⟨Nat.le_of_ble_eq_true rfl, Nat.le_of_ble_eq_true rfl⟩ (fun H locs hH => ?_)
            have j244 : ∀ (x_239 : Int32), FX8_matches_j244 a_all a_leastCost_190 x_232 x_233 a_matched_234 x_239 = some yy221 → ∀ (H : Heap) (locs : List Loc) (ls : Array Slot), MH D vwA A s.heap (mW ad cA a_all a_hasImage a_tape a_fresh v_taped v_at v_behind v_size v_kind v_number v_wrong v_wrongAt v_depth v_steps v_faultKind v_faultPlace a_on a_many v_moved a_pile v_aside v_judgedBy v_judgedYear a_leastCost_190 a_matched_234 a_order a_lies a_movedThen a_yearTable a_yearMark a_beginTable a_beginMark v_statesTold v_found v_yearFrom v_mark v_beginsMark v_begins a_began v_isSpent a_wants a_rowSort a_rowMany a_numbers) H locs → lv_has ls 7 [(0, .ref (ad 0)), (1, .int x_232), (2, .int x_233)] → W p l e rm_X8_matches s m args below meth c H locs 0 0 Q (F0 m 244 ls [.int x_239]) := by
              intro x_239 hF H locs ls hH hl
              delta FX8_matches_j244 at hF
              refine lv_istore_n (lv' := [(3, .int x_239), (0, .ref (ad 0)), (1, .int x_232), (2, .int x_233)]) hx hb dX8_matches_244 rfl hl (by decide) rfl (fun ls hl => ?_)
              refine lv_aload_n hx hb dX8_matches_245 rfl (lv_at hl 1 rfl) ?_
              refine mg_matched hX hK hH dX8_matches_246 ?_
              refine lv_iload_n hx hb dX8_matches_249 rfl (lv_at hl 3 rfl) ?_
              refine lv_iconst (v := (-1)) hx hb dX8_matches_250 syi_m1 ?_
              obtain ⟨a_matched_240, he, hF⟩ := bd1e hF
              refine ms_matched hX hK hH he dX8_matches_251 (fun H locs hH => ?_)
              refine lv_iconst (v := 0) hx hb dX8_matches_252 syi_0 ?_
              refine lv_istore (lv' := [(4, .int 0), (3, .int x_239), (0, .ref (ad 0)), (1, .int x_232), (2, .int x_233)]) hx hb dX8_matches_253 hl (by decide) rfl (fun ls hl => ?_)
              obtain ⟨xx255, ee255, kk255_0⟩ := bd1L hF
              have k255_0 : ∀ (a_matched_271 : Nat → Int32), xx255 = a_matched_271 → ∀ (H : Heap) (locs : List Loc) (ls : Array Slot), MH D vwA A s.heap (mW ad cA a_all a_hasImage a_tape a_fresh v_taped v_at v_behind v_size v_kind v_number v_wrong v_wrongAt v_depth v_steps v_faultKind v_faultPlace a_on a_many v_moved a_pile v_aside v_judgedBy v_judgedYear a_leastCost_190 a_matched_271 a_order a_lies a_movedThen a_yearTable a_yearMark a_beginTable a_beginMark v_statesTold v_found v_yearFrom v_mark v_beginsMark v_begins a_began v_isSpent a_wants a_rowSort a_rowMany a_numbers) H locs → lv_has ls 7 [(0, .ref (ad 0)), (1, .int x_232), (2, .int x_233)] → W p l e rm_X8_matches s m args below meth c H locs 0 0 Q (F0 m 369 ls []) := by
                intro a_matched_271 hxx H locs ls hH hl
                have hF := un1e (kk255_0 a_matched_271 hxx)
                refine lv_iload_n hx hb dX8_matches_369 rfl (lv_at hl 1 rfl) ?_
                refine lv_aload_n hx hb dX8_matches_370 rfl (lv_at hl 0 rfl) ?_
                refine mg_matched hX hK hH dX8_matches_371 ?_
                refine lv_iload_n hx hb dX8_matches_374 rfl (lv_at hl 2 rfl) ?_
                obtain ⟨x_272, he, hF⟩ := bd1e hF
                refine ml_matched hX hK hH he dX8_matches_375 ?_
                refine lv_iconst (v := (-1)) hx hb dX8_matches_376 syi_m1 ?_
                have j392 : ∀ (x_275 : Int32), FX8_matches_j392 x_232 x_233 a_matched_271 x_275 = some yy221 → ∀ (H : Heap) (locs : List Loc) (ls : Array Slot), MH D vwA A s.heap (mW ad cA a_all a_hasImage a_tape a_fresh v_taped v_at v_behind v_size v_kind v_number v_wrong v_wrongAt v_depth v_steps v_faultKind v_faultPlace a_on a_many v_moved a_pile v_aside v_judgedBy v_judgedYear a_leastCost_190 a_matched_271 a_order a_lies a_movedThen a_yearTable a_yearMark a_beginTable a_beginMark v_statesTold v_found v_yearFrom v_mark v_beginsMark v_begins a_began v_isSpent a_wants a_rowSort a_rowMany a_numbers) H locs → lv_has ls 7 [(0, .ref (ad 0)), (2, .int x_233)] → W p l e rm_X8_matches s m args below meth c H locs 0 0 Q (F0 m 392 ls [.int x_275, .int x_232]) := by
                  intro x_275 hF H locs ls hH hl
                  delta FX8_matches_j392 at hF
                  refine lv_ior hx hb dX8_matches_392 ?_
                  refine lv_istore_n (lv' := [(1, .int (x_232 ||| x_275)), (0, .ref (ad 0)), (2, .int x_233)]) hx hb dX8_matches_393 rfl hl (by decide) rfl (fun ls hl => ?_)
                  refine lv_iinc (v := (x_233 + 1)) (lv' := [(2, .int (x_233 + 1)), (1, .int (x_232 ||| x_275)), (0, .ref (ad 0))]) hx hb dX8_matches_394 hl (k := 2) rfl (syc syi_1) (by decide) rfl (fun ls hl => ?_)
                  refine lv_goto (tgt := 221) hx hb dX8_matches_397 rfl ?_
                  obtain rfl := Option.some.inj hF
                  exact ih (x_232 ||| x_275) (x_233 + 1) a_matched_271 hY221 _ _ _ hH (lv_sub hl [2, 1, 0] rfl)
                refine lv_icmp_ne (tgt := 384) hx hb dX8_matches_377 rfl (fun c_273 => ?_) (fun c_273 => ?_)
                · have hF := itn c_273 hF
                  refine lv_iconst (v := 1) hx hb dX8_matches_384 syi_1 ?_
                  refine lv_aload_n hx hb dX8_matches_385 rfl (lv_at hl 0 rfl) ?_
                  refine mg_matched hX hK hH dX8_matches_386 ?_
                  refine lv_iload_n hx hb dX8_matches_389 rfl (lv_at hl 2 rfl) ?_
                  obtain ⟨x_274, he, hF⟩ := bd1e hF
                  refine ml_matched hX hK hH he dX8_matches_390 ?_
                  refine lv_ishl hx hb dX8_matches_391 ?_
                  exact j392 ((1 : Int32) <<< (x_274 &&& 31)) hF _ _ _ hH (lv_sub hl [0, 2] rfl)
                · have hF := itp c_273 hF
                  refine lv_iconst (v := 0) hx hb dX8_matches_380 syi_0 ?_
                  refine lv_goto (tgt := 392) hx hb dX8_matches_381 rfl ?_
                  exact j392 0 hF _ _ _ hH (lv_sub hl [0, 2] rfl)
              obtain ⟨nn255, en255⟩ := loopC_some ee255
              have l255 : ∀ (n : Nat) (x_255 : Int32) (a_matched_256 : Nat → Int32), loopN (fun s => FX8_matches_b255 a_all a_leastCost_190 x_232 x_233 x_239 s.1 s.2) n (x_255, a_matched_256) = some xx255 → ∀ (H : Heap) (locs : List Loc) (ls : Array Slot), MH D vwA A s.heap (mW ad cA a_all a_hasImage a_tape a_fresh v_taped v_at v_behind v_size v_kind v_number v_wrong v_wrongAt v_depth v_steps v_faultKind v_faultPlace a_on a_many v_moved a_pile v_aside v_judgedBy v_judgedYear a_leastCost_190 a_matched_256 a_order a_lies a_movedThen a_yearTable a_yearMark a_beginTable a_beginMark v_statesTold v_found v_yearFrom v_mark v_beginsMark v_begins a_began v_isSpent a_wants a_rowSort a_rowMany a_numbers) H locs → lv_has ls 7 [(0, .ref (ad 0)), (1, .int x_232), (2, .int x_233), (3, .int x_239), (4, .int x_255)] → W p l e rm_X8_matches s m args below meth c H locs 0 0 Q (F0 m 255 ls []) := by
                intro n
                induction n with
                | zero =>
                  intro x_255 a_matched_256 hN
                  exact absurd hN loopN_zero
                | succ n ih =>
                  intro x_255 a_matched_256 hN H locs ls hH hl
                  obtain ⟨yy255, hB255, hY255⟩ := loopN_succ hN
                  have hF : FX8_matches_b255 a_all a_leastCost_190 x_232 x_233 x_239 x_255 a_matched_256 = some yy255 := hB255
                  delta FX8_matches_b255 at hF
                  refine lv_iload hx hb dX8_matches_255 (lv_at hl 4 rfl) ?_
                  refine lv_bipush (v := 15) hx hb dX8_matches_257 syb_15 ?_
                  refine lv_icmp_ge (tgt := 369) hx hb dX8_matches_259 rfl (fun c_257 => ?_) (fun c_257 => ?_)
                  · have hF := itp c_257 hF
                    obtain rfl := Option.some.inj hF
                    exact k255_0 a_matched_256 hY255 _ _ _ hH (lv_sub hl [0, 1, 2] rfl)
                  · have hF := itn c_257 hF
                    refine lv_iload_n hx hb dX8_matches_262 rfl (lv_at hl 3 rfl) ?_
                    refine lv_iconst (v := (-1)) hx hb dX8_matches_263 syi_m1 ?_
                    refine lv_icmp_eq (tgt := 369) hx hb dX8_matches_264 rfl (fun c_258 => ?_) (fun c_258 => ?_)
                    · have hF := itp c_258 hF
                      obtain rfl := Option.some.inj hF
                      exact k255_0 a_matched_256 hY255 _ _ _ hH (lv_sub hl [0, 1, 2] rfl)
                    · have hF := itn c_258 hF
                      refine lv_aload_n hx hb dX8_matches_267 rfl (lv_at hl 0 rfl) ?_
                      refine mg_matched hX hK hH dX8_matches_268 ?_
                      refine lv_iload_n hx hb dX8_matches_271 rfl (lv_at hl 2 rfl) ?_
                      obtain ⟨x_259, he, hF⟩ := bd1e hF
                      refine ml_matched hX hK hH he dX8_matches_272 ?_
                      refine lv_iconst (v := (-1)) hx hb dX8_matches_273 syi_m1 ?_
                      refine lv_icmp_ne (tgt := 369) hx hb dX8_matches_274 rfl (fun c_260 => ?_) (fun c_260 => ?_)
                      · have hF := itn c_260 hF
                        obtain rfl := Option.some.inj hF
                        exact k255_0 a_matched_256 hY255 _ _ _ hH (lv_sub hl [0, 1, 2] rfl)
                      · have hF := itp c_260 hF
                        refine lv_iload_n hx hb dX8_matches_277 rfl (lv_at hl 1 rfl) ?_
                        refine lv_iload hx hb dX8_matches_278 (lv_at hl 4 rfl) ?_
                        refine lv_ishr hx hb dX8_matches_280 ?_
                        refine lv_iconst (v := 1) hx hb dX8_matches_281 syi_1 ?_
                        refine lv_iand hx hb dX8_matches_282 ?_
                        refine lv_iconst (v := 1) hx hb dX8_matches_283 syi_1 ?_
                        have j363 : ∀ (a_matched_270 : Nat → Int32), FX8_matches_j363 x_255 a_matched_270 = some yy255 → ∀ (H : Heap) (locs : List Loc) (ls : Array Slot), MH D vwA A s.heap (mW ad cA a_all a_hasImage a_tape a_fresh v_taped v_at v_behind v_size v_kind v_number v_wrong v_wrongAt v_depth v_steps v_faultKind v_faultPlace a_on a_many v_moved a_pile v_aside v_judgedBy v_judgedYear a_leastCost_190 a_matched_270 a_order a_lies a_movedThen a_yearTable a_yearMark a_beginTable a_beginMark v_statesTold v_found v_yearFrom v_mark v_beginsMark v_begins a_began v_isSpent a_wants a_rowSort a_rowMany a_numbers) H locs → lv_has ls 7 [(0, .ref (ad 0)), (1, .int x_232), (2, .int x_233), (3, .int x_239), (4, .int x_255)] → W p l e rm_X8_matches s m args below meth c H locs 0 0 Q (F0 m 363 ls []) := by
                          intro a_matched_270 hF H locs ls hH hl
                          delta FX8_matches_j363 at hF
                          refine lv_iinc (v := (x_255 + 1)) (lv' := [(4, .int (x_255 + 1)), (0, .ref (ad 0)), (1, .int x_232), (2, .int x_233), (3, .int x_239)]) hx hb dX8_matches_363 hl (k := 4) rfl (syc syi_1) (by decide) rfl (fun ls hl => ?_)
                          refine lv_goto (tgt := 255) hx hb dX8_matches_366 rfl ?_
                          obtain rfl := Option.some.inj hF
                          exact ih (x_255 + 1) a_matched_270 hY255 _ _ _ hH (lv_sub hl [1, 2, 3, 4, 0] rfl)
                        refine lv_icmp_eq (tgt := 363) hx hb dX8_matches_284 rfl (fun c_261 => ?_) (fun c_261 => ?_)
                        · have hF := itp c_261 hF
                          exact j363 a_matched_256 hF _ _ _ hH (lv_sub hl [0, 1, 2, 3, 4] rfl)
                        · have hF := itn c_261 hF
                          refine lv_aload_n hx hb dX8_matches_287 rfl (lv_at hl 0 rfl) ?_
                          refine mg_all hX hK hH dX8_matches_288 ?_
                          refine lv_bipush (v := 41) hx hb dX8_matches_291 syb_41 ?_
                          refine lv_iload hx hb dX8_matches_293 (lv_at hl 4 rfl) ?_
                          refine lv_iadd hx hb dX8_matches_295 ?_
                          obtain ⟨x_262, he, hF⟩ := bd1e hF
                          refine ml_all hX hK hH he dX8_matches_296 ?_
                          refine lv_aload_n hx hb dX8_matches_297 rfl (lv_at hl 0 rfl) ?_
                          refine mg_all hX hK hH dX8_matches_298 ?_
                          refine lv_bipush (v := 7) hx hb dX8_matches_301 syb_7 ?_
                          refine lv_iload_n hx hb dX8_matches_303 rfl (lv_at hl 2 rfl) ?_
                          refine lv_iadd hx hb dX8_matches_304 ?_
                          obtain ⟨x_263, he, hF⟩ := bd1e hF
                          refine ml_all hX hK hH he dX8_matches_305 ?_
                          refine lv_icmp_eq (tgt := 312) hx hb dX8_matches_306 rfl (fun c_264 => ?_) (fun c_264 => ?_)
                          · have hF := itp c_264 hF
                            refine lv_aload_n hx hb dX8_matches_312 rfl (lv_at hl 0 rfl) ?_
                            refine lv_iload_n hx hb dX8_matches_313 rfl (lv_at hl 2 rfl) ?_
                            refine lv_iload hx hb dX8_matches_314 (lv_at hl 4 rfl) ?_
                            refine lv_iload_n hx hb dX8_matches_316 rfl (lv_at hl 3 rfl) ?_
                            obtain ⟨x_265, he, hF⟩ := bd1e hF
                            refine mcV hX hK hEv hE0 hH (met_X8_costOf hE he) (mrecv hK hH) gw_StoneYearModel_336 hd_yX8_costOf ⟨Nat.le_of_ble_eq_true rfl, Nat.le_of_ble_eq_true rfl⟩ rfl rfl hl (Nat.le_of_ble_eq_true rfl) dX8_matches_317 ⟨Nat.le_of_ble_eq_true rfl, Nat.le_of_ble_eq_true rfl⟩ (fun H locs hH => ?_)
                            refine lv_aload_n hx hb dX8_matches_320 rfl (lv_at hl 0 rfl) ?_
                            refine mg_leastCost hX hK hH dX8_matches_321 ?_
                            refine lv_iload_n hx hb dX8_matches_324 rfl (lv_at hl 2 rfl) ?_
                            refine lv_iconst (v := 1) hx hb dX8_matches_325 syi_1 ?_
                            refine lv_iadd hx hb dX8_matches_326 ?_
                            refine lv_ldcw (v := 32768) hx hb hown (hts _ q2054) dX8_matches_327 ?_
                            refine lv_imul hx hb dX8_matches_330 ?_
                            refine lv_iload_n hx hb dX8_matches_331 rfl (lv_at hl 1 rfl) ?_
                            refine lv_iconst (v := 1) hx hb dX8_matches_332 syi_1 ?_
                            refine lv_iload hx hb dX8_matches_333 (lv_at hl 4 rfl) ?_
                            refine lv_ishl hx hb dX8_matches_335 ?_
                            refine lv_ior hx hb dX8_matches_336 ?_
                            refine lv_iadd hx hb dX8_matches_337 ?_
                            obtain ⟨x_266, he, hF⟩ := bd1e hF
                            refine ml_leastCost hX hK hH he dX8_matches_338 ?_
                            refine lv_iadd hx hb dX8_matches_339 ?_
                            refine lv_aload_n hx hb dX8_matches_340 rfl (lv_at hl 0 rfl) ?_
                            refine mg_leastCost hX hK hH dX8_matches_341 ?_
                            refine lv_iload_n hx hb dX8_matches_344 rfl (lv_at hl 2 rfl) ?_
                            refine lv_ldcw (v := 32768) hx hb hown (hts _ q2054) dX8_matches_345 ?_
                            refine lv_imul hx hb dX8_matches_348 ?_
                            refine lv_iload_n hx hb dX8_matches_349 rfl (lv_at hl 1 rfl) ?_
                            refine lv_iadd hx hb dX8_matches_350 ?_
                            obtain ⟨x_267, he, hF⟩ := bd1e hF
                            refine ml_leastCost hX hK hH he dX8_matches_351 ?_
                            refine lv_icmp_ne (tgt := 363) hx hb dX8_matches_352 rfl (fun c_268 => ?_) (fun c_268 => ?_)
                            · have hF := itn c_268 hF
                              exact j363 a_matched_256 hF _ _ _ hH (lv_sub hl [0, 1, 2, 3, 4] rfl)
                            · have hF := itp c_268 hF
                              refine lv_aload_n hx hb dX8_matches_355 rfl (lv_at hl 0 rfl) ?_
                              refine mg_matched hX hK hH dX8_matches_356 ?_
                              refine lv_iload_n hx hb dX8_matches_359 rfl (lv_at hl 2 rfl) ?_
                              refine lv_iload hx hb dX8_matches_360 (lv_at hl 4 rfl) ?_
                              obtain ⟨a_matched_269, he, hF⟩ := bd1e hF
                              refine ms_matched hX hK hH he dX8_matches_362 (fun H locs hH => ?_)
                              exact j363 a_matched_269 hF _ _ _ hH (lv_sub hl [0, 1, 2, 3, 4] rfl)
                          · have hF := itn c_264 hF
                            refine lv_goto (tgt := 363) hx hb dX8_matches_309 rfl ?_
                            exact j363 a_matched_256 hF _ _ _ hH (lv_sub hl [0, 1, 2, 3, 4] rfl)
              exact l255 nn255 0 a_matched_240 en255 _ _ _ hH (lv_sub hl [2, 3, 4, 1, 0] rfl)
            refine lv_if_eq (tgt := 243) hx hb dX8_matches_232 rfl (fun c_237 => ?_) (fun c_237 => ?_)
            · have hF := itp c_237 hF
              refine lv_iconst (v := (-1)) hx hb dX8_matches_243 syi_m1 ?_
              exact j244 (-1) hF _ _ _ hH (lv_sub hl [0, 1, 2] rfl)
            · have hF := itn c_237 hF
              refine lv_aload_n hx hb dX8_matches_235 rfl (lv_at hl 0 rfl) ?_
              refine lv_iload_n hx hb dX8_matches_236 rfl (lv_at hl 2 rfl) ?_
              obtain ⟨x_238, he, hF⟩ := bd1e hF
              refine mcV hX hK hEv hE0 hH (met_X8_placeOf hE he) (mrecv hK hH) gw_StoneYearModel_255 hd_yX8_placeOf ⟨Nat.le_of_ble_eq_true rfl, Nat.le_of_ble_eq_true rfl⟩ rfl rfl hl (Nat.le_of_ble_eq_true rfl) dX8_matches_237 ⟨Nat.le_of_ble_eq_true rfl, Nat.le_of_ble_eq_true rfl⟩ (fun H locs hH => ?_)
              refine lv_goto (tgt := 244) hx hb dX8_matches_240 rfl ?_
              exact j244 x_238 hF _ _ _ hH (lv_sub hl [0, 1, 2] rfl)
      exact l221 nn221 0 0 a_matched en221 _ _ _ hH (lv_sub hl [2, 1, 0] rfl)
    obtain ⟨nn29, en29⟩ := loopC_some ee29
    have l29 : ∀ (n : Nat) (x_120 : Int32) (a_leastCost_121 : Nat → Int32), loopN (fun s => FX8_matches_b29 a_all s.1 s.2) n (x_120, a_leastCost_121) = some xx29 → ∀ (H : Heap) (locs : List Loc) (ls : Array Slot), MH D vwA A s.heap (mW ad cA a_all a_hasImage a_tape a_fresh v_taped v_at v_behind v_size v_kind v_number v_wrong v_wrongAt v_depth v_steps v_faultKind v_faultPlace a_on a_many v_moved a_pile v_aside v_judgedBy v_judgedYear a_leastCost_121 a_matched a_order a_lies a_movedThen a_yearTable a_yearMark a_beginTable a_beginMark v_statesTold v_found v_yearFrom v_mark v_beginsMark v_begins a_began v_isSpent a_wants a_rowSort a_rowMany a_numbers) H locs → lv_has ls 7 [(0, .ref (ad 0)), (1, .int x_120)] → W p l e rm_X8_matches s m args below meth c H locs 0 0 Q (F0 m 29 ls []) := by
      intro n
      induction n with
      | zero =>
        intro x_120 a_leastCost_121 hN
        exact absurd hN loopN_zero
      | succ n ih =>
        intro x_120 a_leastCost_121 hN H locs ls hH hl
        obtain ⟨yy29, hB29, hY29⟩ := loopN_succ hN
        have hF : FX8_matches_b29 a_all x_120 a_leastCost_121 = some yy29 := hB29
        delta FX8_matches_b29 at hF
        refine lv_iload_n hx hb dX8_matches_29 rfl (lv_at hl 1 rfl) ?_
        refine lv_if_lt (tgt := 217) hx hb dX8_matches_30 rfl (fun c_122 => ?_) (fun c_122 => ?_)
        · have hF := itp c_122 hF
          obtain rfl := Option.some.inj hF
          exact k29_0 a_leastCost_121 hY29 _ _ _ hH (lv_sub hl [0] rfl)
        · have hF := itn c_122 hF
          refine lv_aload_n hx hb dX8_matches_33 rfl (lv_at hl 0 rfl) ?_
          refine lv_iload_n hx hb dX8_matches_34 rfl (lv_at hl 1 rfl) ?_
          obtain ⟨b_123, he, hF⟩ := bd1e hF
          refine mcV hX hK hEv hE0 hH (met_X8_isStone hE he) (mrecv hK hH) gw_StoneYearModel_250 hd_yX8_isStone ⟨Nat.le_of_ble_eq_true rfl, Nat.le_of_ble_eq_true rfl⟩ rfl rfl hl (Nat.le_of_ble_eq_true rfl) dX8_matches_35 ⟨Nat.le_of_ble_eq_true rfl, Nat.le_of_ble_eq_true rfl⟩ (fun H locs hH => ?_)
          have j50 : ∀ (x_126 : Int32), FX8_matches_j50 a_all x_120 a_leastCost_121 x_126 = some yy29 → ∀ (H : Heap) (locs : List Loc) (ls : Array Slot), MH D vwA A s.heap (mW ad cA a_all a_hasImage a_tape a_fresh v_taped v_at v_behind v_size v_kind v_number v_wrong v_wrongAt v_depth v_steps v_faultKind v_faultPlace a_on a_many v_moved a_pile v_aside v_judgedBy v_judgedYear a_leastCost_121 a_matched a_order a_lies a_movedThen a_yearTable a_yearMark a_beginTable a_beginMark v_statesTold v_found v_yearFrom v_mark v_beginsMark v_begins a_began v_isSpent a_wants a_rowSort a_rowMany a_numbers) H locs → lv_has ls 7 [(0, .ref (ad 0)), (1, .int x_120)] → W p l e rm_X8_matches s m args below meth c H locs 0 0 Q (F0 m 50 ls [.int x_126]) := by
            intro x_126 hF H locs ls hH hl
            delta FX8_matches_j50 at hF
            refine lv_istore_n (lv' := [(2, .int x_126), (0, .ref (ad 0)), (1, .int x_120)]) hx hb dX8_matches_50 rfl hl (by decide) rfl (fun ls hl => ?_)
            refine lv_iconst (v := 0) hx hb dX8_matches_51 syi_0 ?_
            refine lv_istore_n (lv' := [(3, .int 0), (2, .int x_126), (0, .ref (ad 0)), (1, .int x_120)]) hx hb dX8_matches_52 rfl hl (by decide) rfl (fun ls hl => ?_)
            obtain ⟨xx53, ee53, kk53_0⟩ := bd1L hF
            have k53_0 : ∀ (a_leastCost_189 : Nat → Int32), xx53 = a_leastCost_189 → ∀ (H : Heap) (locs : List Loc) (ls : Array Slot), MH D vwA A s.heap (mW ad cA a_all a_hasImage a_tape a_fresh v_taped v_at v_behind v_size v_kind v_number v_wrong v_wrongAt v_depth v_steps v_faultKind v_faultPlace a_on a_many v_moved a_pile v_aside v_judgedBy v_judgedYear a_leastCost_189 a_matched a_order a_lies a_movedThen a_yearTable a_yearMark a_beginTable a_beginMark v_statesTold v_found v_yearFrom v_mark v_beginsMark v_begins a_began v_isSpent a_wants a_rowSort a_rowMany a_numbers) H locs → lv_has ls 7 [(0, .ref (ad 0)), (1, .int x_120)] → W p l e rm_X8_matches s m args below meth c H locs 0 0 Q (F0 m 211 ls []) := by
              intro a_leastCost_189 hxx H locs ls hH hl
              have hF := un1e (kk53_0 a_leastCost_189 hxx)
              refine lv_iinc (v := (x_120 + (-1))) (lv' := [(1, .int (x_120 + (-1))), (0, .ref (ad 0))]) hx hb dX8_matches_211 hl (k := 1) rfl (syc syi_m1) (by decide) rfl (fun ls hl => ?_)
              refine lv_goto (tgt := 29) hx hb dX8_matches_214 rfl ?_
              obtain rfl := Option.some.inj hF
              exact ih (x_120 + (-1)) a_leastCost_189 hY29 _ _ _ hH (lv_sub hl [1, 0] rfl)
            obtain ⟨nn53, en53⟩ := loopC_some ee53
            have l53 : ∀ (n : Nat) (x_157 : Int32) (a_leastCost_158 : Nat → Int32), loopN (fun s => FX8_matches_b53 a_all x_120 x_126 s.1 s.2) n (x_157, a_leastCost_158) = some xx53 → ∀ (H : Heap) (locs : List Loc) (ls : Array Slot), MH D vwA A s.heap (mW ad cA a_all a_hasImage a_tape a_fresh v_taped v_at v_behind v_size v_kind v_number v_wrong v_wrongAt v_depth v_steps v_faultKind v_faultPlace a_on a_many v_moved a_pile v_aside v_judgedBy v_judgedYear a_leastCost_158 a_matched a_order a_lies a_movedThen a_yearTable a_yearMark a_beginTable a_beginMark v_statesTold v_found v_yearFrom v_mark v_beginsMark v_begins a_began v_isSpent a_wants a_rowSort a_rowMany a_numbers) H locs → lv_has ls 7 [(0, .ref (ad 0)), (1, .int x_120), (2, .int x_126), (3, .int x_157)] → W p l e rm_X8_matches s m args below meth c H locs 0 0 Q (F0 m 53 ls []) := by
              intro n
              induction n with
              | zero =>
                intro x_157 a_leastCost_158 hN
                exact absurd hN loopN_zero
              | succ n ih =>
                intro x_157 a_leastCost_158 hN H locs ls hH hl
                obtain ⟨yy53, hB53, hY53⟩ := loopN_succ hN
                have hF : FX8_matches_b53 a_all x_120 x_126 x_157 a_leastCost_158 = some yy53 := hB53
                delta FX8_matches_b53 at hF
                refine lv_iload_n hx hb dX8_matches_53 rfl (lv_at hl 3 rfl) ?_
                refine lv_ldcw (v := 32768) hx hb hown (hts _ q2054) dX8_matches_54 ?_
                refine lv_icmp_ge (tgt := 211) hx hb dX8_matches_57 rfl (fun c_159 => ?_) (fun c_159 => ?_)
                · have hF := itp c_159 hF
                  obtain rfl := Option.some.inj hF
                  exact k53_0 a_leastCost_158 hY53 _ _ _ hH (lv_sub hl [0, 1] rfl)
                · have hF := itn c_159 hF
                  refine lv_aload_n hx hb dX8_matches_60 rfl (lv_at hl 0 rfl) ?_
                  refine mg_leastCost hX hK hH dX8_matches_61 ?_
                  refine lv_iload_n hx hb dX8_matches_64 rfl (lv_at hl 1 rfl) ?_
                  refine lv_iconst (v := 1) hx hb dX8_matches_65 syi_1 ?_
                  refine lv_iadd hx hb dX8_matches_66 ?_
                  refine lv_ldcw (v := 32768) hx hb hown (hts _ q2054) dX8_matches_67 ?_
                  refine lv_imul hx hb dX8_matches_70 ?_
                  refine lv_iload_n hx hb dX8_matches_71 rfl (lv_at hl 3 rfl) ?_
                  refine lv_iadd hx hb dX8_matches_72 ?_
                  obtain ⟨x_160, he, hF⟩ := bd1e hF
                  refine ml_leastCost hX hK hH he dX8_matches_73 ?_
                  refine lv_iload_n hx hb dX8_matches_74 rfl (lv_at hl 2 rfl) ?_
                  refine lv_iconst (v := (-1)) hx hb dX8_matches_75 syi_m1 ?_
                  have j86 : ∀ (x_162 : Int32), FX8_matches_j86 a_all x_120 x_126 x_157 a_leastCost_158 x_160 x_162 = some yy53 → ∀ (H : Heap) (locs : List Loc) (ls : Array Slot), MH D vwA A s.heap (mW ad cA a_all a_hasImage a_tape a_fresh v_taped v_at v_behind v_size v_kind v_number v_wrong v_wrongAt v_depth v_steps v_faultKind v_faultPlace a_on a_many v_moved a_pile v_aside v_judgedBy v_judgedYear a_leastCost_158 a_matched a_order a_lies a_movedThen a_yearTable a_yearMark a_beginTable a_beginMark v_statesTold v_found v_yearFrom v_mark v_beginsMark v_begins a_began v_isSpent a_wants a_rowSort a_rowMany a_numbers) H locs → lv_has ls 7 [(0, .ref (ad 0)), (1, .int x_120), (2, .int x_126), (3, .int x_157)] → W p l e rm_X8_matches s m args below meth c H locs 0 0 Q (F0 m 86 ls [.int x_162, .int x_160]) := by
                    intro x_162 hF H locs ls hH hl
                    delta FX8_matches_j86 at hF
                    refine lv_iadd hx hb dX8_matches_86 ?_
                    refine lv_istore (lv' := [(4, .int (x_160 + x_162)), (0, .ref (ad 0)), (1, .int x_120), (2, .int x_126), (3, .int x_157)]) hx hb dX8_matches_87 hl (by decide) rfl (fun ls hl => ?_)
                    refine lv_iconst (v := 0) hx hb dX8_matches_89 syi_0 ?_
                    refine lv_istore (lv' := [(5, .int 0), (4, .int (x_160 + x_162)), (0, .ref (ad 0)), (1, .int x_120), (2, .int x_126), (3, .int x_157)]) hx hb dX8_matches_90 hl (by decide) rfl (fun ls hl => ?_)
                    obtain ⟨xx92, ee92, kk92_0⟩ := bd1L hF
                    have k92_0 : ∀ (x_187 : Int32), xx92 = x_187 → ∀ (H : Heap) (locs : List Loc) (ls : Array Slot), MH D vwA A s.heap (mW ad cA a_all a_hasImage a_tape a_fresh v_taped v_at v_behind v_size v_kind v_number v_wrong v_wrongAt v_depth v_steps v_faultKind v_faultPlace a_on a_many v_moved a_pile v_aside v_judgedBy v_judgedYear a_leastCost_158 a_matched a_order a_lies a_movedThen a_yearTable a_yearMark a_beginTable a_beginMark v_statesTold v_found v_yearFrom v_mark v_beginsMark v_begins a_began v_isSpent a_wants a_rowSort a_rowMany a_numbers) H locs → lv_has ls 7 [(0, .ref (ad 0)), (1, .int x_120), (2, .int x_126), (3, .int x_157), (4, .int x_187)] → W p l e rm_X8_matches s m args below meth c H locs 0 0 Q (F0 m 191 ls []) := by
                      intro x_187 hxx H locs ls hH hl
                      have hF := un1e (kk92_0 x_187 hxx)
                      refine lv_aload_n hx hb dX8_matches_191 rfl (lv_at hl 0 rfl) ?_
                      refine mg_leastCost hX hK hH dX8_matches_192 ?_
                      refine lv_iload_n hx hb dX8_matches_195 rfl (lv_at hl 1 rfl) ?_
                      refine lv_ldcw (v := 32768) hx hb hown (hts _ q2054) dX8_matches_196 ?_
                      refine lv_imul hx hb dX8_matches_199 ?_
                      refine lv_iload_n hx hb dX8_matches_200 rfl (lv_at hl 3 rfl) ?_
                      refine lv_iadd hx hb dX8_matches_201 ?_
                      refine lv_iload hx hb dX8_matches_202 (lv_at hl 4 rfl) ?_
                      obtain ⟨a_leastCost_188, he, hF⟩ := bd1e hF
                      refine ms_leastCost hX hK hH he dX8_matches_204 (fun H locs hH => ?_)
                      refine lv_iinc (v := (x_157 + 1)) (lv' := [(3, .int (x_157 + 1)), (0, .ref (ad 0)), (1, .int x_120), (2, .int x_126), (4, .int x_187)]) hx hb dX8_matches_205 hl (k := 3) rfl (syc syi_1) (by decide) rfl (fun ls hl => ?_)
                      refine lv_goto (tgt := 53) hx hb dX8_matches_208 rfl ?_
                      obtain rfl := Option.some.inj hF
                      exact ih (x_157 + 1) a_leastCost_188 hY53 _ _ _ hH (lv_sub hl [1, 2, 3, 0] rfl)
                    obtain ⟨nn92, en92⟩ := loopC_some ee92
                    have l92 : ∀ (n : Nat) (x_174 : Int32) (x_175 : Int32), loopN (fun s => FX8_matches_b92 a_all x_120 x_126 x_157 a_leastCost_158 s.1 s.2) n (x_174, x_175) = some xx92 → ∀ (H : Heap) (locs : List Loc) (ls : Array Slot), MH D vwA A s.heap (mW ad cA a_all a_hasImage a_tape a_fresh v_taped v_at v_behind v_size v_kind v_number v_wrong v_wrongAt v_depth v_steps v_faultKind v_faultPlace a_on a_many v_moved a_pile v_aside v_judgedBy v_judgedYear a_leastCost_158 a_matched a_order a_lies a_movedThen a_yearTable a_yearMark a_beginTable a_beginMark v_statesTold v_found v_yearFrom v_mark v_beginsMark v_begins a_began v_isSpent a_wants a_rowSort a_rowMany a_numbers) H locs → lv_has ls 7 [(0, .ref (ad 0)), (1, .int x_120), (2, .int x_126), (3, .int x_157), (4, .int x_174), (5, .int x_175)] → W p l e rm_X8_matches s m args below meth c H locs 0 0 Q (F0 m 92 ls []) := by
                      intro n
                      induction n with
                      | zero =>
                        intro x_174 x_175 hN
                        exact absurd hN loopN_zero
                      | succ n ih =>
                        intro x_174 x_175 hN H locs ls hH hl
                        obtain ⟨yy92, hB92, hY92⟩ := loopN_succ hN
                        have hF : FX8_matches_b92 a_all x_120 x_126 x_157 a_leastCost_158 x_174 x_175 = some yy92 := hB92
                        delta FX8_matches_b92 at hF
                        refine lv_iload hx hb dX8_matches_92 (lv_at hl 5 rfl) ?_
                        refine lv_bipush (v := 15) hx hb dX8_matches_94 syb_15 ?_
                        refine lv_icmp_ge (tgt := 191) hx hb dX8_matches_96 rfl (fun c_176 => ?_) (fun c_176 => ?_)
                        · have hF := itp c_176 hF
                          obtain rfl := Option.some.inj hF
                          exact k92_0 x_174 hY92 _ _ _ hH (lv_sub hl [0, 1, 2, 3, 4] rfl)
                        · have hF := itn c_176 hF
                          refine lv_iload_n hx hb dX8_matches_99 rfl (lv_at hl 2 rfl) ?_
                          refine lv_iconst (v := (-1)) hx hb dX8_matches_100 syi_m1 ?_
                          refine lv_icmp_eq (tgt := 191) hx hb dX8_matches_101 rfl (fun c_177 => ?_) (fun c_177 => ?_)
                          · have hF := itp c_177 hF
                            obtain rfl := Option.some.inj hF
                            exact k92_0 x_174 hY92 _ _ _ hH (lv_sub hl [0, 1, 2, 3, 4] rfl)
                          · have hF := itn c_177 hF
                            refine lv_iload_n hx hb dX8_matches_104 rfl (lv_at hl 3 rfl) ?_
                            refine lv_iload hx hb dX8_matches_105 (lv_at hl 5 rfl) ?_
                            refine lv_ishr hx hb dX8_matches_107 ?_
                            refine lv_iconst (v := 1) hx hb dX8_matches_108 syi_1 ?_
                            refine lv_iand hx hb dX8_matches_109 ?_
                            refine lv_iconst (v := 1) hx hb dX8_matches_110 syi_1 ?_
                            have j185 : ∀ (x_186 : Int32), FX8_matches_j185 x_175 x_186 = some yy92 → ∀ (H : Heap) (locs : List Loc) (ls : Array Slot), MH D vwA A s.heap (mW ad cA a_all a_hasImage a_tape a_fresh v_taped v_at v_behind v_size v_kind v_number v_wrong v_wrongAt v_depth v_steps v_faultKind v_faultPlace a_on a_many v_moved a_pile v_aside v_judgedBy v_judgedYear a_leastCost_158 a_matched a_order a_lies a_movedThen a_yearTable a_yearMark a_beginTable a_beginMark v_statesTold v_found v_yearFrom v_mark v_beginsMark v_begins a_began v_isSpent a_wants a_rowSort a_rowMany a_numbers) H locs → lv_has ls 7 [(0, .ref (ad 0)), (1, .int x_120), (2, .int x_126), (3, .int x_157), (4, .int x_186), (5, .int x_175)] → W p l e rm_X8_matches s m args below meth c H locs 0 0 Q (F0 m 185 ls []) := by
                              intro x_186 hF H locs ls hH hl
                              delta FX8_matches_j185 at hF
                              refine lv_iinc (v := (x_175 + 1)) (lv' := [(5, .int (x_175 + 1)), (0, .ref (ad 0)), (1, .int x_120), (2, .int x_126), (3, .int x_157), (4, .int x_186)]) hx hb dX8_matches_185 hl (k := 5) rfl (syc syi_1) (by decide) rfl (fun ls hl => ?_)
                              refine lv_goto (tgt := 92) hx hb dX8_matches_188 rfl ?_
                              obtain rfl := Option.some.inj hF
                              exact ih x_186 (x_175 + 1) hY92 _ _ _ hH (lv_sub hl [1, 2, 3, 4, 5, 0] rfl)
                            refine lv_icmp_eq (tgt := 185) hx hb dX8_matches_111 rfl (fun c_178 => ?_) (fun c_178 => ?_)
                            · have hF := itp c_178 hF
                              exact j185 x_174 hF _ _ _ hH (lv_sub hl [0, 1, 2, 3, 4, 5] rfl)
                            · have hF := itn c_178 hF
                              refine lv_aload_n hx hb dX8_matches_114 rfl (lv_at hl 0 rfl) ?_
                              refine mg_all hX hK hH dX8_matches_115 ?_
                              refine lv_bipush (v := 41) hx hb dX8_matches_118 syb_41 ?_
                              refine lv_iload hx hb dX8_matches_120 (lv_at hl 5 rfl) ?_
                              refine lv_iadd hx hb dX8_matches_122 ?_
                              obtain ⟨x_179, he, hF⟩ := bd1e hF
                              refine ml_all hX hK hH he dX8_matches_123 ?_
                              refine lv_aload_n hx hb dX8_matches_124 rfl (lv_at hl 0 rfl) ?_
                              refine mg_all hX hK hH dX8_matches_125 ?_
                              refine lv_bipush (v := 7) hx hb dX8_matches_128 syb_7 ?_
                              refine lv_iload_n hx hb dX8_matches_130 rfl (lv_at hl 1 rfl) ?_
                              refine lv_iadd hx hb dX8_matches_131 ?_
                              obtain ⟨x_180, he, hF⟩ := bd1e hF
                              refine ml_all hX hK hH he dX8_matches_132 ?_
                              refine lv_icmp_eq (tgt := 139) hx hb dX8_matches_133 rfl (fun c_181 => ?_) (fun c_181 => ?_)
                              · have hF := itp c_181 hF
                                refine lv_aload_n hx hb dX8_matches_139 rfl (lv_at hl 0 rfl) ?_
                                refine lv_iload_n hx hb dX8_matches_140 rfl (lv_at hl 1 rfl) ?_
                                refine lv_iload hx hb dX8_matches_141 (lv_at hl 5 rfl) ?_
                                refine lv_iload_n hx hb dX8_matches_143 rfl (lv_at hl 2 rfl) ?_
                                obtain ⟨x_182, he, hF⟩ := bd1e hF
                                refine mcV hX hK hEv hE0 hH (met_X8_costOf hE he) (mrecv hK hH) gw_StoneYearModel_336 hd_yX8_costOf ⟨Nat.le_of_ble_eq_true rfl, Nat.le_of_ble_eq_true rfl⟩ rfl rfl hl (Nat.le_of_ble_eq_true rfl) dX8_matches_144 ⟨Nat.le_of_ble_eq_true rfl, Nat.le_of_ble_eq_true rfl⟩ (fun H locs hH => ?_)
                                refine lv_aload_n hx hb dX8_matches_147 rfl (lv_at hl 0 rfl) ?_
                                refine mg_leastCost hX hK hH dX8_matches_148 ?_
                                refine lv_iload_n hx hb dX8_matches_151 rfl (lv_at hl 1 rfl) ?_
                                refine lv_iconst (v := 1) hx hb dX8_matches_152 syi_1 ?_
                                refine lv_iadd hx hb dX8_matches_153 ?_
                                refine lv_ldcw (v := 32768) hx hb hown (hts _ q2054) dX8_matches_154 ?_
                                refine lv_imul hx hb dX8_matches_157 ?_
                                refine lv_iload_n hx hb dX8_matches_158 rfl (lv_at hl 3 rfl) ?_
                                refine lv_iconst (v := 1) hx hb dX8_matches_159 syi_1 ?_
                                refine lv_iload hx hb dX8_matches_160 (lv_at hl 5 rfl) ?_
                                refine lv_ishl hx hb dX8_matches_162 ?_
                                refine lv_ior hx hb dX8_matches_163 ?_
                                refine lv_iadd hx hb dX8_matches_164 ?_
                                obtain ⟨x_183, he, hF⟩ := bd1e hF
                                refine ml_leastCost hX hK hH he dX8_matches_165 ?_
                                refine lv_iadd hx hb dX8_matches_166 ?_
                                refine lv_istore (lv' := [(6, .int (x_182 + x_183)), (0, .ref (ad 0)), (1, .int x_120), (2, .int x_126), (3, .int x_157), (4, .int x_174), (5, .int x_175)]) hx hb dX8_matches_167 hl (by decide) rfl (fun ls hl => ?_)
                                refine lv_iload hx hb dX8_matches_169 (lv_at hl 0 rfl) ?_
                                refine lv_iload hx hb dX8_matches_171 (lv_at hl 5 rfl) ?_
                                have j183 : ∀ (x_185 : Int32), FX8_matches_j183 x_175 x_185 = some yy92 → ∀ (H : Heap) (locs : List Loc) (ls : Array Slot), MH D vwA A s.heap (mW ad cA a_all a_hasImage a_tape a_fresh v_taped v_at v_behind v_size v_kind v_number v_wrong v_wrongAt v_depth v_steps v_faultKind v_faultPlace a_on a_many v_moved a_pile v_aside v_judgedBy v_judgedYear a_leastCost_158 a_matched a_order a_lies a_movedThen a_yearTable a_yearMark a_beginTable a_beginMark v_statesTold v_found v_yearFrom v_mark v_beginsMark v_begins a_began v_isSpent a_wants a_rowSort a_rowMany a_numbers) H locs → lv_has ls 7 [(0, .ref (ad 0)), (1, .int x_120), (2, .int x_126), (3, .int x_157), (5, .int x_175)] → W p l e rm_X8_matches s m args below meth c H locs 0 0 Q (F0 m 183 ls [.int x_185]) := by
                                  intro x_185 hF H locs ls hH hl
                                  delta FX8_matches_j183 at hF
                                  refine lv_istore (lv' := [(4, .int x_185), (0, .ref (ad 0)), (1, .int x_120), (2, .int x_126), (3, .int x_157), (5, .int x_175)]) hx hb dX8_matches_183 hl (by decide) rfl (fun ls hl => ?_)
                                  exact j185 x_185 hF _ _ _ hH (lv_sub hl [1, 2, 3, 4, 0, 5] rfl)
                                refine lv_icmp_ge (tgt := 181) hx hb dX8_matches_173 rfl (fun c_184 => ?_) (fun c_184 => ?_)
                                · have hF := itp c_184 hF
                                  refine lv_iload hx hb dX8_matches_181 (lv_at hl 5 rfl) ?_
                                  exact j183 x_174 hF _ _ _ hH (lv_sub hl [1, 2, 3, 4, 6] rfl)
                                · have hF := itn c_184 hF
                                  refine lv_iload hx hb dX8_matches_176 (lv_at hl 0 rfl) ?_
                                  refine lv_goto (tgt := 183) hx hb dX8_matches_178 rfl ?_
                                  exact j183 (x_182 + x_183) hF _ _ _ hH (lv_sub hl [1, 2, 3, 4, 6] rfl)
                              · have hF := itn c_181 hF
                                refine lv_goto (tgt := 185) hx hb dX8_matches_136 rfl ?_
                                exact j185 x_174 hF _ _ _ hH (lv_sub hl [0, 1, 2, 3, 4, 5] rfl)
                    exact l92 nn92 (x_160 + x_162) 0 en92 _ _ _ hH (lv_sub hl [2, 3, 4, 5, 1, 0] rfl)
                  refine lv_icmp_ne (tgt := 83) hx hb dX8_matches_76 rfl (fun c_161 => ?_) (fun c_161 => ?_)
                  · have hF := itn c_161 hF
                    refine lv_ldcw (v := 1000000) hx hb hown (hts _ q2056) dX8_matches_83 ?_
                    exact j86 1000000 hF _ _ _ hH (lv_sub hl [0, 1, 2, 3] rfl)
                  · have hF := itp c_161 hF
                    refine lv_iconst (v := 0) hx hb dX8_matches_79 syi_0 ?_
                    refine lv_goto (tgt := 86) hx hb dX8_matches_80 rfl ?_
                    exact j86 0 hF _ _ _ hH (lv_sub hl [0, 1, 2, 3] rfl)
            exact l53 nn53 0 a_leastCost_121 en53 _ _ _ hH (lv_sub hl [2, 3, 1, 0] rfl)
          refine lv_if_eq (tgt := 49) hx hb dX8_matches_38 rfl (fun c_124 => ?_) (fun c_124 => ?_)
          · have hF := itp c_124 hF
            refine lv_iconst (v := (-1)) hx hb dX8_matches_49 syi_m1 ?_
            exact j50 (-1) hF _ _ _ hH (lv_sub hl [0, 1] rfl)
          · have hF := itn c_124 hF
            refine lv_aload_n hx hb dX8_matches_41 rfl (lv_at hl 0 rfl) ?_
            refine lv_iload_n hx hb dX8_matches_42 rfl (lv_at hl 1 rfl) ?_
            obtain ⟨x_125, he, hF⟩ := bd1e hF
            refine mcV hX hK hEv hE0 hH (met_X8_placeOf hE he) (mrecv hK hH) gw_StoneYearModel_255 hd_yX8_placeOf ⟨Nat.le_of_ble_eq_true rfl, Nat.le_of_ble_eq_true rfl⟩ rfl rfl hl (Nat.le_of_ble_eq_true rfl) dX8_matches_43 ⟨Nat.le_of_ble_eq_true rfl, Nat.le_of_ble_eq_true rfl⟩ (fun H locs hH => ?_)
            refine lv_goto (tgt := 50) hx hb dX8_matches_46 rfl ?_
            exact j50 x_125 hF _ _ _ hH (lv_sub hl [0, 1] rfl)
    exact l29 nn29 7 a_leastCost_51 en29 _ _ _ hH (lv_sub hl [1, 0] rfl)
  obtain ⟨nn2, en2⟩ := loopC_some ee2
  have l2 : ∀ (n : Nat) (x_47 : Int32) (a_leastCost_48 : Nat → Int32), loopN (fun s => FX8_matches_b2 s.1 s.2) n (x_47, a_leastCost_48) = some xx2 → ∀ (H : Heap) (locs : List Loc) (ls : Array Slot), MH D vwA A s.heap (mW ad cA a_all a_hasImage a_tape a_fresh v_taped v_at v_behind v_size v_kind v_number v_wrong v_wrongAt v_depth v_steps v_faultKind v_faultPlace a_on a_many v_moved a_pile v_aside v_judgedBy v_judgedYear a_leastCost_48 a_matched a_order a_lies a_movedThen a_yearTable a_yearMark a_beginTable a_beginMark v_statesTold v_found v_yearFrom v_mark v_beginsMark v_begins a_began v_isSpent a_wants a_rowSort a_rowMany a_numbers) H locs → lv_has ls 7 [(0, .ref (ad 0)), (1, .int x_47)] → W p l e rm_X8_matches s m args below meth c H locs 0 0 Q (F0 m 2 ls []) := by
    intro n
    induction n with
    | zero =>
      intro x_47 a_leastCost_48 hN
      exact absurd hN loopN_zero
    | succ n ih =>
      intro x_47 a_leastCost_48 hN H locs ls hH hl
      obtain ⟨yy2, hB2, hY2⟩ := loopN_succ hN
      have hF : FX8_matches_b2 x_47 a_leastCost_48 = some yy2 := hB2
      delta FX8_matches_b2 at hF
      refine lv_iload_n hx hb dX8_matches_2 rfl (lv_at hl 1 rfl) ?_
      refine lv_ldcw (v := 32768) hx hb hown (hts _ q2054) dX8_matches_3 ?_
      refine lv_icmp_ge (tgt := 26) hx hb dX8_matches_6 rfl (fun c_49 => ?_) (fun c_49 => ?_)
      · have hF := itp c_49 hF
        obtain rfl := Option.some.inj hF
        exact k2_0 a_leastCost_48 hY2 _ _ _ hH (lv_sub hl [0] rfl)
      · have hF := itn c_49 hF
        refine lv_aload_n hx hb dX8_matches_9 rfl (lv_at hl 0 rfl) ?_
        refine mg_leastCost hX hK hH dX8_matches_10 ?_
        refine lv_ldcw (v := 262144) hx hb hown (hts _ q2055) dX8_matches_13 ?_
        refine lv_iload_n hx hb dX8_matches_16 rfl (lv_at hl 1 rfl) ?_
        refine lv_iadd hx hb dX8_matches_17 ?_
        refine lv_iconst (v := 0) hx hb dX8_matches_18 syi_0 ?_
        obtain ⟨a_leastCost_50, he, hF⟩ := bd1e hF
        refine ms_leastCost hX hK hH he dX8_matches_19 (fun H locs hH => ?_)
        refine lv_iinc (v := (x_47 + 1)) (lv' := [(1, .int (x_47 + 1)), (0, .ref (ad 0))]) hx hb dX8_matches_20 hl (k := 1) rfl (syc syi_1) (by decide) rfl (fun ls hl => ?_)
        refine lv_goto (tgt := 2) hx hb dX8_matches_23 rfl ?_
        obtain rfl := Option.some.inj hF
        exact ih (x_47 + 1) a_leastCost_50 hY2 _ _ _ hH (lv_sub hl [1, 0] rfl)
  exact l2 nn2 0 a_leastCost en2 _ _ _ hH (lv_sub hl [1, 0] rfl)
abbrev rm_X8_match : Room := { frames := 3, cells := 0, slots := 0, locals := 72 }
set_option maxHeartbeats 4000000 in
theorem met_X8_match {l : Launch} {D : va_G} {ad : Nat → Nat} {cA : Nat → ClassId} {a_all : Nat → Int32} {a_hasImage : Nat → Int32} {a_tape : Nat → Int32} {a_fresh : Nat → Int32} {v_taped : Int32} {v_at : Int32} {v_behind : Int32} {v_size : Int32} {v_kind : Int32} {v_number : Int32} {v_wrong : Int32} {v_wrongAt : Int32} {v_depth : Int32} {v_steps : Int32} {v_faultKind : Int32} {v_faultPlace : Int32} {a_on : Nat → Int32} {a_many : Nat → Int32} {v_moved : Int32} {a_pile : Nat → Int32} {v_aside : Int32} {v_judgedBy : Int32} {v_judgedYear : Int32} {a_leastCost : Nat → Int32} {a_matched : Nat → Int32} {a_order : Nat → Int32} {a_lies : Nat → Int64} {a_movedThen : Nat → Int32} {a_yearTable : Nat → Int32} {a_yearMark : Nat → Int32} {a_beginTable : Nat → Int32} {a_beginMark : Nat → Int32} {v_statesTold : Int32} {v_found : Int32} {v_yearFrom : Int32} {v_mark : Int32} {v_beginsMark : Int32} {v_begins : Int32} {a_began : Nat → Int64} {v_isSpent : Int32} {a_wants : Nat → Int32} {a_rowSort : Nat → Int32} {a_rowMany : Nat → Int32} {a_numbers : Nat → Int64}  {p1 : Int32} {res : Int32} {ra_leastCost : Nat → Int32} {ra_matched : Nat → Int32} {ak av fo : Nat} {E : EvT} (hE : EvM E ak av fo) (hF : FX8_match a_all a_leastCost a_matched p1 = some (res, ra_leastCost, ra_matched)) : MM l yX8_match (ws_ yX8_match cX8_match 4 (Option.some Jvm.ClassFile.FieldType.int)) rm_X8_match D vwA (mT cA) E [.ref (ad 0), .int p1] (mW ad cA a_all a_hasImage a_tape a_fresh v_taped v_at v_behind v_size v_kind v_number v_wrong v_wrongAt v_depth v_steps v_faultKind v_faultPlace a_on a_many v_moved a_pile v_aside v_judgedBy v_judgedYear a_leastCost a_matched a_order a_lies a_movedThen a_yearTable a_yearMark a_beginTable a_beginMark v_statesTold v_found v_yearFrom v_mark v_beginsMark v_begins a_began v_isSpent a_wants a_rowSort a_rowMany a_numbers) (mW ad cA a_all a_hasImage a_tape a_fresh v_taped v_at v_behind v_size v_kind v_number v_wrong v_wrongAt v_depth v_steps v_faultKind v_faultPlace a_on a_many v_moved a_pile v_aside v_judgedBy v_judgedYear ra_leastCost ra_matched a_order a_lies a_movedThen a_yearTable a_yearMark a_beginTable a_beginMark v_statesTold v_found v_yearFrom v_mark v_beginsMark v_begins a_began v_isSpent a_wants a_rowSort a_rowMany a_numbers) (some (.int res)) := by
  refine MM.ofI (by decide) (Nat.le_of_ble_eq_true rfl) ?_
  intro p e s m args below meth c Q A hX hK hE0 hret H locs ls hH hl
  have hX : CallFix p m c cX8_match 4 s args lw_all RX8 := hX
  have hx := hX.1
  have hb := hX.2.1
  have hown := hX.2.2.2.1
  have hts := hX.2.2.2.2
  have hl : lv_has ls 4 [(0, .ref (ad 0)), (1, .int p1)] := hl
  have hEv := hE.1
  delta FX8_match at hF
  refine lv_aload_n hx hb dX8_match_0 rfl (lv_at hl 0 rfl) ?_
  refine lv_iconst (v := 0) hx hb dX8_match_1 syi_0 ?_
  refine mp_thrown hX hK hH dX8_match_2 (fun H locs hH => ?_)
  refine lv_iload_n hx hb dX8_match_5 rfl (lv_at hl 1 rfl) ?_
  refine lv_iconst (v := (-1)) hx hb dX8_match_6 syi_m1 ?_
  have j21 : FX8_match_j21 a_all a_leastCost a_matched p1 = some (res, ra_leastCost, ra_matched) → ∀ (H : Heap) (locs : List Loc) (ls : Array Slot), MH D vwA A s.heap (mW ad cA a_all a_hasImage a_tape a_fresh v_taped v_at v_behind v_size v_kind v_number v_wrong v_wrongAt v_depth v_steps v_faultKind v_faultPlace a_on a_many v_moved a_pile v_aside v_judgedBy v_judgedYear a_leastCost a_matched a_order a_lies a_movedThen a_yearTable a_yearMark a_beginTable a_beginMark v_statesTold v_found v_yearFrom v_mark v_beginsMark v_begins a_began v_isSpent a_wants a_rowSort a_rowMany a_numbers) H locs → lv_has ls 4 [(0, .ref (ad 0)), (1, .int p1)] → W p l e rm_X8_match s m args below meth c H locs 0 0 Q (F0 m 21 ls []) := by
    intro hF H locs ls hH hl
    delta FX8_match_j21 at hF
    refine lv_aload_n hx hb dX8_match_21 rfl (lv_at hl 0 rfl) ?_
    obtain ⟨a_leastCost_49, a_matched_50, he, hF⟩ := bd2e hF
    refine mcV hX hK hEv hE0 hH (met_X8_matches hE he) (mrecv hK hH) gw_StoneYearModel_340 hd_yX8_matches ⟨Nat.le_of_ble_eq_true rfl, Nat.le_of_ble_eq_true rfl⟩ rfl rfl hl (Nat.le_of_ble_eq_true rfl) dX8_match_22 ⟨Nat.le_of_ble_eq_true rfl, Nat.le_of_ble_eq_true rfl⟩ (fun H locs hH => ?_)
    refine lv_iload_n hx hb dX8_match_25 rfl (lv_at hl 1 rfl) ?_
    refine lv_iconst (v := (-1)) hx hb dX8_match_26 syi_m1 ?_
    refine lv_icmp_eq (tgt := 37) hx hb dX8_match_27 rfl (fun c_51 => ?_) (fun c_51 => ?_)
    · have hF := itp c_51 hF
      refine lv_iconst (v := 0) hx hb dX8_match_37 syi_0 ?_
      refine lv_istore_n (lv' := [(2, .int 0), (0, .ref (ad 0)), (1, .int p1)]) hx hb dX8_match_38 rfl hl (by decide) rfl (fun ls hl => ?_)
      refine lv_iconst (v := 0) hx hb dX8_match_39 syi_0 ?_
      refine lv_istore_n (lv' := [(3, .int 0), (2, .int 0), (0, .ref (ad 0)), (1, .int p1)]) hx hb dX8_match_40 rfl hl (by decide) rfl (fun ls hl => ?_)
      obtain ⟨xx41, ee41, kk41_0⟩ := bd1L hF
      have k41_0 : ∀ (x_65 : Int32), xx41 = x_65 → ∀ (H : Heap) (locs : List Loc) (ls : Array Slot), MH D vwA A s.heap (mW ad cA a_all a_hasImage a_tape a_fresh v_taped v_at v_behind v_size v_kind v_number v_wrong v_wrongAt v_depth v_steps v_faultKind v_faultPlace a_on a_many v_moved a_pile v_aside v_judgedBy v_judgedYear a_leastCost_49 a_matched_50 a_order a_lies a_movedThen a_yearTable a_yearMark a_beginTable a_beginMark v_statesTold v_found v_yearFrom v_mark v_beginsMark v_begins a_began v_isSpent a_wants a_rowSort a_rowMany a_numbers) H locs → lv_has ls 4 [(2, .int x_65)] → W p l e rm_X8_match s m args below meth c H locs 0 0 Q (F0 m 74 ls []) := by
        intro x_65 hxx H locs ls hH hl
        have hF := un1e (kk41_0 x_65 hxx)
        refine lv_iload_n hx hb dX8_match_74 rfl (lv_at hl 0 rfl) ?_
        obtain ⟨rfl, rfl, rfl⟩ := re3 hF
        exact hret _ _ _ _ hH dX8_match_75
      obtain ⟨nn41, en41⟩ := loopC_some ee41
      have l41 : ∀ (n : Nat) (x_58 : Int32) (x_59 : Int32), loopN (fun s => FX8_match_b41 a_all a_matched_50 s.1 s.2) n (x_58, x_59) = some xx41 → ∀ (H : Heap) (locs : List Loc) (ls : Array Slot), MH D vwA A s.heap (mW ad cA a_all a_hasImage a_tape a_fresh v_taped v_at v_behind v_size v_kind v_number v_wrong v_wrongAt v_depth v_steps v_faultKind v_faultPlace a_on a_many v_moved a_pile v_aside v_judgedBy v_judgedYear a_leastCost_49 a_matched_50 a_order a_lies a_movedThen a_yearTable a_yearMark a_beginTable a_beginMark v_statesTold v_found v_yearFrom v_mark v_beginsMark v_begins a_began v_isSpent a_wants a_rowSort a_rowMany a_numbers) H locs → lv_has ls 4 [(0, .ref (ad 0)), (2, .int x_58), (3, .int x_59)] → W p l e rm_X8_match s m args below meth c H locs 0 0 Q (F0 m 41 ls []) := by
        intro n
        induction n with
        | zero =>
          intro x_58 x_59 hN
          exact absurd hN loopN_zero
        | succ n ih =>
          intro x_58 x_59 hN H locs ls hH hl
          obtain ⟨yy41, hB41, hY41⟩ := loopN_succ hN
          have hF : FX8_match_b41 a_all a_matched_50 x_58 x_59 = some yy41 := hB41
          delta FX8_match_b41 at hF
          refine lv_iload_n hx hb dX8_match_41 rfl (lv_at hl 2 rfl) ?_
          refine lv_aload_n hx hb dX8_match_42 rfl (lv_at hl 0 rfl) ?_
          refine mg_all hX hK hH dX8_match_43 ?_
          refine lv_bipush (v := 6) hx hb dX8_match_46 syb_6 ?_
          obtain ⟨x_60, he, hF⟩ := bd1e hF
          refine ml_all hX hK hH he dX8_match_48 ?_
          refine lv_icmp_ge (tgt := 74) hx hb dX8_match_49 rfl (fun c_61 => ?_) (fun c_61 => ?_)
          · have hF := itp c_61 hF
            obtain rfl := Option.some.inj hF
            exact k41_0 x_58 hY41 _ _ _ hH (lv_sub hl [1] rfl)
          · have hF := itn c_61 hF
            refine lv_iload_n hx hb dX8_match_52 rfl (lv_at hl 1 rfl) ?_
            refine lv_aload_n hx hb dX8_match_53 rfl (lv_at hl 0 rfl) ?_
            refine lv_iload_n hx hb dX8_match_54 rfl (lv_at hl 2 rfl) ?_
            obtain ⟨b_62, he, hF⟩ := bd1e hF
            refine mcV hX hK hEv hE0 hH (met_X8_isAway hE he) (mrecv hK hH) gw_StoneYearModel_343 hd_yX8_isAway ⟨Nat.le_of_ble_eq_true rfl, Nat.le_of_ble_eq_true rfl⟩ rfl rfl hl (Nat.le_of_ble_eq_true rfl) dX8_match_55 ⟨Nat.le_of_ble_eq_true rfl, Nat.le_of_ble_eq_true rfl⟩ (fun H locs hH => ?_)
            have j66 : ∀ (x_64 : Int32), FX8_match_j66 x_58 x_59 x_64 = some yy41 → ∀ (H : Heap) (locs : List Loc) (ls : Array Slot), MH D vwA A s.heap (mW ad cA a_all a_hasImage a_tape a_fresh v_taped v_at v_behind v_size v_kind v_number v_wrong v_wrongAt v_depth v_steps v_faultKind v_faultPlace a_on a_many v_moved a_pile v_aside v_judgedBy v_judgedYear a_leastCost_49 a_matched_50 a_order a_lies a_movedThen a_yearTable a_yearMark a_beginTable a_beginMark v_statesTold v_found v_yearFrom v_mark v_beginsMark v_begins a_began v_isSpent a_wants a_rowSort a_rowMany a_numbers) H locs → lv_has ls 4 [(0, .ref (ad 0)), (3, .int x_59)] → W p l e rm_X8_match s m args below meth c H locs 0 0 Q (F0 m 66 ls [.int x_64, .int x_58]) := by
              intro x_64 hF H locs ls hH hl
              delta FX8_match_j66 at hF
              refine lv_iadd hx hb dX8_match_66 ?_
              refine lv_istore_n (lv' := [(2, .int (x_58 + x_64)), (0, .ref (ad 0)), (3, .int x_59)]) hx hb dX8_match_67 rfl hl (by decide) rfl (fun ls hl => ?_)
              refine lv_iinc (v := (x_59 + 1)) (lv' := [(3, .int (x_59 + 1)), (2, .int (x_58 + x_64)), (0, .ref (ad 0))]) hx hb dX8_match_68 hl (k := 2) rfl (syc syi_1) (by decide) rfl (fun ls hl => ?_)
              refine lv_goto (tgt := 41) hx hb dX8_match_71 rfl ?_
              obtain rfl := Option.some.inj hF
              exact ih (x_58 + x_64) (x_59 + 1) hY41 _ _ _ hH (lv_sub hl [2, 1, 0] rfl)
            refine lv_if_eq (tgt := 65) hx hb dX8_match_58 rfl (fun c_63 => ?_) (fun c_63 => ?_)
            · have hF := itp c_63 hF
              refine lv_iconst (v := 0) hx hb dX8_match_65 syi_0 ?_
              exact j66 0 hF _ _ _ hH (lv_sub hl [0, 2] rfl)
            · have hF := itn c_63 hF
              refine lv_iconst (v := 1) hx hb dX8_match_61 syi_1 ?_
              refine lv_goto (tgt := 66) hx hb dX8_match_62 rfl ?_
              exact j66 1 hF _ _ _ hH (lv_sub hl [0, 2] rfl)
      exact l41 nn41 0 0 en41 _ _ _ hH (lv_sub hl [2, 1, 0] rfl)
    · have hF := itn c_51 hF
      refine lv_aload_n hx hb dX8_match_30 rfl (lv_at hl 0 rfl) ?_
      refine mg_matched hX hK hH dX8_match_31 ?_
      refine lv_iload_n hx hb dX8_match_34 rfl (lv_at hl 1 rfl) ?_
      obtain ⟨x_52, he, hF⟩ := bd1e hF
      refine ml_matched hX hK hH he dX8_match_35 ?_
      obtain ⟨rfl, rfl, rfl⟩ := re3 hF
      exact hret _ _ _ _ hH dX8_match_36
  refine lv_icmp_eq (tgt := 21) hx hb dX8_match_7 rfl (fun c_46 => ?_) (fun c_46 => ?_)
  · have hF := itp c_46 hF
    exact j21 hF _ _ _ hH (lv_sub hl [0, 1] rfl)
  · have hF := itn c_46 hF
    refine lv_aload_n hx hb dX8_match_10 rfl (lv_at hl 0 rfl) ?_
    refine lv_iload_n hx hb dX8_match_11 rfl (lv_at hl 1 rfl) ?_
    obtain ⟨b_47, he, hF⟩ := bd1e hF
    refine mcV hX hK hEv hE0 hH (met_X8_isStone hE he) (mrecv hK hH) gw_StoneYearModel_250 hd_yX8_isStone ⟨Nat.le_of_ble_eq_true rfl, Nat.le_of_ble_eq_true rfl⟩ rfl rfl hl (Nat.le_of_ble_eq_true rfl) dX8_match_12 ⟨Nat.le_of_ble_eq_true rfl, Nat.le_of_ble_eq_true rfl⟩ (fun H locs hH => ?_)
    refine lv_if_ne (tgt := 21) hx hb dX8_match_15 rfl (fun c_48 => ?_) (fun c_48 => ?_)
    · have hF := itn c_48 hF
      exact j21 hF _ _ _ hH (lv_sub hl [0, 1] rfl)
    · have hF := itp c_48 hF
      refine lv_bipush (v := (-2)) hx hb dX8_match_18 syb_m2 ?_
      obtain ⟨rfl, rfl, rfl⟩ := re3 hF
      exact hret _ _ _ _ hH dX8_match_20
abbrev rm_X8_looksAt : Room := { frames := 1, cells := 0, slots := 0, locals := 22 }
set_option maxHeartbeats 4000000 in
theorem met_X8_looksAt {l : Launch} {D : va_G} {ad : Nat → Nat} {cA : Nat → ClassId} {a_all : Nat → Int32} {a_hasImage : Nat → Int32} {a_tape : Nat → Int32} {a_fresh : Nat → Int32} {v_taped : Int32} {v_at : Int32} {v_behind : Int32} {v_size : Int32} {v_kind : Int32} {v_number : Int32} {v_wrong : Int32} {v_wrongAt : Int32} {v_depth : Int32} {v_steps : Int32} {v_faultKind : Int32} {v_faultPlace : Int32} {a_on : Nat → Int32} {a_many : Nat → Int32} {v_moved : Int32} {a_pile : Nat → Int32} {v_aside : Int32} {v_judgedBy : Int32} {v_judgedYear : Int32} {a_leastCost : Nat → Int32} {a_matched : Nat → Int32} {a_order : Nat → Int32} {a_lies : Nat → Int64} {a_movedThen : Nat → Int32} {a_yearTable : Nat → Int32} {a_yearMark : Nat → Int32} {a_beginTable : Nat → Int32} {a_beginMark : Nat → Int32} {v_statesTold : Int32} {v_found : Int32} {v_yearFrom : Int32} {v_mark : Int32} {v_beginsMark : Int32} {v_begins : Int32} {a_began : Nat → Int64} {v_isSpent : Int32} {a_wants : Nat → Int32} {a_rowSort : Nat → Int32} {a_rowMany : Nat → Int32} {a_numbers : Nat → Int64}  {p1 : Int64} {p3 : Int32} {ra_on : Nat → Int32} {ra_many : Nat → Int32} {rv_moved : Int32} {ak av fo : Nat} {E : EvT} (hE : EvM E ak av fo) (hF : FX8_looksAt a_on a_many p1 p3 = some (ra_on, ra_many, rv_moved)) : MM l yX8_looksAt (ws_ yX8_looksAt cX8_looksAt 5 (Option.none : Option Jvm.ClassFile.FieldType)) rm_X8_looksAt D vwA (mT cA) E [.ref (ad 0), .long p1, .int p3] (mW ad cA a_all a_hasImage a_tape a_fresh v_taped v_at v_behind v_size v_kind v_number v_wrong v_wrongAt v_depth v_steps v_faultKind v_faultPlace a_on a_many v_moved a_pile v_aside v_judgedBy v_judgedYear a_leastCost a_matched a_order a_lies a_movedThen a_yearTable a_yearMark a_beginTable a_beginMark v_statesTold v_found v_yearFrom v_mark v_beginsMark v_begins a_began v_isSpent a_wants a_rowSort a_rowMany a_numbers) (mW ad cA a_all a_hasImage a_tape a_fresh v_taped v_at v_behind v_size v_kind v_number v_wrong v_wrongAt v_depth v_steps v_faultKind v_faultPlace ra_on ra_many rv_moved a_pile v_aside v_judgedBy v_judgedYear a_leastCost a_matched a_order a_lies a_movedThen a_yearTable a_yearMark a_beginTable a_beginMark v_statesTold v_found v_yearFrom v_mark v_beginsMark v_begins a_began v_isSpent a_wants a_rowSort a_rowMany a_numbers) none := by
  refine MM.ofV (by decide) (Nat.le_of_ble_eq_true rfl) ?_
  intro p e s m args below meth c Q A hX hK hE0 hret H locs ls hH hl
  have hX : CallFix p m c cX8_looksAt 5 s args lw_all RX8 := hX
  have hx := hX.1
  have hb := hX.2.1
  have hown := hX.2.2.2.1
  have hts := hX.2.2.2.2
  have hl : lv_has ls 5 [(0, .ref (ad 0)), (1, .long p1), (3, .int p3)] := hl
  have hEv := hE.1
  delta FX8_looksAt at hF
  refine lv_iconst (v := 0) hx hb dX8_looksAt_0 syi_0 ?_
  refine lv_istore (lv' := [(4, .int 0), (0, .ref (ad 0)), (1, .long p1), (3, .int p3)]) hx hb dX8_looksAt_1 hl (by decide) rfl (fun ls hl => ?_)
  obtain ⟨xx3, ee3, kk3_0⟩ := bd1L hF
  have k3_0 : ∀ (a_on_53 : Nat → Int32), xx3 = a_on_53 → ∀ (H : Heap) (locs : List Loc) (ls : Array Slot), MH D vwA A s.heap (mW ad cA a_all a_hasImage a_tape a_fresh v_taped v_at v_behind v_size v_kind v_number v_wrong v_wrongAt v_depth v_steps v_faultKind v_faultPlace a_on_53 a_many v_moved a_pile v_aside v_judgedBy v_judgedYear a_leastCost a_matched a_order a_lies a_movedThen a_yearTable a_yearMark a_beginTable a_beginMark v_statesTold v_found v_yearFrom v_mark v_beginsMark v_begins a_began v_isSpent a_wants a_rowSort a_rowMany a_numbers) H locs → lv_has ls 5 [(0, .ref (ad 0)), (3, .int p3)] → W p l e rm_X8_looksAt s m args below meth c H locs 0 0 Q (F0 m 34 ls []) := by
    intro a_on_53 hxx H locs ls hH hl
    have hF := un1e (kk3_0 a_on_53 hxx)
    refine lv_aload_n hx hb dX8_looksAt_34 rfl (lv_at hl 0 rfl) ?_
    refine lv_iload_n hx hb dX8_looksAt_35 rfl (lv_at hl 1 rfl) ?_
    refine mp_moved hX hK hH dX8_looksAt_36 (fun H locs hH => ?_)
    refine lv_aload_n hx hb dX8_looksAt_39 rfl (lv_at hl 0 rfl) ?_
    obtain ⟨a_many_54, he, hF⟩ := bd1e hF
    refine mcV hX hK hEv hE0 hH (met_X8_counts hE he) (mrecv hK hH) gw_StoneYearModel_214 hd_yX8_counts ⟨Nat.le_of_ble_eq_true rfl, Nat.le_of_ble_eq_true rfl⟩ rfl rfl hl (Nat.le_of_ble_eq_true rfl) dX8_looksAt_40 ⟨Nat.le_of_ble_eq_true rfl, Nat.le_of_ble_eq_true rfl⟩ (fun H locs hH => ?_)
    obtain ⟨rfl, rfl, rfl⟩ := re3 hF
    exact hret _ _ _ _ hH dX8_looksAt_43
  obtain ⟨nn3, en3⟩ := loopC_some ee3
  have l3 : ∀ (n : Nat) (x_49 : Int32) (a_on_50 : Nat → Int32), loopN (fun s => FX8_looksAt_b3 p1 s.1 s.2) n (x_49, a_on_50) = some xx3 → ∀ (H : Heap) (locs : List Loc) (ls : Array Slot), MH D vwA A s.heap (mW ad cA a_all a_hasImage a_tape a_fresh v_taped v_at v_behind v_size v_kind v_number v_wrong v_wrongAt v_depth v_steps v_faultKind v_faultPlace a_on_50 a_many v_moved a_pile v_aside v_judgedBy v_judgedYear a_leastCost a_matched a_order a_lies a_movedThen a_yearTable a_yearMark a_beginTable a_beginMark v_statesTold v_found v_yearFrom v_mark v_beginsMark v_begins a_began v_isSpent a_wants a_rowSort a_rowMany a_numbers) H locs → lv_has ls 5 [(0, .ref (ad 0)), (1, .long p1), (3, .int p3), (4, .int x_49)] → W p l e rm_X8_looksAt s m args below meth c H locs 0 0 Q (F0 m 3 ls []) := by
    intro n
    induction n with
    | zero =>
      intro x_49 a_on_50 hN
      exact absurd hN loopN_zero
    | succ n ih =>
      intro x_49 a_on_50 hN H locs ls hH hl
      obtain ⟨yy3, hB3, hY3⟩ := loopN_succ hN
      have hF : FX8_looksAt_b3 p1 x_49 a_on_50 = some yy3 := hB3
      delta FX8_looksAt_b3 at hF
      refine lv_iload hx hb dX8_looksAt_3 (lv_at hl 3 rfl) ?_
      refine lv_bipush (v := 15) hx hb dX8_looksAt_5 syb_15 ?_
      refine lv_icmp_ge (tgt := 34) hx hb dX8_looksAt_7 rfl (fun c_51 => ?_) (fun c_51 => ?_)
      · have hF := itp c_51 hF
        obtain rfl := Option.some.inj hF
        exact k3_0 a_on_50 hY3 _ _ _ hH (lv_sub hl [0, 2] rfl)
      · have hF := itn c_51 hF
        refine lv_aload_n hx hb dX8_looksAt_10 rfl (lv_at hl 0 rfl) ?_
        refine mg_on hX hK hH dX8_looksAt_11 ?_
        refine lv_iload hx hb dX8_looksAt_14 (lv_at hl 3 rfl) ?_
        refine lv_lload_n hx hb dX8_looksAt_16 rfl (lv_at hl 1 rfl) ?_
        refine lv_iconst (v := 4) hx hb dX8_looksAt_17 syi_4 ?_
        refine lv_iload hx hb dX8_looksAt_18 (lv_at hl 3 rfl) ?_
        refine lv_imul hx hb dX8_looksAt_20 ?_
        refine lv_lshr hx hb dX8_looksAt_21 rfl ?_
        refine lv_ldc2 (v := 15) hx hb hown (hts _ q2080) dX8_looksAt_22 ?_
        refine lv_land hx hb dX8_looksAt_25 ?_
        refine lv_l2i (v := (Int64.toInt32 ((shrL p1 (4 * x_49)) &&& 15))) hx hb dX8_looksAt_26 rfl ?_
        obtain ⟨a_on_52, he, hF⟩ := bd1e hF
        refine ms_on hX hK hH he dX8_looksAt_27 (fun H locs hH => ?_)
        refine lv_iinc (v := (x_49 + 1)) (lv' := [(4, .int (x_49 + 1)), (0, .ref (ad 0)), (1, .long p1), (3, .int p3)]) hx hb dX8_looksAt_28 hl (k := 3) rfl (syc syi_1) (by decide) rfl (fun ls hl => ?_)
        refine lv_goto (tgt := 3) hx hb dX8_looksAt_31 rfl ?_
        obtain rfl := Option.some.inj hF
        exact ih (x_49 + 1) a_on_52 hY3 _ _ _ hH (lv_sub hl [1, 2, 3, 0] rfl)
  exact l3 nn3 0 a_on en3 _ _ _ hH (lv_sub hl [1, 2, 3, 0] rfl)
abbrev rm_X8_packed : Room := { frames := 0, cells := 0, slots := 0, locals := 0 }
set_option maxHeartbeats 4000000 in
theorem met_X8_packed {l : Launch} {D : va_G} {ad : Nat → Nat} {cA : Nat → ClassId} {a_all : Nat → Int32} {a_hasImage : Nat → Int32} {a_tape : Nat → Int32} {a_fresh : Nat → Int32} {v_taped : Int32} {v_at : Int32} {v_behind : Int32} {v_size : Int32} {v_kind : Int32} {v_number : Int32} {v_wrong : Int32} {v_wrongAt : Int32} {v_depth : Int32} {v_steps : Int32} {v_faultKind : Int32} {v_faultPlace : Int32} {a_on : Nat → Int32} {a_many : Nat → Int32} {v_moved : Int32} {a_pile : Nat → Int32} {v_aside : Int32} {v_judgedBy : Int32} {v_judgedYear : Int32} {a_leastCost : Nat → Int32} {a_matched : Nat → Int32} {a_order : Nat → Int32} {a_lies : Nat → Int64} {a_movedThen : Nat → Int32} {a_yearTable : Nat → Int32} {a_yearMark : Nat → Int32} {a_beginTable : Nat → Int32} {a_beginMark : Nat → Int32} {v_statesTold : Int32} {v_found : Int32} {v_yearFrom : Int32} {v_mark : Int32} {v_beginsMark : Int32} {v_begins : Int32} {a_began : Nat → Int64} {v_isSpent : Int32} {a_wants : Nat → Int32} {a_rowSort : Nat → Int32} {a_rowMany : Nat → Int32} {a_numbers : Nat → Int64}   {res : Int64} {ak av fo : Nat} {E : EvT} (hE : EvM E ak av fo) (hF : FX8_packed a_on = some res) : MM l yX8_packed (ws_ yX8_packed cX8_packed 4 (Option.some Jvm.ClassFile.FieldType.long)) rm_X8_packed D vwA (mT cA) E [.ref (ad 5)] (mW ad cA a_all a_hasImage a_tape a_fresh v_taped v_at v_behind v_size v_kind v_number v_wrong v_wrongAt v_depth v_steps v_faultKind v_faultPlace a_on a_many v_moved a_pile v_aside v_judgedBy v_judgedYear a_leastCost a_matched a_order a_lies a_movedThen a_yearTable a_yearMark a_beginTable a_beginMark v_statesTold v_found v_yearFrom v_mark v_beginsMark v_begins a_began v_isSpent a_wants a_rowSort a_rowMany a_numbers) (mW ad cA a_all a_hasImage a_tape a_fresh v_taped v_at v_behind v_size v_kind v_number v_wrong v_wrongAt v_depth v_steps v_faultKind v_faultPlace a_on a_many v_moved a_pile v_aside v_judgedBy v_judgedYear a_leastCost a_matched a_order a_lies a_movedThen a_yearTable a_yearMark a_beginTable a_beginMark v_statesTold v_found v_yearFrom v_mark v_beginsMark v_begins a_began v_isSpent a_wants a_rowSort a_rowMany a_numbers) (some (.long res)) := by
  refine MM.ofL (by decide) (Nat.le_of_ble_eq_true rfl) ?_
  intro p e s m args below meth c Q A hX hK hE0 hret H locs ls hH hl
  have hX : CallFix p m c cX8_packed 4 s args lw_all RX8 := hX
  have hx := hX.1
  have hb := hX.2.1
  have hown := hX.2.2.2.1
  have hts := hX.2.2.2.2
  have hl : lv_has ls 4 [(0, .ref (ad 5))] := hl
  have hEv := hE.1
  delta FX8_packed at hF
  refine lv_lconst (v := 0) hx hb dX8_packed_0 rfl ?_
  refine lv_lstore_n (lv' := [(1, .long 0), (0, .ref (ad 5))]) hx hb dX8_packed_1 rfl hl (by decide) rfl (fun ls hl => ?_)
  refine lv_bipush (v := 14) hx hb dX8_packed_2 syb_14 ?_
  refine lv_istore_n (lv' := [(3, .int 14), (1, .long 0), (0, .ref (ad 5))]) hx hb dX8_packed_4 rfl hl (by decide) rfl (fun ls hl => ?_)
  obtain ⟨xx5, ee5, kk5_0⟩ := bd1L hF
  have k5_0 : ∀ (y_51 : Int64), xx5 = y_51 → ∀ (H : Heap) (locs : List Loc) (ls : Array Slot), MH D vwA A s.heap (mW ad cA a_all a_hasImage a_tape a_fresh v_taped v_at v_behind v_size v_kind v_number v_wrong v_wrongAt v_depth v_steps v_faultKind v_faultPlace a_on a_many v_moved a_pile v_aside v_judgedBy v_judgedYear a_leastCost a_matched a_order a_lies a_movedThen a_yearTable a_yearMark a_beginTable a_beginMark v_statesTold v_found v_yearFrom v_mark v_beginsMark v_begins a_began v_isSpent a_wants a_rowSort a_rowMany a_numbers) H locs → lv_has ls 4 [(1, .long y_51)] → W p l e rm_X8_packed s m args below meth c H locs 0 0 Q (F0 m 24 ls []) := by
    intro y_51 hxx H locs ls hH hl
    have hF := un1e (kk5_0 y_51 hxx)
    refine lv_lload_n hx hb dX8_packed_24 rfl (lv_at hl 0 rfl) ?_
    obtain rfl := Option.some.inj hF
    exact hret _ _ _ _ hH dX8_packed_25
  obtain ⟨nn5, en5⟩ := loopC_some ee5
  have l5 : ∀ (n : Nat) (y_47 : Int64) (x_48 : Int32), loopN (fun s => FX8_packed_b5 a_on s.1 s.2) n (y_47, x_48) = some xx5 → ∀ (H : Heap) (locs : List Loc) (ls : Array Slot), MH D vwA A s.heap (mW ad cA a_all a_hasImage a_tape a_fresh v_taped v_at v_behind v_size v_kind v_number v_wrong v_wrongAt v_depth v_steps v_faultKind v_faultPlace a_on a_many v_moved a_pile v_aside v_judgedBy v_judgedYear a_leastCost a_matched a_order a_lies a_movedThen a_yearTable a_yearMark a_beginTable a_beginMark v_statesTold v_found v_yearFrom v_mark v_beginsMark v_begins a_began v_isSpent a_wants a_rowSort a_rowMany a_numbers) H locs → lv_has ls 4 [(0, .ref (ad 5)), (1, .long y_47), (3, .int x_48)] → W p l e rm_X8_packed s m args below meth c H locs 0 0 Q (F0 m 5 ls []) := by
    intro n
    induction n with
    | zero =>
      intro y_47 x_48 hN
      exact absurd hN loopN_zero
    | succ n ih =>
      intro y_47 x_48 hN H locs ls hH hl
      obtain ⟨yy5, hB5, hY5⟩ := loopN_succ hN
      have hF : FX8_packed_b5 a_on y_47 x_48 = some yy5 := hB5
      delta FX8_packed_b5 at hF
      refine lv_iload_n hx hb dX8_packed_5 rfl (lv_at hl 2 rfl) ?_
      refine lv_if_lt (tgt := 24) hx hb dX8_packed_6 rfl (fun c_49 => ?_) (fun c_49 => ?_)
      · have hF := itp c_49 hF
        obtain rfl := Option.some.inj hF
        exact k5_0 y_47 hY5 _ _ _ hH (lv_sub hl [1] rfl)
      · have hF := itn c_49 hF
        refine lv_lload_n hx hb dX8_packed_9 rfl (lv_at hl 1 rfl) ?_
        refine lv_iconst (v := 4) hx hb dX8_packed_10 syi_4 ?_
        refine lv_lshl hx hb dX8_packed_11 rfl ?_
        refine lv_aload_n hx hb dX8_packed_12 rfl (lv_at hl 0 rfl) ?_
        refine lv_iload_n hx hb dX8_packed_13 rfl (lv_at hl 2 rfl) ?_
        obtain ⟨x_50, he, hF⟩ := bd1e hF
        refine ml_on hX hK hH he dX8_packed_14 ?_
        refine lv_i2l (v := (Int32.toInt64 x_50)) hx hb dX8_packed_15 rfl ?_
        refine lv_lor hx hb dX8_packed_16 ?_
        refine lv_lstore_n (lv' := [(1, .long ((shlL y_47 4) ||| (Int32.toInt64 x_50))), (0, .ref (ad 5)), (3, .int x_48)]) hx hb dX8_packed_17 rfl hl (by decide) rfl (fun ls hl => ?_)
        refine lv_iinc (v := (x_48 + (-1))) (lv' := [(3, .int (x_48 + (-1))), (1, .long ((shlL y_47 4) ||| (Int32.toInt64 x_50))), (0, .ref (ad 5))]) hx hb dX8_packed_18 hl (k := 2) rfl (syc syi_m1) (by decide) rfl (fun ls hl => ?_)
        refine lv_goto (tgt := 5) hx hb dX8_packed_21 rfl ?_
        obtain rfl := Option.some.inj hF
        exact ih ((shlL y_47 4) ||| (Int32.toInt64 x_50)) (x_48 + (-1)) hY5 _ _ _ hH (lv_sub hl [2, 1, 0] rfl)
  exact l5 nn5 0 14 en5 _ _ _ hH (lv_sub hl [2, 1, 0] rfl)
abbrev rm_X8_orders (d : Nat) : Room := { frames := 3 + 1 * d, cells := 0, slots := 0, locals := 80 + 28 * d }
abbrev rm_X8_orders_b (d : Nat) : Room := rm_X8_orders (d + 1)
set_option maxHeartbeats 4000000 in
theorem met_X8_orders_b {l : Launch} {D : va_G} {ad : Nat → Nat} {cA : Nat → ClassId} {a_all : Nat → Int32} {a_hasImage : Nat → Int32} {a_tape : Nat → Int32} {a_fresh : Nat → Int32} {v_taped : Int32} {v_at : Int32} {v_behind : Int32} {v_size : Int32} {v_kind : Int32} {v_number : Int32} {v_wrong : Int32} {v_wrongAt : Int32} {v_depth : Int32} {v_steps : Int32} {v_faultKind : Int32} {v_faultPlace : Int32} {a_on : Nat → Int32} {a_many : Nat → Int32} {v_moved : Int32} {a_pile : Nat → Int32} {v_aside : Int32} {v_judgedBy : Int32} {v_judgedYear : Int32} {a_leastCost : Nat → Int32} {a_matched : Nat → Int32} {a_order : Nat → Int32} {a_lies : Nat → Int64} {a_movedThen : Nat → Int32} {a_yearTable : Nat → Int32} {a_yearMark : Nat → Int32} {a_beginTable : Nat → Int32} {a_beginMark : Nat → Int32} {v_statesTold : Int32} {v_found : Int32} {v_yearFrom : Int32} {v_mark : Int32} {v_beginsMark : Int32} {v_begins : Int32} {a_began : Nat → Int64} {v_isSpent : Int32} {a_wants : Nat → Int32} {a_rowSort : Nat → Int32} {a_rowMany : Nat → Int32} {a_numbers : Nat → Int64}  {p1 : Int32} {p2 : Int32} {res : Bool} {ra_on : Nat → Int32} {ra_many : Nat → Int32} {rv_moved : Int32} {ra_pile : Nat → Int32} {ra_order : Nat → Int32} {ak av fo : Nat} {E : EvT} (hE : EvM E ak av fo)  (d : Nat) {rf : (Nat → Int32) → (Nat → Int32) → (Nat → Int32) → Int32 → (Nat → Int32) → Int32 → (Nat → Int32) → (Nat → Int32) → Int32 → Int32 → Option (Bool × (Nat → Int32) × (Nat → Int32) × Int32 × (Nat → Int32) × (Nat → Int32))} (hrf : ∀ {ad : Nat → Nat} {cA : Nat → ClassId} {a_all : Nat → Int32} {a_hasImage : Nat → Int32} {a_tape : Nat → Int32} {a_fresh : Nat → Int32} {v_taped : Int32} {v_at : Int32} {v_behind : Int32} {v_size : Int32} {v_kind : Int32} {v_number : Int32} {v_wrong : Int32} {v_wrongAt : Int32} {v_depth : Int32} {v_steps : Int32} {v_faultKind : Int32} {v_faultPlace : Int32} {a_on : Nat → Int32} {a_many : Nat → Int32} {v_moved : Int32} {a_pile : Nat → Int32} {v_aside : Int32} {v_judgedBy : Int32} {v_judgedYear : Int32} {a_leastCost : Nat → Int32} {a_matched : Nat → Int32} {a_order : Nat → Int32} {a_lies : Nat → Int64} {a_movedThen : Nat → Int32} {a_yearTable : Nat → Int32} {a_yearMark : Nat → Int32} {a_beginTable : Nat → Int32} {a_beginMark : Nat → Int32} {v_statesTold : Int32} {v_found : Int32} {v_yearFrom : Int32} {v_mark : Int32} {v_beginsMark : Int32} {v_begins : Int32} {a_began : Nat → Int64} {v_isSpent : Int32} {a_wants : Nat → Int32} {a_rowSort : Nat → Int32} {a_rowMany : Nat → Int32} {a_numbers : Nat → Int64} {p1 : Int32} {p2 : Int32} {res : Bool} {ra_on : Nat → Int32} {ra_many : Nat → Int32} {rv_moved : Int32} {ra_pile : Nat → Int32} {ra_order : Nat → Int32} , rf a_all a_on a_many v_moved a_pile v_aside a_matched a_order p1 p2 = some (res, ra_on, ra_many, rv_moved, ra_pile, ra_order) → MM l yX8_orders (ws_ yX8_orders cX8_orders 9 (Option.some Jvm.ClassFile.FieldType.boolean)) (rm_X8_orders d) D vwA (mT cA) E [.ref (ad 0), .int p1, .int p2] (mW ad cA a_all a_hasImage a_tape a_fresh v_taped v_at v_behind v_size v_kind v_number v_wrong v_wrongAt v_depth v_steps v_faultKind v_faultPlace a_on a_many v_moved a_pile v_aside v_judgedBy v_judgedYear a_leastCost a_matched a_order a_lies a_movedThen a_yearTable a_yearMark a_beginTable a_beginMark v_statesTold v_found v_yearFrom v_mark v_beginsMark v_begins a_began v_isSpent a_wants a_rowSort a_rowMany a_numbers) (mW ad cA a_all a_hasImage a_tape a_fresh v_taped v_at v_behind v_size v_kind v_number v_wrong v_wrongAt v_depth v_steps v_faultKind v_faultPlace ra_on ra_many rv_moved ra_pile v_aside v_judgedBy v_judgedYear a_leastCost a_matched ra_order a_lies a_movedThen a_yearTable a_yearMark a_beginTable a_beginMark v_statesTold v_found v_yearFrom v_mark v_beginsMark v_begins a_began v_isSpent a_wants a_rowSort a_rowMany a_numbers) (some (.int (b2i res)))) (hF : FX8_orders_b rf a_all a_on a_many v_moved a_pile v_aside a_matched a_order p1 p2 = some (res, ra_on, ra_many, rv_moved, ra_pile, ra_order)) : MM l yX8_orders (ws_ yX8_orders cX8_orders 9 (Option.some Jvm.ClassFile.FieldType.boolean)) (rm_X8_orders (d + 1)) D vwA (mT cA) E [.ref (ad 0), .int p1, .int p2] (mW ad cA a_all a_hasImage a_tape a_fresh v_taped v_at v_behind v_size v_kind v_number v_wrong v_wrongAt v_depth v_steps v_faultKind v_faultPlace a_on a_many v_moved a_pile v_aside v_judgedBy v_judgedYear a_leastCost a_matched a_order a_lies a_movedThen a_yearTable a_yearMark a_beginTable a_beginMark v_statesTold v_found v_yearFrom v_mark v_beginsMark v_begins a_began v_isSpent a_wants a_rowSort a_rowMany a_numbers) (mW ad cA a_all a_hasImage a_tape a_fresh v_taped v_at v_behind v_size v_kind v_number v_wrong v_wrongAt v_depth v_steps v_faultKind v_faultPlace ra_on ra_many rv_moved ra_pile v_aside v_judgedBy v_judgedYear a_leastCost a_matched ra_order a_lies a_movedThen a_yearTable a_yearMark a_beginTable a_beginMark v_statesTold v_found v_yearFrom v_mark v_beginsMark v_begins a_began v_isSpent a_wants a_rowSort a_rowMany a_numbers) (some (.int (b2i res))) := by
  refine MM.ofZ (by decide) (Nat.le_of_ble_eq_true rfl) ?_
  intro p e s m args below meth c Q A hX hK hE0 hret H locs ls hH hl
  have hX : CallFix p m c cX8_orders 9 s args lw_all RX8 := hX
  have hx := hX.1
  have hb := hX.2.1
  have hown := hX.2.2.2.1
  have hts := hX.2.2.2.2
  have hl : lv_has ls 9 [(0, .ref (ad 0)), (1, .int p1), (2, .int p2)] := hl
  have hEv := hE.1
  delta FX8_orders_b at hF
  refine lv_iload_n hx hb dX8_orders_0 rfl (lv_at hl 1 rfl) ?_
  refine lv_iload_n hx hb dX8_orders_1 rfl (lv_at hl 2 rfl) ?_
  refine lv_icmp_ne (tgt := 7) hx hb dX8_orders_2 rfl (fun c_47 => ?_) (fun c_47 => ?_)
  · have hF := itn c_47 hF
    refine lv_aload_n hx hb dX8_orders_7 rfl (lv_at hl 0 rfl) ?_
    refine mg_on hX hK hH dX8_orders_8 ?_
    obtain ⟨y_48, he, hF⟩ := bd1e hF
    refine mcS hX hK hEv hE0 hH (met_X8_packed hE he) gw_StoneYearModel_346 hd_yX8_packed ⟨by dsimp only [rm_X8_packed, rm_X8_orders_b]; omega, by dsimp only [rm_X8_packed, rm_X8_orders_b]; omega⟩ rfl rfl hl (Nat.le_of_ble_eq_true rfl) dX8_orders_11 ⟨Nat.le_of_ble_eq_true rfl, Nat.le_of_ble_eq_true rfl⟩ (fun H locs hH => ?_)
    refine lv_lstore_n (lv' := [(3, .long y_48), (0, .ref (ad 0)), (1, .int p1), (2, .int p2)]) hx hb dX8_orders_14 rfl hl (by decide) rfl (fun ls hl => ?_)
    refine lv_aload_n hx hb dX8_orders_15 rfl (lv_at hl 1 rfl) ?_
    refine mg_moved hX hK hH dX8_orders_16 ?_
    refine lv_istore (lv' := [(5, .int v_moved), (3, .long y_48), (0, .ref (ad 0)), (1, .int p1), (2, .int p2)]) hx hb dX8_orders_19 hl (by decide) rfl (fun ls hl => ?_)
    refine lv_iconst (v := 0) hx hb dX8_orders_21 syi_0 ?_
    refine lv_istore (lv' := [(6, .int 0), (5, .int v_moved), (3, .long y_48), (0, .ref (ad 0)), (1, .int p1), (2, .int p2)]) hx hb dX8_orders_22 hl (by decide) rfl (fun ls hl => ?_)
    obtain ⟨xx24, ee24, kk24_0, kk24_1⟩ := bdS2e hF
    have k24_0 : ∀ (a_on_131 : Nat → Int32) (a_many_132 : Nat → Int32) (v_moved_133 : Int32) (a_pile_134 : Nat → Int32) (a_order_135 : Nat → Int32), xx24 = (.inl (a_on_131, a_many_132, v_moved_133, a_pile_134, a_order_135)) → ∀ (H : Heap) (locs : List Loc) (ls : Array Slot), MH D vwA A s.heap (mW ad cA a_all a_hasImage a_tape a_fresh v_taped v_at v_behind v_size v_kind v_number v_wrong v_wrongAt v_depth v_steps v_faultKind v_faultPlace a_on_131 a_many_132 v_moved_133 a_pile_134 v_aside v_judgedBy v_judgedYear a_leastCost a_matched a_order_135 a_lies a_movedThen a_yearTable a_yearMark a_beginTable a_beginMark v_statesTold v_found v_yearFrom v_mark v_beginsMark v_begins a_began v_isSpent a_wants a_rowSort a_rowMany a_numbers) H locs → lv_has ls 9 [] → W p l e (rm_X8_orders (d + 1)) s m args below meth c H locs 0 0 Q (F0 m 162 ls []) := by
      intro a_on_131 a_many_132 v_moved_133 a_pile_134 a_order_135 hxx H locs ls hH hl
      have hF := un5e (kk24_0 (a_on_131, a_many_132, v_moved_133, a_pile_134, a_order_135) hxx)
      refine lv_iconst (v := 1) hx hb dX8_orders_162 syi_1 ?_
      obtain ⟨rfl, rfl, rfl, rfl, rfl, rfl⟩ := re6 hF
      exact hret _ _ _ _ hH dX8_orders_163
    have k24_1 : ∀ (a_on_136 : Nat → Int32) (a_many_137 : Nat → Int32) (v_moved_138 : Int32) (a_pile_139 : Nat → Int32) (a_order_140 : Nat → Int32), xx24 = (.inr (a_on_136, a_many_137, v_moved_138, a_pile_139, a_order_140)) → ∀ (H : Heap) (locs : List Loc) (ls : Array Slot), MH D vwA A s.heap (mW ad cA a_all a_hasImage a_tape a_fresh v_taped v_at v_behind v_size v_kind v_number v_wrong v_wrongAt v_depth v_steps v_faultKind v_faultPlace a_on_136 a_many_137 v_moved_138 a_pile_139 v_aside v_judgedBy v_judgedYear a_leastCost a_matched a_order_140 a_lies a_movedThen a_yearTable a_yearMark a_beginTable a_beginMark v_statesTold v_found v_yearFrom v_mark v_beginsMark v_begins a_began v_isSpent a_wants a_rowSort a_rowMany a_numbers) H locs → lv_has ls 9 [] → W p l e (rm_X8_orders (d + 1)) s m args below meth c H locs 0 0 Q (F0 m 177 ls []) := by
      intro a_on_136 a_many_137 v_moved_138 a_pile_139 a_order_140 hxx H locs ls hH hl
      have hF := un5e (kk24_1 (a_on_136, a_many_137, v_moved_138, a_pile_139, a_order_140) hxx)
      refine lv_iconst (v := 0) hx hb dX8_orders_177 syi_0 ?_
      obtain ⟨rfl, rfl, rfl, rfl, rfl, rfl⟩ := re6 hF
      exact hret _ _ _ _ hH dX8_orders_178
    obtain ⟨nn24, en24⟩ := loopC_some ee24
    have l24 : ∀ (n : Nat) (x_87 : Int32) (a_on_88 : Nat → Int32) (a_many_89 : Nat → Int32) (v_moved_90 : Int32) (a_pile_91 : Nat → Int32) (a_order_92 : Nat → Int32), loopN (fun s => FX8_orders_b_b24 rf a_all v_moved v_aside a_matched p1 p2 y_48 s.1 s.2.1 s.2.2.1 s.2.2.2.1 s.2.2.2.2.1 s.2.2.2.2.2) n (x_87, a_on_88, a_many_89, v_moved_90, a_pile_91, a_order_92) = some xx24 → ∀ (H : Heap) (locs : List Loc) (ls : Array Slot), MH D vwA A s.heap (mW ad cA a_all a_hasImage a_tape a_fresh v_taped v_at v_behind v_size v_kind v_number v_wrong v_wrongAt v_depth v_steps v_faultKind v_faultPlace a_on_88 a_many_89 v_moved_90 a_pile_91 v_aside v_judgedBy v_judgedYear a_leastCost a_matched a_order_92 a_lies a_movedThen a_yearTable a_yearMark a_beginTable a_beginMark v_statesTold v_found v_yearFrom v_mark v_beginsMark v_begins a_began v_isSpent a_wants a_rowSort a_rowMany a_numbers) H locs → lv_has ls 9 [(0, .ref (ad 0)), (1, .int p1), (2, .int p2), (3, .long y_48), (5, .int v_moved), (6, .int x_87)] → W p l e (rm_X8_orders (d + 1)) s m args below meth c H locs 0 0 Q (F0 m 24 ls []) := by
      intro n
      induction n with
      | zero =>
        intro x_87 a_on_88 a_many_89 v_moved_90 a_pile_91 a_order_92 hN
        exact absurd hN loopN_zero
      | succ n ih =>
        intro x_87 a_on_88 a_many_89 v_moved_90 a_pile_91 a_order_92 hN H locs ls hH hl
        obtain ⟨yy24, hB24, hY24⟩ := loopN_succ hN
        have hF : FX8_orders_b_b24 rf a_all v_moved v_aside a_matched p1 p2 y_48 x_87 a_on_88 a_many_89 v_moved_90 a_pile_91 a_order_92 = some yy24 := hB24
        delta FX8_orders_b_b24 at hF
        refine lv_iload hx hb dX8_orders_24 (lv_at hl 5 rfl) ?_
        refine lv_aload_n hx hb dX8_orders_26 rfl (lv_at hl 0 rfl) ?_
        refine mg_all hX hK hH dX8_orders_27 ?_
        refine lv_bipush (v := 6) hx hb dX8_orders_30 syb_6 ?_
        obtain ⟨x_93, he, hF⟩ := bd1e hF
        refine ml_all hX hK hH he dX8_orders_32 ?_
        refine lv_icmp_ge (tgt := 177) hx hb dX8_orders_33 rfl (fun c_94 => ?_) (fun c_94 => ?_)
        · have hF := itp c_94 hF
          obtain rfl := Option.some.inj hF
          exact k24_1 a_on_88 a_many_89 v_moved_90 a_pile_91 a_order_92 hY24 _ _ _ hH (lv_sub hl [] rfl)
        · have hF := itn c_94 hF
          refine lv_aload_n hx hb dX8_orders_36 rfl (lv_at hl 0 rfl) ?_
          refine lv_iload hx hb dX8_orders_37 (lv_at hl 5 rfl) ?_
          obtain ⟨b_95, he, hF⟩ := bd1e hF
          refine mcV hX hK hEv hE0 hH (met_X8_isAway hE he) (mrecv hK hH) gw_StoneYearModel_343 hd_yX8_isAway ⟨by dsimp only [rm_X8_isAway, rm_X8_orders_b]; omega, by dsimp only [rm_X8_isAway, rm_X8_orders_b]; omega⟩ rfl rfl hl (Nat.le_of_ble_eq_true rfl) dX8_orders_39 ⟨Nat.le_of_ble_eq_true rfl, Nat.le_of_ble_eq_true rfl⟩ (fun H locs hH => ?_)
          have j171 : ∀ (a_on_126 : Nat → Int32) (a_many_127 : Nat → Int32) (v_moved_128 : Int32) (a_pile_129 : Nat → Int32) (a_order_130 : Nat → Int32), FX8_orders_b_j171 rf x_87 a_on_126 a_many_127 v_moved_128 a_pile_129 a_order_130 = some yy24 → ∀ (H : Heap) (locs : List Loc) (ls : Array Slot), MH D vwA A s.heap (mW ad cA a_all a_hasImage a_tape a_fresh v_taped v_at v_behind v_size v_kind v_number v_wrong v_wrongAt v_depth v_steps v_faultKind v_faultPlace a_on_126 a_many_127 v_moved_128 a_pile_129 v_aside v_judgedBy v_judgedYear a_leastCost a_matched a_order_130 a_lies a_movedThen a_yearTable a_yearMark a_beginTable a_beginMark v_statesTold v_found v_yearFrom v_mark v_beginsMark v_begins a_began v_isSpent a_wants a_rowSort a_rowMany a_numbers) H locs → lv_has ls 9 [(0, .ref (ad 0)), (1, .int p1), (2, .int p2), (3, .long y_48), (5, .int v_moved), (6, .int x_87)] → W p l e (rm_X8_orders (d + 1)) s m args below meth c H locs 0 0 Q (F0 m 171 ls []) := by
            intro a_on_126 a_many_127 v_moved_128 a_pile_129 a_order_130 hF H locs ls hH hl
            delta FX8_orders_b_j171 at hF
            refine lv_iinc (v := (x_87 + 1)) (lv' := [(6, .int (x_87 + 1)), (0, .ref (ad 0)), (1, .int p1), (2, .int p2), (3, .long y_48), (5, .int v_moved)]) hx hb dX8_orders_171 hl (k := 5) rfl (syc syi_1) (by decide) rfl (fun ls hl => ?_)
            refine lv_goto (tgt := 24) hx hb dX8_orders_174 rfl ?_
            obtain rfl := Option.some.inj hF
            exact ih (x_87 + 1) a_on_126 a_many_127 v_moved_128 a_pile_129 a_order_130 hY24 _ _ _ hH (lv_sub hl [1, 2, 3, 4, 5, 0] rfl)
          refine lv_if_eq (tgt := 171) hx hb dX8_orders_42 rfl (fun c_96 => ?_) (fun c_96 => ?_)
          · have hF := itp c_96 hF
            exact j171 a_on_88 a_many_89 v_moved_90 a_pile_91 a_order_92 hF _ _ _ hH (lv_sub hl [0, 1, 2, 3, 4, 5] rfl)
          · have hF := itn c_96 hF
            refine lv_aload_n hx hb dX8_orders_45 rfl (lv_at hl 0 rfl) ?_
            refine lv_iload hx hb dX8_orders_46 (lv_at hl 5 rfl) ?_
            obtain ⟨b_97, he, hF⟩ := bd1e hF
            refine mcV hX hK hEv hE0 hH (met_X8_wasMoved hE he) (mrecv hK hH) gw_StoneYearModel_229 hd_yX8_wasMoved ⟨by dsimp only [rm_X8_wasMoved, rm_X8_orders_b]; omega, by dsimp only [rm_X8_wasMoved, rm_X8_orders_b]; omega⟩ rfl rfl hl (Nat.le_of_ble_eq_true rfl) dX8_orders_48 ⟨Nat.le_of_ble_eq_true rfl, Nat.le_of_ble_eq_true rfl⟩ (fun H locs hH => ?_)
            refine lv_if_eq (tgt := 57) hx hb dX8_orders_51 rfl (fun c_98 => ?_) (fun c_98 => ?_)
            · have hF := itp c_98 hF
              refine lv_aload_n hx hb dX8_orders_57 rfl (lv_at hl 0 rfl) ?_
              refine lv_iload hx hb dX8_orders_58 (lv_at hl 5 rfl) ?_
              obtain ⟨x_99, he, hF⟩ := bd1e hF
              refine mcV hX hK hEv hE0 hH (met_X8_placeOf hE he) (mrecv hK hH) gw_StoneYearModel_255 hd_yX8_placeOf ⟨by dsimp only [rm_X8_placeOf, rm_X8_orders_b]; omega, by dsimp only [rm_X8_placeOf, rm_X8_orders_b]; omega⟩ rfl rfl hl (Nat.le_of_ble_eq_true rfl) dX8_orders_60 ⟨Nat.le_of_ble_eq_true rfl, Nat.le_of_ble_eq_true rfl⟩ (fun H locs hH => ?_)
              refine lv_iconst (v := 3) hx hb dX8_orders_63 syi_3 ?_
              refine lv_idiv hx hb dX8_orders_64 (by decide) ?_
              refine lv_istore (lv' := [(7, .int (x_99 / 3)), (0, .ref (ad 0)), (1, .int p1), (2, .int p2), (3, .long y_48), (5, .int v_moved), (6, .int x_87)]) hx hb dX8_orders_65 hl (by decide) rfl (fun ls hl => ?_)
              refine lv_aload_n hx hb dX8_orders_67 rfl (lv_at hl 1 rfl) ?_
              refine mg_matched hX hK hH dX8_orders_68 ?_
              refine lv_iload hx hb dX8_orders_71 (lv_at hl 6 rfl) ?_
              obtain ⟨x_100, he, hF⟩ := bd1e hF
              refine ml_matched hX hK hH he dX8_orders_73 ?_
              refine lv_iconst (v := 3) hx hb dX8_orders_74 syi_3 ?_
              refine lv_idiv hx hb dX8_orders_75 (by decide) ?_
              refine lv_istore (lv' := [(8, .int (x_100 / 3)), (7, .int (x_99 / 3)), (0, .ref (ad 0)), (1, .int p1), (2, .int p2), (3, .long y_48), (5, .int v_moved), (6, .int x_87)]) hx hb dX8_orders_76 hl (by decide) rfl (fun ls hl => ?_)
              refine lv_aload_n hx hb dX8_orders_78 rfl (lv_at hl 2 rfl) ?_
              refine mg_many hX hK hH dX8_orders_79 ?_
              refine lv_iload hx hb dX8_orders_82 (lv_at hl 1 rfl) ?_
              obtain ⟨x_101, he, hF⟩ := bd1e hF
              refine ml_many hX hK hH he dX8_orders_84 ?_
              refine lv_if_eq (tgt := 171) hx hb dX8_orders_85 rfl (fun c_102 => ?_) (fun c_102 => ?_)
              · have hF := itp c_102 hF
                exact j171 a_on_88 a_many_89 v_moved_90 a_pile_91 a_order_92 hF _ _ _ hH (lv_sub hl [2, 3, 4, 5, 6, 7] rfl)
              · have hF := itn c_102 hF
                refine lv_aload_n hx hb dX8_orders_88 rfl (lv_at hl 2 rfl) ?_
                refine lv_iload hx hb dX8_orders_89 (lv_at hl 1 rfl) ?_
                obtain ⟨x_103, he, hF⟩ := bd1e hF
                refine mcV hX hK hEv hE0 hH (met_X8_topOf hE he) (mrecv hK hH) gw_StoneYearModel_226 hd_yX8_topOf ⟨by dsimp only [rm_X8_topOf, rm_X8_orders_b]; omega, by dsimp only [rm_X8_topOf, rm_X8_orders_b]; omega⟩ rfl rfl hl (Nat.le_of_ble_eq_true rfl) dX8_orders_91 ⟨Nat.le_of_ble_eq_true rfl, Nat.le_of_ble_eq_true rfl⟩ (fun H locs hH => ?_)
                refine lv_iload hx hb dX8_orders_94 (lv_at hl 7 rfl) ?_
                refine lv_icmp_ne (tgt := 171) hx hb dX8_orders_96 rfl (fun c_104 => ?_) (fun c_104 => ?_)
                · have hF := itn c_104 hF
                  exact j171 a_on_88 a_many_89 v_moved_90 a_pile_91 a_order_92 hF _ _ _ hH (lv_sub hl [2, 3, 4, 5, 6, 7] rfl)
                · have hF := itp c_104 hF
                  refine lv_aload_n hx hb dX8_orders_99 rfl (lv_at hl 2 rfl) ?_
                  refine lv_iload hx hb dX8_orders_100 (lv_at hl 1 rfl) ?_
                  refine lv_iload hx hb dX8_orders_102 (lv_at hl 0 rfl) ?_
                  obtain ⟨x_105, a_many_106, a_pile_107, he, hF⟩ := bd3e hF
                  refine mcV hX hK hEv hE0 hH (met_X8_mayCarry hE he) (mrecv hK hH) gw_StoneYearModel_266 hd_yX8_mayCarry ⟨by dsimp only [rm_X8_mayCarry, rm_X8_orders_b]; omega, by dsimp only [rm_X8_mayCarry, rm_X8_orders_b]; omega⟩ rfl rfl hl (Nat.le_of_ble_eq_true rfl) dX8_orders_104 ⟨Nat.le_of_ble_eq_true rfl, Nat.le_of_ble_eq_true rfl⟩ (fun H locs hH => ?_)
                  refine lv_if_ne (tgt := 171) hx hb dX8_orders_107 rfl (fun c_108 => ?_) (fun c_108 => ?_)
                  · have hF := itn c_108 hF
                    exact j171 a_on_88 a_many_106 v_moved_90 a_pile_107 a_order_92 hF _ _ _ hH (lv_sub hl [2, 3, 4, 5, 6, 7] rfl)
                  · have hF := itp c_108 hF
                    refine lv_iconst (v := 3) hx hb dX8_orders_110 syi_3 ?_
                    refine lv_iload hx hb dX8_orders_111 (lv_at hl 0 rfl) ?_
                    refine lv_imul hx hb dX8_orders_113 ?_
                    refine lv_aload_n hx hb dX8_orders_114 rfl (lv_at hl 2 rfl) ?_
                    refine mg_many hX hK hH dX8_orders_115 ?_
                    refine lv_iload hx hb dX8_orders_118 (lv_at hl 0 rfl) ?_
                    obtain ⟨x_109, he, hF⟩ := bd1e hF
                    refine ml_many hX hK hH he dX8_orders_120 ?_
                    refine lv_iadd hx hb dX8_orders_121 ?_
                    refine lv_aload_n hx hb dX8_orders_122 rfl (lv_at hl 2 rfl) ?_
                    refine mg_matched hX hK hH dX8_orders_123 ?_
                    refine lv_iload hx hb dX8_orders_126 (lv_at hl 7 rfl) ?_
                    obtain ⟨x_110, he, hF⟩ := bd1e hF
                    refine ml_matched hX hK hH he dX8_orders_128 ?_
                    refine lv_icmp_eq (tgt := 135) hx hb dX8_orders_129 rfl (fun c_111 => ?_) (fun c_111 => ?_)
                    · have hF := itp c_111 hF
                      refine lv_aload_n hx hb dX8_orders_135 rfl (lv_at hl 2 rfl) ?_
                      refine lv_iload hx hb dX8_orders_136 (lv_at hl 1 rfl) ?_
                      refine lv_iload hx hb dX8_orders_138 (lv_at hl 0 rfl) ?_
                      obtain ⟨a_on_112, a_many_113, v_moved_114, he, hF⟩ := bd3e hF
                      refine mcV hX hK hEv hE0 hH (met_X8_carries hE he) (mrecv hK hH) gw_StoneYearModel_272 hd_yX8_carries ⟨by dsimp only [rm_X8_carries, rm_X8_orders_b]; omega, by dsimp only [rm_X8_carries, rm_X8_orders_b]; omega⟩ rfl rfl hl (Nat.le_of_ble_eq_true rfl) dX8_orders_140 ⟨Nat.le_of_ble_eq_true rfl, Nat.le_of_ble_eq_true rfl⟩ (fun H locs hH => ?_)
                      refine lv_aload_n hx hb dX8_orders_143 rfl (lv_at hl 2 rfl) ?_
                      refine mg_order hX hK hH dX8_orders_144 ?_
                      refine lv_iload_n hx hb dX8_orders_147 rfl (lv_at hl 3 rfl) ?_
                      refine lv_iload hx hb dX8_orders_148 (lv_at hl 7 rfl) ?_
                      obtain ⟨a_order_115, he, hF⟩ := bd1e hF
                      refine ms_order hX hK hH he dX8_orders_150 (fun H locs hH => ?_)
                      refine lv_aload_n hx hb dX8_orders_151 rfl (lv_at hl 2 rfl) ?_
                      refine lv_iload_n hx hb dX8_orders_152 rfl (lv_at hl 3 rfl) ?_
                      refine lv_iconst (v := 1) hx hb dX8_orders_153 syi_1 ?_
                      refine lv_iadd hx hb dX8_orders_154 ?_
                      refine lv_iload_n hx hb dX8_orders_155 rfl (lv_at hl 4 rfl) ?_
                      obtain ⟨b_116, a_on_117, a_many_118, v_moved_119, a_pile_120, a_order_121, he, hF⟩ := bd6e hF
                      refine mcV hX hK hEv hE0 hH (hrf he) (mrecv hK hH) gw_StoneYearModel_350 hd_yX8_orders ⟨by dsimp only [rm_X8_orders_b, rm_X8_orders_b]; omega, by dsimp only [rm_X8_orders_b, rm_X8_orders_b]; omega⟩ rfl rfl hl (Nat.le_of_ble_eq_true rfl) dX8_orders_156 ⟨Nat.le_of_ble_eq_true rfl, Nat.le_of_ble_eq_true rfl⟩ (fun H locs hH => ?_)
                      refine lv_if_eq (tgt := 164) hx hb dX8_orders_159 rfl (fun c_122 => ?_) (fun c_122 => ?_)
                      · have hF := itp c_122 hF
                        refine lv_aload_n hx hb dX8_orders_164 rfl (lv_at hl 2 rfl) ?_
                        refine lv_lload_n hx hb dX8_orders_165 rfl (lv_at hl 5 rfl) ?_
                        refine lv_iload hx hb dX8_orders_166 (lv_at hl 6 rfl) ?_
                        obtain ⟨a_on_123, a_many_124, v_moved_125, he, hF⟩ := bd3e hF
                        refine mcV hX hK hEv hE0 hH (met_X8_looksAt hE he) (mrecv hK hH) gw_StoneYearModel_353 hd_yX8_looksAt ⟨by dsimp only [rm_X8_looksAt, rm_X8_orders_b]; omega, by dsimp only [rm_X8_looksAt, rm_X8_orders_b]; omega⟩ rfl rfl hl (Nat.le_of_ble_eq_true rfl) dX8_orders_168 ⟨Nat.le_of_ble_eq_true rfl, Nat.le_of_ble_eq_true rfl⟩ (fun H locs hH => ?_)
                        exact j171 a_on_123 a_many_124 v_moved_125 a_pile_120 a_order_121 hF _ _ _ hH (lv_sub hl [2, 3, 4, 5, 6, 7] rfl)
                      · have hF := itn c_122 hF
                        obtain rfl := Option.some.inj hF
                        exact k24_0 a_on_117 a_many_118 v_moved_119 a_pile_120 a_order_121 hY24 _ _ _ hH (lv_sub hl [] rfl)
                    · have hF := itn c_111 hF
                      refine lv_goto (tgt := 171) hx hb dX8_orders_132 rfl ?_
                      exact j171 a_on_88 a_many_106 v_moved_90 a_pile_107 a_order_92 hF _ _ _ hH (lv_sub hl [2, 3, 4, 5, 6, 7] rfl)
            · have hF := itn c_98 hF
              refine lv_goto (tgt := 171) hx hb dX8_orders_54 rfl ?_
              exact j171 a_on_88 a_many_89 v_moved_90 a_pile_91 a_order_92 hF _ _ _ hH (lv_sub hl [0, 1, 2, 3, 4, 5] rfl)
    exact l24 nn24 0 a_on a_many v_moved a_pile a_order en24 _ _ _ hH (lv_sub hl [3, 4, 5, 2, 1, 0] rfl)
  · have hF := itp c_47 hF
    refine lv_iconst (v := 1) hx hb dX8_orders_5 syi_1 ?_
    obtain ⟨rfl, rfl, rfl, rfl, rfl, rfl⟩ := re6 hF
    exact hret _ _ _ _ hH dX8_orders_6
set_option maxHeartbeats 4000000 in
theorem met_X8_orders {l : Launch} {D : va_G} {ak av fo : Nat} {E : EvT} (hE : EvM E ak av fo) : ∀ (d : Nat) {ad : Nat → Nat} {cA : Nat → ClassId} {a_all : Nat → Int32} {a_hasImage : Nat → Int32} {a_tape : Nat → Int32} {a_fresh : Nat → Int32} {v_taped : Int32} {v_at : Int32} {v_behind : Int32} {v_size : Int32} {v_kind : Int32} {v_number : Int32} {v_wrong : Int32} {v_wrongAt : Int32} {v_depth : Int32} {v_steps : Int32} {v_faultKind : Int32} {v_faultPlace : Int32} {a_on : Nat → Int32} {a_many : Nat → Int32} {v_moved : Int32} {a_pile : Nat → Int32} {v_aside : Int32} {v_judgedBy : Int32} {v_judgedYear : Int32} {a_leastCost : Nat → Int32} {a_matched : Nat → Int32} {a_order : Nat → Int32} {a_lies : Nat → Int64} {a_movedThen : Nat → Int32} {a_yearTable : Nat → Int32} {a_yearMark : Nat → Int32} {a_beginTable : Nat → Int32} {a_beginMark : Nat → Int32} {v_statesTold : Int32} {v_found : Int32} {v_yearFrom : Int32} {v_mark : Int32} {v_beginsMark : Int32} {v_begins : Int32} {a_began : Nat → Int64} {v_isSpent : Int32} {a_wants : Nat → Int32} {a_rowSort : Nat → Int32} {a_rowMany : Nat → Int32} {a_numbers : Nat → Int64} {p1 : Int32} {p2 : Int32} {res : Bool} {ra_on : Nat → Int32} {ra_many : Nat → Int32} {rv_moved : Int32} {ra_pile : Nat → Int32} {ra_order : Nat → Int32} , FX8_orders d a_all a_on a_many v_moved a_pile v_aside a_matched a_order p1 p2 = some (res, ra_on, ra_many, rv_moved, ra_pile, ra_order) → MM l yX8_orders (ws_ yX8_orders cX8_orders 9 (Option.some Jvm.ClassFile.FieldType.boolean)) (rm_X8_orders d) D vwA (mT cA) E [.ref (ad 0), .int p1, .int p2] (mW ad cA a_all a_hasImage a_tape a_fresh v_taped v_at v_behind v_size v_kind v_number v_wrong v_wrongAt v_depth v_steps v_faultKind v_faultPlace a_on a_many v_moved a_pile v_aside v_judgedBy v_judgedYear a_leastCost a_matched a_order a_lies a_movedThen a_yearTable a_yearMark a_beginTable a_beginMark v_statesTold v_found v_yearFrom v_mark v_beginsMark v_begins a_began v_isSpent a_wants a_rowSort a_rowMany a_numbers) (mW ad cA a_all a_hasImage a_tape a_fresh v_taped v_at v_behind v_size v_kind v_number v_wrong v_wrongAt v_depth v_steps v_faultKind v_faultPlace ra_on ra_many rv_moved ra_pile v_aside v_judgedBy v_judgedYear a_leastCost a_matched ra_order a_lies a_movedThen a_yearTable a_yearMark a_beginTable a_beginMark v_statesTold v_found v_yearFrom v_mark v_beginsMark v_begins a_began v_isSpent a_wants a_rowSort a_rowMany a_numbers) (some (.int (b2i res))) := by
  intro d
  induction d with
  | zero => intros; rename_i h; cases h
  | succ d ih =>
    intros
    rename_i h
    exact met_X8_orders_b hE d (@ih) h
abbrev rm_X8_once : Room := { frames := 14, cells := 0, slots := 0, locals := 388 }
set_option maxHeartbeats 4000000 in
theorem met_X8_once {l : Launch} {D : va_G} {ad : Nat → Nat} {cA : Nat → ClassId} {a_all : Nat → Int32} {a_hasImage : Nat → Int32} {a_tape : Nat → Int32} {a_fresh : Nat → Int32} {v_taped : Int32} {v_at : Int32} {v_behind : Int32} {v_size : Int32} {v_kind : Int32} {v_number : Int32} {v_wrong : Int32} {v_wrongAt : Int32} {v_depth : Int32} {v_steps : Int32} {v_faultKind : Int32} {v_faultPlace : Int32} {a_on : Nat → Int32} {a_many : Nat → Int32} {v_moved : Int32} {a_pile : Nat → Int32} {v_aside : Int32} {v_judgedBy : Int32} {v_judgedYear : Int32} {a_leastCost : Nat → Int32} {a_matched : Nat → Int32} {a_order : Nat → Int32} {a_lies : Nat → Int64} {a_movedThen : Nat → Int32} {a_yearTable : Nat → Int32} {a_yearMark : Nat → Int32} {a_beginTable : Nat → Int32} {a_beginMark : Nat → Int32} {v_statesTold : Int32} {v_found : Int32} {v_yearFrom : Int32} {v_mark : Int32} {v_beginsMark : Int32} {v_begins : Int32} {a_began : Nat → Int64} {v_isSpent : Int32} {a_wants : Nat → Int32} {a_rowSort : Nat → Int32} {a_rowMany : Nat → Int32} {a_numbers : Nat → Int64}  {p1 : Int32} {res : Int32} {ra_on : Nat → Int32} {ra_many : Nat → Int32} {rv_moved : Int32} {ra_pile : Nat → Int32} {ra_leastCost : Nat → Int32} {ra_matched : Nat → Int32} {ra_order : Nat → Int32} {ak av fo : Nat} {E : EvT} (hE : EvM E ak av fo) (hF : FX8_once a_all a_on a_many a_pile v_aside a_leastCost a_matched a_order p1 = some (res, ra_on, ra_many, rv_moved, ra_pile, ra_leastCost, ra_matched, ra_order)) : MM l yX8_once (ws_ yX8_once cX8_once 4 (Option.some Jvm.ClassFile.FieldType.int)) rm_X8_once D vwA (mT cA) E [.ref (ad 0), .int p1] (mW ad cA a_all a_hasImage a_tape a_fresh v_taped v_at v_behind v_size v_kind v_number v_wrong v_wrongAt v_depth v_steps v_faultKind v_faultPlace a_on a_many v_moved a_pile v_aside v_judgedBy v_judgedYear a_leastCost a_matched a_order a_lies a_movedThen a_yearTable a_yearMark a_beginTable a_beginMark v_statesTold v_found v_yearFrom v_mark v_beginsMark v_begins a_began v_isSpent a_wants a_rowSort a_rowMany a_numbers) (mW ad cA a_all a_hasImage a_tape a_fresh v_taped v_at v_behind v_size v_kind v_number v_wrong v_wrongAt v_depth v_steps v_faultKind v_faultPlace ra_on ra_many rv_moved ra_pile v_aside v_judgedBy v_judgedYear ra_leastCost ra_matched ra_order a_lies a_movedThen a_yearTable a_yearMark a_beginTable a_beginMark v_statesTold v_found v_yearFrom v_mark v_beginsMark v_begins a_began v_isSpent a_wants a_rowSort a_rowMany a_numbers) (some (.int res)) := by
  refine MM.ofI (by decide) (Nat.le_of_ble_eq_true rfl) ?_
  intro p e s m args below meth c Q A hX hK hE0 hret H locs ls hH hl
  have hX : CallFix p m c cX8_once 4 s args lw_all RX8 := hX
  have hx := hX.1
  have hb := hX.2.1
  have hown := hX.2.2.2.1
  have hts := hX.2.2.2.2
  have hl : lv_has ls 4 [(0, .ref (ad 0)), (1, .int p1)] := hl
  have hEv := hE.1
  delta FX8_once at hF
  refine lv_aload_n hx hb dX8_once_0 rfl (lv_at hl 0 rfl) ?_
  refine lv_iconst (v := 0) hx hb dX8_once_1 syi_0 ?_
  refine mp_thrown hX hK hH dX8_once_2 (fun H locs hH => ?_)
  refine lv_aload_n hx hb dX8_once_5 rfl (lv_at hl 0 rfl) ?_
  obtain ⟨a_leastCost_46, a_matched_47, he, hF⟩ := bd2e hF
  refine mcV hX hK hEv hE0 hH (met_X8_matches hE he) (mrecv hK hH) gw_StoneYearModel_340 hd_yX8_matches ⟨Nat.le_of_ble_eq_true rfl, Nat.le_of_ble_eq_true rfl⟩ rfl rfl hl (Nat.le_of_ble_eq_true rfl) dX8_once_6 ⟨Nat.le_of_ble_eq_true rfl, Nat.le_of_ble_eq_true rfl⟩ (fun H locs hH => ?_)
  refine lv_iconst (v := 0) hx hb dX8_once_9 syi_0 ?_
  refine lv_istore_n (lv' := [(2, .int 0), (0, .ref (ad 0)), (1, .int p1)]) hx hb dX8_once_10 rfl hl (by decide) rfl (fun ls hl => ?_)
  refine lv_iconst (v := 0) hx hb dX8_once_11 syi_0 ?_
  refine lv_istore_n (lv' := [(3, .int 0), (2, .int 0), (0, .ref (ad 0)), (1, .int p1)]) hx hb dX8_once_12 rfl hl (by decide) rfl (fun ls hl => ?_)
  obtain ⟨xx13, ee13, kk13_0⟩ := bd1L hF
  have k13_0 : ∀ (x_60 : Int32), xx13 = x_60 → ∀ (H : Heap) (locs : List Loc) (ls : Array Slot), MH D vwA A s.heap (mW ad cA a_all a_hasImage a_tape a_fresh v_taped v_at v_behind v_size v_kind v_number v_wrong v_wrongAt v_depth v_steps v_faultKind v_faultPlace a_on a_many v_moved a_pile v_aside v_judgedBy v_judgedYear a_leastCost_46 a_matched_47 a_order a_lies a_movedThen a_yearTable a_yearMark a_beginTable a_beginMark v_statesTold v_found v_yearFrom v_mark v_beginsMark v_begins a_began v_isSpent a_wants a_rowSort a_rowMany a_numbers) H locs → lv_has ls 4 [(0, .ref (ad 0)), (1, .int p1), (2, .int x_60)] → W p l e rm_X8_once s m args below meth c H locs 0 0 Q (F0 m 46 ls []) := by
    intro x_60 hxx H locs ls hH hl
    have hF := un1e (kk13_0 x_60 hxx)
    refine lv_aload_n hx hb dX8_once_46 rfl (lv_at hl 0 rfl) ?_
    obtain ⟨a_on_61, a_many_62, v_moved_63, he, hF⟩ := bd3e hF
    refine mcV hX hK hEv hE0 hH (met_X8_looksNow hE he) (mrecv hK hH) gw_StoneYearModel_260 hd_yX8_looksNow ⟨Nat.le_of_ble_eq_true rfl, Nat.le_of_ble_eq_true rfl⟩ rfl rfl hl (Nat.le_of_ble_eq_true rfl) dX8_once_47 ⟨Nat.le_of_ble_eq_true rfl, Nat.le_of_ble_eq_true rfl⟩ (fun H locs hH => ?_)
    refine lv_aload_n hx hb dX8_once_50 rfl (lv_at hl 0 rfl) ?_
    refine lv_iconst (v := 0) hx hb dX8_once_51 syi_0 ?_
    refine mp_moved hX hK hH dX8_once_52 (fun H locs hH => ?_)
    refine lv_aload_n hx hb dX8_once_55 rfl (lv_at hl 0 rfl) ?_
    refine lv_iconst (v := 0) hx hb dX8_once_56 syi_0 ?_
    refine lv_iload_n hx hb dX8_once_57 rfl (lv_at hl 2 rfl) ?_
    obtain ⟨b_64, a_on_65, a_many_66, v_moved_67, a_pile_68, a_order_69, he, hF⟩ := bd6e hF
    refine mcV hX hK hEv hE0 hH (met_X8_orders hE 10 he) (mrecv hK hH) gw_StoneYearModel_350 hd_yX8_orders ⟨Nat.le_of_ble_eq_true rfl, Nat.le_of_ble_eq_true rfl⟩ rfl rfl hl (Nat.le_of_ble_eq_true rfl) dX8_once_58 ⟨Nat.le_of_ble_eq_true rfl, Nat.le_of_ble_eq_true rfl⟩ (fun H locs hH => ?_)
    refine lv_if_ne (tgt := 66) hx hb dX8_once_61 rfl (fun c_70 => ?_) (fun c_70 => ?_)
    · have hF := itn c_70 hF
      refine lv_iload_n hx hb dX8_once_66 rfl (lv_at hl 1 rfl) ?_
      refine lv_iconst (v := (-1)) hx hb dX8_once_67 syi_m1 ?_
      refine lv_icmp_ne (tgt := 75) hx hb dX8_once_68 rfl (fun c_71 => ?_) (fun c_71 => ?_)
      · have hF := itn c_71 hF
        refine lv_iload_n hx hb dX8_once_75 rfl (lv_at hl 1 rfl) ?_
        refine lv_i2l (v := (Int32.toInt64 p1)) hx hb dX8_once_76 rfl ?_
        refine lv_lconst (v := 0) hx hb dX8_once_77 rfl ?_
        refine lv_iload_n hx hb dX8_once_78 rfl (lv_at hl 2 rfl) ?_
        refine lv_iconst (v := 1) hx hb dX8_once_79 syi_1 ?_
        refine lv_isub hx hb dX8_once_80 ?_
        refine lv_i2l (v := (Int32.toInt64 (x_60 - 1))) hx hb dX8_once_81 rfl ?_
        obtain ⟨b_72, he, hF⟩ := bd1e hF
        refine mcS hX hK hEv hE0 hH (met_X8_within hE he) gw_StoneYearModel_153 hd_yX8_within ⟨Nat.le_of_ble_eq_true rfl, Nat.le_of_ble_eq_true rfl⟩ rfl rfl hl (Nat.le_of_ble_eq_true rfl) dX8_once_82 ⟨Nat.le_of_ble_eq_true rfl, Nat.le_of_ble_eq_true rfl⟩ (fun H locs hH => ?_)
        refine lv_if_eq (tgt := 97) hx hb dX8_once_85 rfl (fun c_73 => ?_) (fun c_73 => ?_)
        · have hF := itp c_73 hF
          refine lv_iconst (v := (-1)) hx hb dX8_once_97 syi_m1 ?_
          obtain ⟨rfl, rfl, rfl, rfl, rfl, rfl, rfl, rfl⟩ := re8 hF
          exact hret _ _ _ _ hH dX8_once_98
        · have hF := itn c_73 hF
          refine lv_aload_n hx hb dX8_once_88 rfl (lv_at hl 0 rfl) ?_
          refine mg_order hX hK hH dX8_once_89 ?_
          refine lv_iload_n hx hb dX8_once_92 rfl (lv_at hl 1 rfl) ?_
          obtain ⟨x_74, he, hF⟩ := bd1e hF
          refine ml_order hX hK hH he dX8_once_93 ?_
          refine lv_goto (tgt := 98) hx hb dX8_once_94 rfl ?_
          obtain ⟨rfl, rfl, rfl, rfl, rfl, rfl, rfl, rfl⟩ := re8 hF
          exact hret _ _ _ _ hH dX8_once_98
      · have hF := itp c_71 hF
        refine lv_iload_n hx hb dX8_once_71 rfl (lv_at hl 2 rfl) ?_
        refine lv_goto (tgt := 98) hx hb dX8_once_72 rfl ?_
        obtain ⟨rfl, rfl, rfl, rfl, rfl, rfl, rfl, rfl⟩ := re8 hF
        exact hret _ _ _ _ hH dX8_once_98
    · have hF := itp c_70 hF
      refine lv_iconst (v := (-1)) hx hb dX8_once_64 syi_m1 ?_
      obtain ⟨rfl, rfl, rfl, rfl, rfl, rfl, rfl, rfl⟩ := re8 hF
      exact hret _ _ _ _ hH dX8_once_65
  obtain ⟨nn13, en13⟩ := loopC_some ee13
  have l13 : ∀ (n : Nat) (x_53 : Int32) (x_54 : Int32), loopN (fun s => FX8_once_b13 a_all a_matched_47 s.1 s.2) n (x_53, x_54) = some xx13 → ∀ (H : Heap) (locs : List Loc) (ls : Array Slot), MH D vwA A s.heap (mW ad cA a_all a_hasImage a_tape a_fresh v_taped v_at v_behind v_size v_kind v_number v_wrong v_wrongAt v_depth v_steps v_faultKind v_faultPlace a_on a_many v_moved a_pile v_aside v_judgedBy v_judgedYear a_leastCost_46 a_matched_47 a_order a_lies a_movedThen a_yearTable a_yearMark a_beginTable a_beginMark v_statesTold v_found v_yearFrom v_mark v_beginsMark v_begins a_began v_isSpent a_wants a_rowSort a_rowMany a_numbers) H locs → lv_has ls 4 [(0, .ref (ad 0)), (1, .int p1), (2, .int x_53), (3, .int x_54)] → W p l e rm_X8_once s m args below meth c H locs 0 0 Q (F0 m 13 ls []) := by
    intro n
    induction n with
    | zero =>
      intro x_53 x_54 hN
      exact absurd hN loopN_zero
    | succ n ih =>
      intro x_53 x_54 hN H locs ls hH hl
      obtain ⟨yy13, hB13, hY13⟩ := loopN_succ hN
      have hF : FX8_once_b13 a_all a_matched_47 x_53 x_54 = some yy13 := hB13
      delta FX8_once_b13 at hF
      refine lv_iload_n hx hb dX8_once_13 rfl (lv_at hl 3 rfl) ?_
      refine lv_aload_n hx hb dX8_once_14 rfl (lv_at hl 0 rfl) ?_
      refine mg_all hX hK hH dX8_once_15 ?_
      refine lv_bipush (v := 6) hx hb dX8_once_18 syb_6 ?_
      obtain ⟨x_55, he, hF⟩ := bd1e hF
      refine ml_all hX hK hH he dX8_once_20 ?_
      refine lv_icmp_ge (tgt := 46) hx hb dX8_once_21 rfl (fun c_56 => ?_) (fun c_56 => ?_)
      · have hF := itp c_56 hF
        obtain rfl := Option.some.inj hF
        exact k13_0 x_53 hY13 _ _ _ hH (lv_sub hl [0, 1, 2] rfl)
      · have hF := itn c_56 hF
        refine lv_iload_n hx hb dX8_once_24 rfl (lv_at hl 2 rfl) ?_
        refine lv_aload_n hx hb dX8_once_25 rfl (lv_at hl 0 rfl) ?_
        refine lv_iload_n hx hb dX8_once_26 rfl (lv_at hl 3 rfl) ?_
        obtain ⟨b_57, he, hF⟩ := bd1e hF
        refine mcV hX hK hEv hE0 hH (met_X8_isAway hE he) (mrecv hK hH) gw_StoneYearModel_343 hd_yX8_isAway ⟨Nat.le_of_ble_eq_true rfl, Nat.le_of_ble_eq_true rfl⟩ rfl rfl hl (Nat.le_of_ble_eq_true rfl) dX8_once_27 ⟨Nat.le_of_ble_eq_true rfl, Nat.le_of_ble_eq_true rfl⟩ (fun H locs hH => ?_)
        have j38 : ∀ (x_59 : Int32), FX8_once_j38 x_53 x_54 x_59 = some yy13 → ∀ (H : Heap) (locs : List Loc) (ls : Array Slot), MH D vwA A s.heap (mW ad cA a_all a_hasImage a_tape a_fresh v_taped v_at v_behind v_size v_kind v_number v_wrong v_wrongAt v_depth v_steps v_faultKind v_faultPlace a_on a_many v_moved a_pile v_aside v_judgedBy v_judgedYear a_leastCost_46 a_matched_47 a_order a_lies a_movedThen a_yearTable a_yearMark a_beginTable a_beginMark v_statesTold v_found v_yearFrom v_mark v_beginsMark v_begins a_began v_isSpent a_wants a_rowSort a_rowMany a_numbers) H locs → lv_has ls 4 [(0, .ref (ad 0)), (1, .int p1), (3, .int x_54)] → W p l e rm_X8_once s m args below meth c H locs 0 0 Q (F0 m 38 ls [.int x_59, .int x_53]) := by
          intro x_59 hF H locs ls hH hl
          delta FX8_once_j38 at hF
          refine lv_iadd hx hb dX8_once_38 ?_
          refine lv_istore_n (lv' := [(2, .int (x_53 + x_59)), (0, .ref (ad 0)), (1, .int p1), (3, .int x_54)]) hx hb dX8_once_39 rfl hl (by decide) rfl (fun ls hl => ?_)
          refine lv_iinc (v := (x_54 + 1)) (lv' := [(3, .int (x_54 + 1)), (2, .int (x_53 + x_59)), (0, .ref (ad 0)), (1, .int p1)]) hx hb dX8_once_40 hl (k := 3) rfl (syc syi_1) (by decide) rfl (fun ls hl => ?_)
          refine lv_goto (tgt := 13) hx hb dX8_once_43 rfl ?_
          obtain rfl := Option.some.inj hF
          exact ih (x_53 + x_59) (x_54 + 1) hY13 _ _ _ hH (lv_sub hl [2, 3, 1, 0] rfl)
        refine lv_if_eq (tgt := 37) hx hb dX8_once_30 rfl (fun c_58 => ?_) (fun c_58 => ?_)
        · have hF := itp c_58 hF
          refine lv_iconst (v := 0) hx hb dX8_once_37 syi_0 ?_
          exact j38 0 hF _ _ _ hH (lv_sub hl [0, 1, 3] rfl)
        · have hF := itn c_58 hF
          refine lv_iconst (v := 1) hx hb dX8_once_33 syi_1 ?_
          refine lv_goto (tgt := 38) hx hb dX8_once_34 rfl ?_
          exact j38 1 hF _ _ _ hH (lv_sub hl [0, 1, 3] rfl)
  exact l13 nn13 0 0 en13 _ _ _ hH (lv_sub hl [2, 3, 1, 0] rfl)
abbrev rm_X8_isAhead : Room := { frames := 2, cells := 0, slots := 0, locals := 43 }
set_option maxHeartbeats 4000000 in
theorem met_X8_isAhead {l : Launch} {D : va_G} {ad : Nat → Nat} {cA : Nat → ClassId} {a_all : Nat → Int32} {a_hasImage : Nat → Int32} {a_tape : Nat → Int32} {a_fresh : Nat → Int32} {v_taped : Int32} {v_at : Int32} {v_behind : Int32} {v_size : Int32} {v_kind : Int32} {v_number : Int32} {v_wrong : Int32} {v_wrongAt : Int32} {v_depth : Int32} {v_steps : Int32} {v_faultKind : Int32} {v_faultPlace : Int32} {a_on : Nat → Int32} {a_many : Nat → Int32} {v_moved : Int32} {a_pile : Nat → Int32} {v_aside : Int32} {v_judgedBy : Int32} {v_judgedYear : Int32} {a_leastCost : Nat → Int32} {a_matched : Nat → Int32} {a_order : Nat → Int32} {a_lies : Nat → Int64} {a_movedThen : Nat → Int32} {a_yearTable : Nat → Int32} {a_yearMark : Nat → Int32} {a_beginTable : Nat → Int32} {a_beginMark : Nat → Int32} {v_statesTold : Int32} {v_found : Int32} {v_yearFrom : Int32} {v_mark : Int32} {v_beginsMark : Int32} {v_begins : Int32} {a_began : Nat → Int64} {v_isSpent : Int32} {a_wants : Nat → Int32} {a_rowSort : Nat → Int32} {a_rowMany : Nat → Int32} {a_numbers : Nat → Int64}  {p1 : Int32} {p2 : Int32} {res : Bool} {ak av fo : Nat} {E : EvT} (hE : EvM E ak av fo) (hF : FX8_isAhead a_all a_matched p1 p2 = some res) : MM l yX8_isAhead (ws_ yX8_isAhead cX8_isAhead 5 (Option.some Jvm.ClassFile.FieldType.boolean)) rm_X8_isAhead D vwA (mT cA) E [.ref (ad 0), .int p1, .int p2] (mW ad cA a_all a_hasImage a_tape a_fresh v_taped v_at v_behind v_size v_kind v_number v_wrong v_wrongAt v_depth v_steps v_faultKind v_faultPlace a_on a_many v_moved a_pile v_aside v_judgedBy v_judgedYear a_leastCost a_matched a_order a_lies a_movedThen a_yearTable a_yearMark a_beginTable a_beginMark v_statesTold v_found v_yearFrom v_mark v_beginsMark v_begins a_began v_isSpent a_wants a_rowSort a_rowMany a_numbers) (mW ad cA a_all a_hasImage a_tape a_fresh v_taped v_at v_behind v_size v_kind v_number v_wrong v_wrongAt v_depth v_steps v_faultKind v_faultPlace a_on a_many v_moved a_pile v_aside v_judgedBy v_judgedYear a_leastCost a_matched a_order a_lies a_movedThen a_yearTable a_yearMark a_beginTable a_beginMark v_statesTold v_found v_yearFrom v_mark v_beginsMark v_begins a_began v_isSpent a_wants a_rowSort a_rowMany a_numbers) (some (.int (b2i res))) := by
  refine MM.ofZ (by decide) (Nat.le_of_ble_eq_true rfl) ?_
  intro p e s m args below meth c Q A hX hK hE0 hret H locs ls hH hl
  have hX : CallFix p m c cX8_isAhead 5 s args lw_all RX8 := hX
  have hx := hX.1
  have hb := hX.2.1
  have hown := hX.2.2.2.1
  have hts := hX.2.2.2.2
  have hl : lv_has ls 5 [(0, .ref (ad 0)), (1, .int p1), (2, .int p2)] := hl
  have hEv := hE.1
  delta FX8_isAhead at hF
  refine lv_aload_n hx hb dX8_isAhead_0 rfl (lv_at hl 0 rfl) ?_
  refine lv_iload_n hx hb dX8_isAhead_1 rfl (lv_at hl 1 rfl) ?_
  obtain ⟨b_47, he, hF⟩ := bd1e hF
  refine mcV hX hK hEv hE0 hH (met_X8_isAway hE he) (mrecv hK hH) gw_StoneYearModel_343 hd_yX8_isAway ⟨Nat.le_of_ble_eq_true rfl, Nat.le_of_ble_eq_true rfl⟩ rfl rfl hl (Nat.le_of_ble_eq_true rfl) dX8_isAhead_2 ⟨Nat.le_of_ble_eq_true rfl, Nat.le_of_ble_eq_true rfl⟩ (fun H locs hH => ?_)
  refine lv_if_eq (tgt := 16) hx hb dX8_isAhead_5 rfl (fun c_48 => ?_) (fun c_48 => ?_)
  · have hF := itp c_48 hF
    refine lv_iconst (v := 0) hx hb dX8_isAhead_16 syi_0 ?_
    obtain rfl := Option.some.inj hF
    exact hret _ _ _ _ hH dX8_isAhead_17
  · have hF := itn c_48 hF
    refine lv_aload_n hx hb dX8_isAhead_8 rfl (lv_at hl 0 rfl) ?_
    refine lv_iload_n hx hb dX8_isAhead_9 rfl (lv_at hl 2 rfl) ?_
    obtain ⟨b_49, he, hF⟩ := bd1e hF
    refine mcV hX hK hEv hE0 hH (met_X8_isAway hE he) (mrecv hK hH) gw_StoneYearModel_343 hd_yX8_isAway ⟨Nat.le_of_ble_eq_true rfl, Nat.le_of_ble_eq_true rfl⟩ rfl rfl hl (Nat.le_of_ble_eq_true rfl) dX8_isAhead_10 ⟨Nat.le_of_ble_eq_true rfl, Nat.le_of_ble_eq_true rfl⟩ (fun H locs hH => ?_)
    refine lv_if_ne (tgt := 18) hx hb dX8_isAhead_13 rfl (fun c_50 => ?_) (fun c_50 => ?_)
    · have hF := itn c_50 hF
      refine lv_aload_n hx hb dX8_isAhead_18 rfl (lv_at hl 0 rfl) ?_
      refine lv_iload_n hx hb dX8_isAhead_19 rfl (lv_at hl 1 rfl) ?_
      obtain ⟨x_51, he, hF⟩ := bd1e hF
      refine mcV hX hK hEv hE0 hH (met_X8_placeOf hE he) (mrecv hK hH) gw_StoneYearModel_255 hd_yX8_placeOf ⟨Nat.le_of_ble_eq_true rfl, Nat.le_of_ble_eq_true rfl⟩ rfl rfl hl (Nat.le_of_ble_eq_true rfl) dX8_isAhead_20 ⟨Nat.le_of_ble_eq_true rfl, Nat.le_of_ble_eq_true rfl⟩ (fun H locs hH => ?_)
      refine lv_istore_n (lv' := [(3, .int x_51), (0, .ref (ad 0)), (1, .int p1), (2, .int p2)]) hx hb dX8_isAhead_23 rfl hl (by decide) rfl (fun ls hl => ?_)
      refine lv_aload_n hx hb dX8_isAhead_24 rfl (lv_at hl 1 rfl) ?_
      refine lv_iload_n hx hb dX8_isAhead_25 rfl (lv_at hl 3 rfl) ?_
      obtain ⟨x_52, he, hF⟩ := bd1e hF
      refine mcV hX hK hEv hE0 hH (met_X8_placeOf hE he) (mrecv hK hH) gw_StoneYearModel_255 hd_yX8_placeOf ⟨Nat.le_of_ble_eq_true rfl, Nat.le_of_ble_eq_true rfl⟩ rfl rfl hl (Nat.le_of_ble_eq_true rfl) dX8_isAhead_26 ⟨Nat.le_of_ble_eq_true rfl, Nat.le_of_ble_eq_true rfl⟩ (fun H locs hH => ?_)
      refine lv_istore (lv' := [(4, .int x_52), (3, .int x_51), (0, .ref (ad 0)), (1, .int p1), (2, .int p2)]) hx hb dX8_isAhead_29 hl (by decide) rfl (fun ls hl => ?_)
      refine lv_iload_n hx hb dX8_isAhead_31 rfl (lv_at hl 3 rfl) ?_
      refine lv_iload_n hx hb dX8_isAhead_32 rfl (lv_at hl 4 rfl) ?_
      refine lv_icmp_ne (tgt := 56) hx hb dX8_isAhead_33 rfl (fun c_53 => ?_) (fun c_53 => ?_)
      · have hF := itn c_53 hF
        refine lv_iload_n hx hb dX8_isAhead_56 rfl (lv_at hl 1 rfl) ?_
        refine lv_iconst (v := 3) hx hb dX8_isAhead_57 syi_3 ?_
        refine lv_idiv hx hb dX8_isAhead_58 (by decide) ?_
        refine lv_iload hx hb dX8_isAhead_59 (lv_at hl 0 rfl) ?_
        refine lv_iconst (v := 3) hx hb dX8_isAhead_61 syi_3 ?_
        refine lv_idiv hx hb dX8_isAhead_62 (by decide) ?_
        have j74 : FX8_isAhead_j74 a_matched p1 p2 x_51 = some res → ∀ (H : Heap) (locs : List Loc) (ls : Array Slot), MH D vwA A s.heap (mW ad cA a_all a_hasImage a_tape a_fresh v_taped v_at v_behind v_size v_kind v_number v_wrong v_wrongAt v_depth v_steps v_faultKind v_faultPlace a_on a_many v_moved a_pile v_aside v_judgedBy v_judgedYear a_leastCost a_matched a_order a_lies a_movedThen a_yearTable a_yearMark a_beginTable a_beginMark v_statesTold v_found v_yearFrom v_mark v_beginsMark v_begins a_began v_isSpent a_wants a_rowSort a_rowMany a_numbers) H locs → lv_has ls 5 [(0, .ref (ad 0)), (1, .int p1), (2, .int p2), (3, .int x_51)] → W p l e rm_X8_isAhead s m args below meth c H locs 0 0 Q (F0 m 74 ls []) := by
          intro hF H locs ls hH hl
          delta FX8_isAhead_j74 at hF
          refine lv_aload_n hx hb dX8_isAhead_74 rfl (lv_at hl 0 rfl) ?_
          refine mg_matched hX hK hH dX8_isAhead_75 ?_
          refine lv_iload_n hx hb dX8_isAhead_78 rfl (lv_at hl 1 rfl) ?_
          obtain ⟨x_58, he, hF⟩ := bd1e hF
          refine ml_matched hX hK hH he dX8_isAhead_79 ?_
          refine lv_iconst (v := 3) hx hb dX8_isAhead_80 syi_3 ?_
          refine lv_idiv hx hb dX8_isAhead_81 (by decide) ?_
          refine lv_aload_n hx hb dX8_isAhead_82 rfl (lv_at hl 0 rfl) ?_
          refine mg_matched hX hK hH dX8_isAhead_83 ?_
          refine lv_iload_n hx hb dX8_isAhead_86 rfl (lv_at hl 2 rfl) ?_
          obtain ⟨x_59, he, hF⟩ := bd1e hF
          refine ml_matched hX hK hH he dX8_isAhead_87 ?_
          refine lv_iconst (v := 3) hx hb dX8_isAhead_88 syi_3 ?_
          refine lv_idiv hx hb dX8_isAhead_89 (by decide) ?_
          have j110 : FX8_isAhead_j110 a_matched p2 x_51 = some res → ∀ (H : Heap) (locs : List Loc) (ls : Array Slot), MH D vwA A s.heap (mW ad cA a_all a_hasImage a_tape a_fresh v_taped v_at v_behind v_size v_kind v_number v_wrong v_wrongAt v_depth v_steps v_faultKind v_faultPlace a_on a_many v_moved a_pile v_aside v_judgedBy v_judgedYear a_leastCost a_matched a_order a_lies a_movedThen a_yearTable a_yearMark a_beginTable a_beginMark v_statesTold v_found v_yearFrom v_mark v_beginsMark v_begins a_began v_isSpent a_wants a_rowSort a_rowMany a_numbers) H locs → lv_has ls 5 [(0, .ref (ad 0)), (2, .int p2), (3, .int x_51)] → W p l e rm_X8_isAhead s m args below meth c H locs 0 0 Q (F0 m 110 ls []) := by
            intro hF H locs ls hH hl
            delta FX8_isAhead_j110 at hF
            refine lv_iload_n hx hb dX8_isAhead_110 rfl (lv_at hl 2 rfl) ?_
            refine lv_iconst (v := 3) hx hb dX8_isAhead_111 syi_3 ?_
            refine lv_idiv hx hb dX8_isAhead_112 (by decide) ?_
            refine lv_aload_n hx hb dX8_isAhead_113 rfl (lv_at hl 0 rfl) ?_
            refine mg_matched hX hK hH dX8_isAhead_114 ?_
            refine lv_iload_n hx hb dX8_isAhead_117 rfl (lv_at hl 1 rfl) ?_
            obtain ⟨x_64, he, hF⟩ := bd1e hF
            refine ml_matched hX hK hH he dX8_isAhead_118 ?_
            refine lv_iconst (v := 3) hx hb dX8_isAhead_119 syi_3 ?_
            refine lv_idiv hx hb dX8_isAhead_120 (by decide) ?_
            refine lv_icmp_ne (tgt := 128) hx hb dX8_isAhead_121 rfl (fun c_65 => ?_) (fun c_65 => ?_)
            · have hF := itn c_65 hF
              refine lv_iconst (v := 0) hx hb dX8_isAhead_128 syi_0 ?_
              obtain rfl := Option.some.inj hF
              exact hret _ _ _ _ hH dX8_isAhead_129
            · have hF := itp c_65 hF
              refine lv_iconst (v := 1) hx hb dX8_isAhead_124 syi_1 ?_
              refine lv_goto (tgt := 129) hx hb dX8_isAhead_125 rfl ?_
              obtain rfl := Option.some.inj hF
              exact hret _ _ _ _ hH dX8_isAhead_129
          refine lv_icmp_ne (tgt := 110) hx hb dX8_isAhead_90 rfl (fun c_60 => ?_) (fun c_60 => ?_)
          · have hF := itn c_60 hF
            exact j110 hF _ _ _ hH (lv_sub hl [0, 2, 3] rfl)
          · have hF := itp c_60 hF
            refine lv_aload_n hx hb dX8_isAhead_93 rfl (lv_at hl 0 rfl) ?_
            refine mg_matched hX hK hH dX8_isAhead_94 ?_
            refine lv_iload_n hx hb dX8_isAhead_97 rfl (lv_at hl 1 rfl) ?_
            obtain ⟨x_61, he, hF⟩ := bd1e hF
            refine ml_matched hX hK hH he dX8_isAhead_98 ?_
            refine lv_aload_n hx hb dX8_isAhead_99 rfl (lv_at hl 0 rfl) ?_
            refine mg_matched hX hK hH dX8_isAhead_100 ?_
            refine lv_iload_n hx hb dX8_isAhead_103 rfl (lv_at hl 2 rfl) ?_
            obtain ⟨x_62, he, hF⟩ := bd1e hF
            refine ml_matched hX hK hH he dX8_isAhead_104 ?_
            refine lv_icmp_ge (tgt := 110) hx hb dX8_isAhead_105 rfl (fun c_63 => ?_) (fun c_63 => ?_)
            · have hF := itp c_63 hF
              exact j110 hF _ _ _ hH (lv_sub hl [0, 2, 3] rfl)
            · have hF := itn c_63 hF
              refine lv_iconst (v := 1) hx hb dX8_isAhead_108 syi_1 ?_
              obtain rfl := Option.some.inj hF
              exact hret _ _ _ _ hH dX8_isAhead_109
        refine lv_icmp_ne (tgt := 74) hx hb dX8_isAhead_63 rfl (fun c_56 => ?_) (fun c_56 => ?_)
        · have hF := itn c_56 hF
          exact j74 hF _ _ _ hH (lv_sub hl [2, 3, 4, 1] rfl)
        · have hF := itp c_56 hF
          refine lv_iload_n hx hb dX8_isAhead_66 rfl (lv_at hl 1 rfl) ?_
          refine lv_iload hx hb dX8_isAhead_67 (lv_at hl 0 rfl) ?_
          refine lv_icmp_le (tgt := 74) hx hb dX8_isAhead_69 rfl (fun c_57 => ?_) (fun c_57 => ?_)
          · have hF := itp c_57 hF
            exact j74 hF _ _ _ hH (lv_sub hl [2, 3, 4, 1] rfl)
          · have hF := itn c_57 hF
            refine lv_iconst (v := 1) hx hb dX8_isAhead_72 syi_1 ?_
            obtain rfl := Option.some.inj hF
            exact hret _ _ _ _ hH dX8_isAhead_73
      · have hF := itp c_53 hF
        refine lv_aload_n hx hb dX8_isAhead_36 rfl (lv_at hl 2 rfl) ?_
        refine mg_matched hX hK hH dX8_isAhead_37 ?_
        refine lv_iload_n hx hb dX8_isAhead_40 rfl (lv_at hl 3 rfl) ?_
        obtain ⟨x_54, he, hF⟩ := bd1e hF
        refine ml_matched hX hK hH he dX8_isAhead_41 ?_
        refine lv_iconst (v := 3) hx hb dX8_isAhead_42 syi_3 ?_
        refine lv_idiv hx hb dX8_isAhead_43 (by decide) ?_
        refine lv_iload_n hx hb dX8_isAhead_44 rfl (lv_at hl 1 rfl) ?_
        refine lv_iconst (v := 3) hx hb dX8_isAhead_45 syi_3 ?_
        refine lv_idiv hx hb dX8_isAhead_46 (by decide) ?_
        refine lv_icmp_ne (tgt := 54) hx hb dX8_isAhead_47 rfl (fun c_55 => ?_) (fun c_55 => ?_)
        · have hF := itn c_55 hF
          refine lv_iconst (v := 0) hx hb dX8_isAhead_54 syi_0 ?_
          obtain rfl := Option.some.inj hF
          exact hret _ _ _ _ hH dX8_isAhead_55
        · have hF := itp c_55 hF
          refine lv_iconst (v := 1) hx hb dX8_isAhead_50 syi_1 ?_
          refine lv_goto (tgt := 55) hx hb dX8_isAhead_51 rfl ?_
          obtain rfl := Option.some.inj hF
          exact hret _ _ _ _ hH dX8_isAhead_55
    · have hF := itp c_50 hF
      refine lv_iconst (v := 0) hx hb dX8_isAhead_16 syi_0 ?_
      obtain rfl := Option.some.inj hF
      exact hret _ _ _ _ hH dX8_isAhead_17
abbrev rm_X8_ahead : Room := { frames := 3, cells := 0, slots := 0, locals := 72 }
set_option maxHeartbeats 4000000 in
theorem met_X8_ahead {l : Launch} {D : va_G} {ad : Nat → Nat} {cA : Nat → ClassId} {a_all : Nat → Int32} {a_hasImage : Nat → Int32} {a_tape : Nat → Int32} {a_fresh : Nat → Int32} {v_taped : Int32} {v_at : Int32} {v_behind : Int32} {v_size : Int32} {v_kind : Int32} {v_number : Int32} {v_wrong : Int32} {v_wrongAt : Int32} {v_depth : Int32} {v_steps : Int32} {v_faultKind : Int32} {v_faultPlace : Int32} {a_on : Nat → Int32} {a_many : Nat → Int32} {v_moved : Int32} {a_pile : Nat → Int32} {v_aside : Int32} {v_judgedBy : Int32} {v_judgedYear : Int32} {a_leastCost : Nat → Int32} {a_matched : Nat → Int32} {a_order : Nat → Int32} {a_lies : Nat → Int64} {a_movedThen : Nat → Int32} {a_yearTable : Nat → Int32} {a_yearMark : Nat → Int32} {a_beginTable : Nat → Int32} {a_beginMark : Nat → Int32} {v_statesTold : Int32} {v_found : Int32} {v_yearFrom : Int32} {v_mark : Int32} {v_beginsMark : Int32} {v_begins : Int32} {a_began : Nat → Int64} {v_isSpent : Int32} {a_wants : Nat → Int32} {a_rowSort : Nat → Int32} {a_rowMany : Nat → Int32} {a_numbers : Nat → Int64}  {p1 : Int32} {p2 : Int32} {res : Int32} {ra_leastCost : Nat → Int32} {ra_matched : Nat → Int32} {ak av fo : Nat} {E : EvT} (hE : EvM E ak av fo) (hF : FX8_ahead a_all a_leastCost a_matched p1 p2 = some (res, ra_leastCost, ra_matched)) : MM l yX8_ahead (ws_ yX8_ahead cX8_ahead 3 (Option.some Jvm.ClassFile.FieldType.int)) rm_X8_ahead D vwA (mT cA) E [.ref (ad 0), .int p1, .int p2] (mW ad cA a_all a_hasImage a_tape a_fresh v_taped v_at v_behind v_size v_kind v_number v_wrong v_wrongAt v_depth v_steps v_faultKind v_faultPlace a_on a_many v_moved a_pile v_aside v_judgedBy v_judgedYear a_leastCost a_matched a_order a_lies a_movedThen a_yearTable a_yearMark a_beginTable a_beginMark v_statesTold v_found v_yearFrom v_mark v_beginsMark v_begins a_began v_isSpent a_wants a_rowSort a_rowMany a_numbers) (mW ad cA a_all a_hasImage a_tape a_fresh v_taped v_at v_behind v_size v_kind v_number v_wrong v_wrongAt v_depth v_steps v_faultKind v_faultPlace a_on a_many v_moved a_pile v_aside v_judgedBy v_judgedYear ra_leastCost ra_matched a_order a_lies a_movedThen a_yearTable a_yearMark a_beginTable a_beginMark v_statesTold v_found v_yearFrom v_mark v_beginsMark v_begins a_began v_isSpent a_wants a_rowSort a_rowMany a_numbers) (some (.int res)) := by
  refine MM.ofI (by decide) (Nat.le_of_ble_eq_true rfl) ?_
  intro p e s m args below meth c Q A hX hK hE0 hret H locs ls hH hl
  have hX : CallFix p m c cX8_ahead 3 s args lw_all RX8 := hX
  have hx := hX.1
  have hb := hX.2.1
  have hown := hX.2.2.2.1
  have hts := hX.2.2.2.2
  have hl : lv_has ls 3 [(0, .ref (ad 0)), (1, .int p1), (2, .int p2)] := hl
  have hEv := hE.1
  delta FX8_ahead at hF
  refine lv_aload_n hx hb dX8_ahead_0 rfl (lv_at hl 0 rfl) ?_
  refine lv_iconst (v := 0) hx hb dX8_ahead_1 syi_0 ?_
  refine mp_thrown hX hK hH dX8_ahead_2 (fun H locs hH => ?_)
  refine lv_aload_n hx hb dX8_ahead_5 rfl (lv_at hl 0 rfl) ?_
  refine lv_iload_n hx hb dX8_ahead_6 rfl (lv_at hl 1 rfl) ?_
  obtain ⟨b_47, he, hF⟩ := bd1e hF
  refine mcV hX hK hEv hE0 hH (met_X8_isStone hE he) (mrecv hK hH) gw_StoneYearModel_250 hd_yX8_isStone ⟨Nat.le_of_ble_eq_true rfl, Nat.le_of_ble_eq_true rfl⟩ rfl rfl hl (Nat.le_of_ble_eq_true rfl) dX8_ahead_7 ⟨Nat.le_of_ble_eq_true rfl, Nat.le_of_ble_eq_true rfl⟩ (fun H locs hH => ?_)
  refine lv_if_eq (tgt := 21) hx hb dX8_ahead_10 rfl (fun c_48 => ?_) (fun c_48 => ?_)
  · have hF := itp c_48 hF
    refine lv_bipush (v := (-2)) hx hb dX8_ahead_21 syb_m2 ?_
    obtain ⟨rfl, rfl, rfl⟩ := re3 hF
    exact hret _ _ _ _ hH dX8_ahead_23
  · have hF := itn c_48 hF
    refine lv_aload_n hx hb dX8_ahead_13 rfl (lv_at hl 0 rfl) ?_
    refine lv_iload_n hx hb dX8_ahead_14 rfl (lv_at hl 2 rfl) ?_
    obtain ⟨b_49, he, hF⟩ := bd1e hF
    refine mcV hX hK hEv hE0 hH (met_X8_isStone hE he) (mrecv hK hH) gw_StoneYearModel_250 hd_yX8_isStone ⟨Nat.le_of_ble_eq_true rfl, Nat.le_of_ble_eq_true rfl⟩ rfl rfl hl (Nat.le_of_ble_eq_true rfl) dX8_ahead_15 ⟨Nat.le_of_ble_eq_true rfl, Nat.le_of_ble_eq_true rfl⟩ (fun H locs hH => ?_)
    refine lv_if_ne (tgt := 24) hx hb dX8_ahead_18 rfl (fun c_50 => ?_) (fun c_50 => ?_)
    · have hF := itn c_50 hF
      refine lv_aload_n hx hb dX8_ahead_24 rfl (lv_at hl 0 rfl) ?_
      obtain ⟨a_leastCost_51, a_matched_52, he, hF⟩ := bd2e hF
      refine mcV hX hK hEv hE0 hH (met_X8_matches hE he) (mrecv hK hH) gw_StoneYearModel_340 hd_yX8_matches ⟨Nat.le_of_ble_eq_true rfl, Nat.le_of_ble_eq_true rfl⟩ rfl rfl hl (Nat.le_of_ble_eq_true rfl) dX8_ahead_25 ⟨Nat.le_of_ble_eq_true rfl, Nat.le_of_ble_eq_true rfl⟩ (fun H locs hH => ?_)
      refine lv_aload_n hx hb dX8_ahead_28 rfl (lv_at hl 0 rfl) ?_
      refine lv_iload_n hx hb dX8_ahead_29 rfl (lv_at hl 1 rfl) ?_
      refine lv_iload_n hx hb dX8_ahead_30 rfl (lv_at hl 2 rfl) ?_
      obtain ⟨b_53, he, hF⟩ := bd1e hF
      refine mcV hX hK hEv hE0 hH (met_X8_isAhead hE he) (mrecv hK hH) gw_StoneYearModel_357 hd_yX8_isAhead ⟨Nat.le_of_ble_eq_true rfl, Nat.le_of_ble_eq_true rfl⟩ rfl rfl hl (Nat.le_of_ble_eq_true rfl) dX8_ahead_31 ⟨Nat.le_of_ble_eq_true rfl, Nat.le_of_ble_eq_true rfl⟩ (fun H locs hH => ?_)
      refine lv_if_eq (tgt := 41) hx hb dX8_ahead_34 rfl (fun c_54 => ?_) (fun c_54 => ?_)
      · have hF := itp c_54 hF
        refine lv_iconst (v := 0) hx hb dX8_ahead_41 syi_0 ?_
        obtain ⟨rfl, rfl, rfl⟩ := re3 hF
        exact hret _ _ _ _ hH dX8_ahead_42
      · have hF := itn c_54 hF
        refine lv_iconst (v := 1) hx hb dX8_ahead_37 syi_1 ?_
        refine lv_goto (tgt := 42) hx hb dX8_ahead_38 rfl ?_
        obtain ⟨rfl, rfl, rfl⟩ := re3 hF
        exact hret _ _ _ _ hH dX8_ahead_42
    · have hF := itp c_50 hF
      refine lv_bipush (v := (-2)) hx hb dX8_ahead_21 syb_m2 ?_
      obtain ⟨rfl, rfl, rfl⟩ := re3 hF
      exact hret _ _ _ _ hH dX8_ahead_23
abbrev rm_X8_isRing : Room := { frames := 3, cells := 0, slots := 0, locals := 67 }
set_option maxHeartbeats 4000000 in
theorem met_X8_isRing {l : Launch} {D : va_G} {ad : Nat → Nat} {cA : Nat → ClassId} {a_all : Nat → Int32} {a_hasImage : Nat → Int32} {a_tape : Nat → Int32} {a_fresh : Nat → Int32} {v_taped : Int32} {v_at : Int32} {v_behind : Int32} {v_size : Int32} {v_kind : Int32} {v_number : Int32} {v_wrong : Int32} {v_wrongAt : Int32} {v_depth : Int32} {v_steps : Int32} {v_faultKind : Int32} {v_faultPlace : Int32} {a_on : Nat → Int32} {a_many : Nat → Int32} {v_moved : Int32} {a_pile : Nat → Int32} {v_aside : Int32} {v_judgedBy : Int32} {v_judgedYear : Int32} {a_leastCost : Nat → Int32} {a_matched : Nat → Int32} {a_order : Nat → Int32} {a_lies : Nat → Int64} {a_movedThen : Nat → Int32} {a_yearTable : Nat → Int32} {a_yearMark : Nat → Int32} {a_beginTable : Nat → Int32} {a_beginMark : Nat → Int32} {v_statesTold : Int32} {v_found : Int32} {v_yearFrom : Int32} {v_mark : Int32} {v_beginsMark : Int32} {v_begins : Int32} {a_began : Nat → Int64} {v_isSpent : Int32} {a_wants : Nat → Int32} {a_rowSort : Nat → Int32} {a_rowMany : Nat → Int32} {a_numbers : Nat → Int64}  {p1 : Int32} {res : Bool} {ak av fo : Nat} {E : EvT} (hE : EvM E ak av fo) (hF : FX8_isRing a_all a_matched p1 = some res) : MM l yX8_isRing (ws_ yX8_isRing cX8_isRing 7 (Option.some Jvm.ClassFile.FieldType.boolean)) rm_X8_isRing D vwA (mT cA) E [.ref (ad 0), .int p1] (mW ad cA a_all a_hasImage a_tape a_fresh v_taped v_at v_behind v_size v_kind v_number v_wrong v_wrongAt v_depth v_steps v_faultKind v_faultPlace a_on a_many v_moved a_pile v_aside v_judgedBy v_judgedYear a_leastCost a_matched a_order a_lies a_movedThen a_yearTable a_yearMark a_beginTable a_beginMark v_statesTold v_found v_yearFrom v_mark v_beginsMark v_begins a_began v_isSpent a_wants a_rowSort a_rowMany a_numbers) (mW ad cA a_all a_hasImage a_tape a_fresh v_taped v_at v_behind v_size v_kind v_number v_wrong v_wrongAt v_depth v_steps v_faultKind v_faultPlace a_on a_many v_moved a_pile v_aside v_judgedBy v_judgedYear a_leastCost a_matched a_order a_lies a_movedThen a_yearTable a_yearMark a_beginTable a_beginMark v_statesTold v_found v_yearFrom v_mark v_beginsMark v_begins a_began v_isSpent a_wants a_rowSort a_rowMany a_numbers) (some (.int (b2i res))) := by
  refine MM.ofZ (by decide) (Nat.le_of_ble_eq_true rfl) ?_
  intro p e s m args below meth c Q A hX hK hE0 hret H locs ls hH hl
  have hX : CallFix p m c cX8_isRing 7 s args lw_all RX8 := hX
  have hx := hX.1
  have hb := hX.2.1
  have hown := hX.2.2.2.1
  have hts := hX.2.2.2.2
  have hl : lv_has ls 7 [(0, .ref (ad 0)), (1, .int p1)] := hl
  have hEv := hE.1
  delta FX8_isRing at hF
  refine lv_iload_n hx hb dX8_isRing_0 rfl (lv_at hl 1 rfl) ?_
  refine lv_istore_n (lv' := [(2, .int p1), (0, .ref (ad 0)), (1, .int p1)]) hx hb dX8_isRing_1 rfl hl (by decide) rfl (fun ls hl => ?_)
  refine lv_iconst (v := 1) hx hb dX8_isRing_2 syi_1 ?_
  refine lv_istore_n (lv' := [(3, .int 1), (2, .int p1), (0, .ref (ad 0)), (1, .int p1)]) hx hb dX8_isRing_3 rfl hl (by decide) rfl (fun ls hl => ?_)
  obtain ⟨xx4, ee4, kk4_0⟩ := bd1L hF
  have k4_0 : ∀ (x_140 : Int32), xx4 = x_140 → ∀ (H : Heap) (locs : List Loc) (ls : Array Slot), MH D vwA A s.heap (mW ad cA a_all a_hasImage a_tape a_fresh v_taped v_at v_behind v_size v_kind v_number v_wrong v_wrongAt v_depth v_steps v_faultKind v_faultPlace a_on a_many v_moved a_pile v_aside v_judgedBy v_judgedYear a_leastCost a_matched a_order a_lies a_movedThen a_yearTable a_yearMark a_beginTable a_beginMark v_statesTold v_found v_yearFrom v_mark v_beginsMark v_begins a_began v_isSpent a_wants a_rowSort a_rowMany a_numbers) H locs → lv_has ls 7 [(2, .int x_140)] → W p l e rm_X8_isRing s m args below meth c H locs 0 0 Q (F0 m 112 ls []) := by
    intro x_140 hxx H locs ls hH hl
    have hF := un1e (kk4_0 x_140 hxx)
    refine lv_iload_n hx hb dX8_isRing_112 rfl (lv_at hl 0 rfl) ?_
    refine lv_if_eq (tgt := 120) hx hb dX8_isRing_113 rfl (fun c_141 => ?_) (fun c_141 => ?_)
    · have hF := itp c_141 hF
      refine lv_iconst (v := 0) hx hb dX8_isRing_120 syi_0 ?_
      obtain rfl := Option.some.inj hF
      exact hret _ _ _ _ hH dX8_isRing_121
    · have hF := itn c_141 hF
      refine lv_iconst (v := 1) hx hb dX8_isRing_116 syi_1 ?_
      refine lv_goto (tgt := 121) hx hb dX8_isRing_117 rfl ?_
      obtain rfl := Option.some.inj hF
      exact hret _ _ _ _ hH dX8_isRing_121
  obtain ⟨nn4, en4⟩ := loopC_some ee4
  have l4 : ∀ (n : Nat) (x_92 : Int32) (x_93 : Int32), loopN (fun s => FX8_isRing_b4 a_all a_matched s.1 s.2) n (x_92, x_93) = some xx4 → ∀ (H : Heap) (locs : List Loc) (ls : Array Slot), MH D vwA A s.heap (mW ad cA a_all a_hasImage a_tape a_fresh v_taped v_at v_behind v_size v_kind v_number v_wrong v_wrongAt v_depth v_steps v_faultKind v_faultPlace a_on a_many v_moved a_pile v_aside v_judgedBy v_judgedYear a_leastCost a_matched a_order a_lies a_movedThen a_yearTable a_yearMark a_beginTable a_beginMark v_statesTold v_found v_yearFrom v_mark v_beginsMark v_begins a_began v_isSpent a_wants a_rowSort a_rowMany a_numbers) H locs → lv_has ls 7 [(0, .ref (ad 0)), (2, .int x_92), (3, .int x_93)] → W p l e rm_X8_isRing s m args below meth c H locs 0 0 Q (F0 m 4 ls []) := by
    intro n
    induction n with
    | zero =>
      intro x_92 x_93 hN
      exact absurd hN loopN_zero
    | succ n ih =>
      intro x_92 x_93 hN H locs ls hH hl
      obtain ⟨yy4, hB4, hY4⟩ := loopN_succ hN
      have hF : FX8_isRing_b4 a_all a_matched x_92 x_93 = some yy4 := hB4
      delta FX8_isRing_b4 at hF
      refine lv_iload_n hx hb dX8_isRing_4 rfl (lv_at hl 2 rfl) ?_
      refine lv_if_eq (tgt := 112) hx hb dX8_isRing_5 rfl (fun c_94 => ?_) (fun c_94 => ?_)
      · have hF := itp c_94 hF
        obtain rfl := Option.some.inj hF
        exact k4_0 x_92 hY4 _ _ _ hH (lv_sub hl [1] rfl)
      · have hF := itn c_94 hF
        refine lv_iconst (v := 0) hx hb dX8_isRing_8 syi_0 ?_
        refine lv_istore_n (lv' := [(3, .int 0), (0, .ref (ad 0)), (2, .int x_92)]) hx hb dX8_isRing_9 rfl hl (by decide) rfl (fun ls hl => ?_)
        refine lv_iconst (v := 0) hx hb dX8_isRing_10 syi_0 ?_
        refine lv_istore (lv' := [(4, .int 0), (3, .int 0), (0, .ref (ad 0)), (2, .int x_92)]) hx hb dX8_isRing_11 hl (by decide) rfl (fun ls hl => ?_)
        obtain ⟨xx13, ee13, kk13_0⟩ := bd2L hF
        have k13_0 : ∀ (x_138 : Int32) (x_139 : Int32), xx13 = (x_138, x_139) → ∀ (H : Heap) (locs : List Loc) (ls : Array Slot), MH D vwA A s.heap (mW ad cA a_all a_hasImage a_tape a_fresh v_taped v_at v_behind v_size v_kind v_number v_wrong v_wrongAt v_depth v_steps v_faultKind v_faultPlace a_on a_many v_moved a_pile v_aside v_judgedBy v_judgedYear a_leastCost a_matched a_order a_lies a_movedThen a_yearTable a_yearMark a_beginTable a_beginMark v_statesTold v_found v_yearFrom v_mark v_beginsMark v_begins a_began v_isSpent a_wants a_rowSort a_rowMany a_numbers) H locs → lv_has ls 7 [(0, .ref (ad 0)), (2, .int x_138), (3, .int x_139)] → W p l e rm_X8_isRing s m args below meth c H locs 0 0 Q (F0 m 109 ls []) := by
          intro x_138 x_139 hxx H locs ls hH hl
          have hF := un2e (kk13_0 (x_138, x_139) hxx)
          refine lv_goto (tgt := 4) hx hb dX8_isRing_109 rfl ?_
          obtain rfl := Option.some.inj hF
          exact ih x_138 x_139 hY4 _ _ _ hH (lv_sub hl [0, 1, 2] rfl)
        obtain ⟨nn13, en13⟩ := loopC_some ee13
        have l13 : ∀ (n : Nat) (x_115 : Int32) (x_116 : Int32) (x_117 : Int32), loopN (fun s => FX8_isRing_b13 a_all a_matched s.1 s.2.1 s.2.2) n (x_115, x_116, x_117) = some xx13 → ∀ (H : Heap) (locs : List Loc) (ls : Array Slot), MH D vwA A s.heap (mW ad cA a_all a_hasImage a_tape a_fresh v_taped v_at v_behind v_size v_kind v_number v_wrong v_wrongAt v_depth v_steps v_faultKind v_faultPlace a_on a_many v_moved a_pile v_aside v_judgedBy v_judgedYear a_leastCost a_matched a_order a_lies a_movedThen a_yearTable a_yearMark a_beginTable a_beginMark v_statesTold v_found v_yearFrom v_mark v_beginsMark v_begins a_began v_isSpent a_wants a_rowSort a_rowMany a_numbers) H locs → lv_has ls 7 [(0, .ref (ad 0)), (2, .int x_115), (3, .int x_116), (4, .int x_117)] → W p l e rm_X8_isRing s m args below meth c H locs 0 0 Q (F0 m 13 ls []) := by
          intro n
          induction n with
          | zero =>
            intro x_115 x_116 x_117 hN
            exact absurd hN loopN_zero
          | succ n ih =>
            intro x_115 x_116 x_117 hN H locs ls hH hl
            obtain ⟨yy13, hB13, hY13⟩ := loopN_succ hN
            have hF : FX8_isRing_b13 a_all a_matched x_115 x_116 x_117 = some yy13 := hB13
            delta FX8_isRing_b13 at hF
            refine lv_iload hx hb dX8_isRing_13 (lv_at hl 3 rfl) ?_
            refine lv_bipush (v := 8) hx hb dX8_isRing_15 syb_8 ?_
            refine lv_icmp_ge (tgt := 109) hx hb dX8_isRing_17 rfl (fun c_118 => ?_) (fun c_118 => ?_)
            · have hF := itp c_118 hF
              obtain rfl := Option.some.inj hF
              exact k13_0 x_115 x_116 hY13 _ _ _ hH (lv_sub hl [0, 1, 2] rfl)
            · have hF := itn c_118 hF
              refine lv_iload_n hx hb dX8_isRing_20 rfl (lv_at hl 1 rfl) ?_
              refine lv_iload hx hb dX8_isRing_21 (lv_at hl 3 rfl) ?_
              refine lv_ishr hx hb dX8_isRing_23 ?_
              refine lv_iconst (v := 1) hx hb dX8_isRing_24 syi_1 ?_
              refine lv_iand hx hb dX8_isRing_25 ?_
              have j103 : ∀ (x_136 : Int32) (x_137 : Int32), FX8_isRing_j103 x_117 x_136 x_137 = some yy13 → ∀ (H : Heap) (locs : List Loc) (ls : Array Slot), MH D vwA A s.heap (mW ad cA a_all a_hasImage a_tape a_fresh v_taped v_at v_behind v_size v_kind v_number v_wrong v_wrongAt v_depth v_steps v_faultKind v_faultPlace a_on a_many v_moved a_pile v_aside v_judgedBy v_judgedYear a_leastCost a_matched a_order a_lies a_movedThen a_yearTable a_yearMark a_beginTable a_beginMark v_statesTold v_found v_yearFrom v_mark v_beginsMark v_begins a_began v_isSpent a_wants a_rowSort a_rowMany a_numbers) H locs → lv_has ls 7 [(0, .ref (ad 0)), (2, .int x_136), (3, .int x_137), (4, .int x_117)] → W p l e rm_X8_isRing s m args below meth c H locs 0 0 Q (F0 m 103 ls []) := by
                intro x_136 x_137 hF H locs ls hH hl
                delta FX8_isRing_j103 at hF
                refine lv_iinc (v := (x_117 + 1)) (lv' := [(4, .int (x_117 + 1)), (0, .ref (ad 0)), (2, .int x_136), (3, .int x_137)]) hx hb dX8_isRing_103 hl (k := 3) rfl (syc syi_1) (by decide) rfl (fun ls hl => ?_)
                refine lv_goto (tgt := 13) hx hb dX8_isRing_106 rfl ?_
                obtain rfl := Option.some.inj hF
                exact ih x_136 x_137 (x_117 + 1) hY13 _ _ _ hH (lv_sub hl [1, 2, 3, 0] rfl)
              refine lv_if_ne (tgt := 32) hx hb dX8_isRing_26 rfl (fun c_119 => ?_) (fun c_119 => ?_)
              · have hF := itn c_119 hF
                refine lv_iconst (v := 0) hx hb dX8_isRing_32 syi_0 ?_
                refine lv_istore (lv' := [(5, .int 0), (0, .ref (ad 0)), (2, .int x_115), (3, .int x_116), (4, .int x_117)]) hx hb dX8_isRing_33 hl (by decide) rfl (fun ls hl => ?_)
                refine lv_iconst (v := 0) hx hb dX8_isRing_35 syi_0 ?_
                refine lv_istore (lv' := [(6, .int 0), (5, .int 0), (0, .ref (ad 0)), (2, .int x_115), (3, .int x_116), (4, .int x_117)]) hx hb dX8_isRing_36 hl (by decide) rfl (fun ls hl => ?_)
                obtain ⟨xx38, ee38, kk38_0⟩ := bd1L hF
                have k38_0 : ∀ (x_134 : Int32), xx38 = x_134 → ∀ (H : Heap) (locs : List Loc) (ls : Array Slot), MH D vwA A s.heap (mW ad cA a_all a_hasImage a_tape a_fresh v_taped v_at v_behind v_size v_kind v_number v_wrong v_wrongAt v_depth v_steps v_faultKind v_faultPlace a_on a_many v_moved a_pile v_aside v_judgedBy v_judgedYear a_leastCost a_matched a_order a_lies a_movedThen a_yearTable a_yearMark a_beginTable a_beginMark v_statesTold v_found v_yearFrom v_mark v_beginsMark v_begins a_began v_isSpent a_wants a_rowSort a_rowMany a_numbers) H locs → lv_has ls 7 [(0, .ref (ad 0)), (2, .int x_115), (3, .int x_116), (4, .int x_117), (5, .int x_134)] → W p l e rm_X8_isRing s m args below meth c H locs 0 0 Q (F0 m 84 ls []) := by
                  intro x_134 hxx H locs ls hH hl
                  have hF := un1e (kk38_0 x_134 hxx)
                  refine lv_iload hx hb dX8_isRing_84 (lv_at hl 4 rfl) ?_
                  refine lv_if_eq (tgt := 92) hx hb dX8_isRing_86 rfl (fun c_135 => ?_) (fun c_135 => ?_)
                  · have hF := itp c_135 hF
                    refine lv_iload_n hx hb dX8_isRing_92 rfl (lv_at hl 1 rfl) ?_
                    refine lv_iconst (v := 1) hx hb dX8_isRing_93 syi_1 ?_
                    refine lv_iload hx hb dX8_isRing_94 (lv_at hl 3 rfl) ?_
                    refine lv_ishl hx hb dX8_isRing_96 ?_
                    refine lv_iconst (v := (-1)) hx hb dX8_isRing_97 syi_m1 ?_
                    refine lv_ixor hx hb dX8_isRing_98 ?_
                    refine lv_iand hx hb dX8_isRing_99 ?_
                    refine lv_istore_n (lv' := [(2, .int (x_115 &&& (((1 : Int32) <<< (x_117 &&& 31)) ^^^ (-1)))), (0, .ref (ad 0)), (3, .int x_116), (4, .int x_117), (5, .int x_134)]) hx hb dX8_isRing_100 rfl hl (by decide) rfl (fun ls hl => ?_)
                    refine lv_iconst (v := 1) hx hb dX8_isRing_101 syi_1 ?_
                    refine lv_istore_n (lv' := [(3, .int 1), (2, .int (x_115 &&& (((1 : Int32) <<< (x_117 &&& 31)) ^^^ (-1)))), (0, .ref (ad 0)), (4, .int x_117), (5, .int x_134)]) hx hb dX8_isRing_102 rfl hl (by decide) rfl (fun ls hl => ?_)
                    exact j103 (x_115 &&& (((1 : Int32) <<< (x_117 &&& 31)) ^^^ (-1))) 1 hF _ _ _ hH (lv_sub hl [2, 1, 0, 3] rfl)
                  · have hF := itn c_135 hF
                    refine lv_goto (tgt := 103) hx hb dX8_isRing_89 rfl ?_
                    exact j103 x_115 x_116 hF _ _ _ hH (lv_sub hl [0, 1, 2, 3] rfl)
                obtain ⟨nn38, en38⟩ := loopC_some ee38
                have l38 : ∀ (n : Nat) (x_126 : Int32) (x_127 : Int32), loopN (fun s => FX8_isRing_b38 a_all a_matched x_115 x_117 s.1 s.2) n (x_126, x_127) = some xx38 → ∀ (H : Heap) (locs : List Loc) (ls : Array Slot), MH D vwA A s.heap (mW ad cA a_all a_hasImage a_tape a_fresh v_taped v_at v_behind v_size v_kind v_number v_wrong v_wrongAt v_depth v_steps v_faultKind v_faultPlace a_on a_many v_moved a_pile v_aside v_judgedBy v_judgedYear a_leastCost a_matched a_order a_lies a_movedThen a_yearTable a_yearMark a_beginTable a_beginMark v_statesTold v_found v_yearFrom v_mark v_beginsMark v_begins a_began v_isSpent a_wants a_rowSort a_rowMany a_numbers) H locs → lv_has ls 7 [(0, .ref (ad 0)), (2, .int x_115), (3, .int x_116), (4, .int x_117), (5, .int x_126), (6, .int x_127)] → W p l e rm_X8_isRing s m args below meth c H locs 0 0 Q (F0 m 38 ls []) := by
                  intro n
                  induction n with
                  | zero =>
                    intro x_126 x_127 hN
                    exact absurd hN loopN_zero
                  | succ n ih =>
                    intro x_126 x_127 hN H locs ls hH hl
                    obtain ⟨yy38, hB38, hY38⟩ := loopN_succ hN
                    have hF : FX8_isRing_b38 a_all a_matched x_115 x_117 x_126 x_127 = some yy38 := hB38
                    delta FX8_isRing_b38 at hF
                    refine lv_iload hx hb dX8_isRing_38 (lv_at hl 5 rfl) ?_
                    refine lv_bipush (v := 8) hx hb dX8_isRing_40 syb_8 ?_
                    refine lv_icmp_ge (tgt := 84) hx hb dX8_isRing_42 rfl (fun c_128 => ?_) (fun c_128 => ?_)
                    · have hF := itp c_128 hF
                      obtain rfl := Option.some.inj hF
                      exact k38_0 x_126 hY38 _ _ _ hH (lv_sub hl [0, 1, 2, 3, 4] rfl)
                    · have hF := itn c_128 hF
                      refine lv_iload hx hb dX8_isRing_45 (lv_at hl 4 rfl) ?_
                      have j76 : ∀ (x_133 : Int32), FX8_isRing_j76 x_127 x_133 = some yy38 → ∀ (H : Heap) (locs : List Loc) (ls : Array Slot), MH D vwA A s.heap (mW ad cA a_all a_hasImage a_tape a_fresh v_taped v_at v_behind v_size v_kind v_number v_wrong v_wrongAt v_depth v_steps v_faultKind v_faultPlace a_on a_many v_moved a_pile v_aside v_judgedBy v_judgedYear a_leastCost a_matched a_order a_lies a_movedThen a_yearTable a_yearMark a_beginTable a_beginMark v_statesTold v_found v_yearFrom v_mark v_beginsMark v_begins a_began v_isSpent a_wants a_rowSort a_rowMany a_numbers) H locs → lv_has ls 7 [(0, .ref (ad 0)), (2, .int x_115), (3, .int x_116), (4, .int x_117), (6, .int x_127)] → W p l e rm_X8_isRing s m args below meth c H locs 0 0 Q (F0 m 76 ls [.int x_133]) := by
                        intro x_133 hF H locs ls hH hl
                        delta FX8_isRing_j76 at hF
                        refine lv_istore (lv' := [(5, .int x_133), (0, .ref (ad 0)), (2, .int x_115), (3, .int x_116), (4, .int x_117), (6, .int x_127)]) hx hb dX8_isRing_76 hl (by decide) rfl (fun ls hl => ?_)
                        refine lv_iinc (v := (x_127 + 1)) (lv' := [(6, .int (x_127 + 1)), (5, .int x_133), (0, .ref (ad 0)), (2, .int x_115), (3, .int x_116), (4, .int x_117)]) hx hb dX8_isRing_78 hl (k := 5) rfl (syc syi_1) (by decide) rfl (fun ls hl => ?_)
                        refine lv_goto (tgt := 38) hx hb dX8_isRing_81 rfl ?_
                        obtain rfl := Option.some.inj hF
                        exact ih x_133 (x_127 + 1) hY38 _ _ _ hH (lv_sub hl [2, 3, 4, 5, 1, 0] rfl)
                      have j71 : FX8_isRing_j71 x_127 = some yy38 → ∀ (H : Heap) (locs : List Loc) (ls : Array Slot), MH D vwA A s.heap (mW ad cA a_all a_hasImage a_tape a_fresh v_taped v_at v_behind v_size v_kind v_number v_wrong v_wrongAt v_depth v_steps v_faultKind v_faultPlace a_on a_many v_moved a_pile v_aside v_judgedBy v_judgedYear a_leastCost a_matched a_order a_lies a_movedThen a_yearTable a_yearMark a_beginTable a_beginMark v_statesTold v_found v_yearFrom v_mark v_beginsMark v_begins a_began v_isSpent a_wants a_rowSort a_rowMany a_numbers) H locs → lv_has ls 7 [(0, .ref (ad 0)), (2, .int x_115), (3, .int x_116), (4, .int x_117), (6, .int x_127)] → W p l e rm_X8_isRing s m args below meth c H locs 0 0 Q (F0 m 71 ls []) := by
                        intro hF H locs ls hH hl
                        delta FX8_isRing_j71 at hF
                        refine lv_iconst (v := 1) hx hb dX8_isRing_71 syi_1 ?_
                        refine lv_goto (tgt := 76) hx hb dX8_isRing_72 rfl ?_
                        exact j76 1 hF _ _ _ hH (lv_sub hl [0, 1, 2, 3, 4] rfl)
                      refine lv_if_ne (tgt := 71) hx hb dX8_isRing_47 rfl (fun c_129 => ?_) (fun c_129 => ?_)
                      · have hF := itn c_129 hF
                        exact j71 hF _ _ _ hH (lv_sub hl [0, 1, 2, 3, 5] rfl)
                      · have hF := itp c_129 hF
                        refine lv_iload_n hx hb dX8_isRing_50 rfl (lv_at hl 1 rfl) ?_
                        refine lv_iload hx hb dX8_isRing_51 (lv_at hl 5 rfl) ?_
                        refine lv_ishr hx hb dX8_isRing_53 ?_
                        refine lv_iconst (v := 1) hx hb dX8_isRing_54 syi_1 ?_
                        refine lv_iand hx hb dX8_isRing_55 ?_
                        refine lv_iconst (v := 1) hx hb dX8_isRing_56 syi_1 ?_
                        have j75 : FX8_isRing_j75 x_127 = some yy38 → ∀ (H : Heap) (locs : List Loc) (ls : Array Slot), MH D vwA A s.heap (mW ad cA a_all a_hasImage a_tape a_fresh v_taped v_at v_behind v_size v_kind v_number v_wrong v_wrongAt v_depth v_steps v_faultKind v_faultPlace a_on a_many v_moved a_pile v_aside v_judgedBy v_judgedYear a_leastCost a_matched a_order a_lies a_movedThen a_yearTable a_yearMark a_beginTable a_beginMark v_statesTold v_found v_yearFrom v_mark v_beginsMark v_begins a_began v_isSpent a_wants a_rowSort a_rowMany a_numbers) H locs → lv_has ls 7 [(0, .ref (ad 0)), (2, .int x_115), (3, .int x_116), (4, .int x_117), (6, .int x_127)] → W p l e rm_X8_isRing s m args below meth c H locs 0 0 Q (F0 m 75 ls []) := by
                          intro hF H locs ls hH hl
                          delta FX8_isRing_j75 at hF
                          refine lv_iconst (v := 0) hx hb dX8_isRing_75 syi_0 ?_
                          exact j76 0 hF _ _ _ hH (lv_sub hl [0, 1, 2, 3, 4] rfl)
                        refine lv_icmp_ne (tgt := 75) hx hb dX8_isRing_57 rfl (fun c_130 => ?_) (fun c_130 => ?_)
                        · have hF := itn c_130 hF
                          exact j75 hF _ _ _ hH (lv_sub hl [0, 1, 2, 3, 5] rfl)
                        · have hF := itp c_130 hF
                          refine lv_aload_n hx hb dX8_isRing_60 rfl (lv_at hl 0 rfl) ?_
                          refine lv_iload hx hb dX8_isRing_61 (lv_at hl 5 rfl) ?_
                          refine lv_iload hx hb dX8_isRing_63 (lv_at hl 3 rfl) ?_
                          obtain ⟨b_131, he, hF⟩ := bd1e hF
                          refine mcV hX hK hEv hE0 hH (met_X8_isAhead hE he) (mrecv hK hH) gw_StoneYearModel_357 hd_yX8_isAhead ⟨Nat.le_of_ble_eq_true rfl, Nat.le_of_ble_eq_true rfl⟩ rfl rfl hl (Nat.le_of_ble_eq_true rfl) dX8_isRing_65 ⟨Nat.le_of_ble_eq_true rfl, Nat.le_of_ble_eq_true rfl⟩ (fun H locs hH => ?_)
                          refine lv_if_eq (tgt := 75) hx hb dX8_isRing_68 rfl (fun c_132 => ?_) (fun c_132 => ?_)
                          · have hF := itp c_132 hF
                            exact j75 hF _ _ _ hH (lv_sub hl [0, 1, 2, 3, 5] rfl)
                          · have hF := itn c_132 hF
                            exact j71 hF _ _ _ hH (lv_sub hl [0, 1, 2, 3, 5] rfl)
                exact l38 nn38 0 0 en38 _ _ _ hH (lv_sub hl [2, 3, 4, 5, 1, 0] rfl)
              · have hF := itp c_119 hF
                refine lv_goto (tgt := 103) hx hb dX8_isRing_29 rfl ?_
                exact j103 x_115 x_116 hF _ _ _ hH (lv_sub hl [0, 1, 2, 3] rfl)
        exact l13 nn13 x_92 0 0 en13 _ _ _ hH (lv_sub hl [2, 3, 1, 0] rfl)
  exact l4 nn4 p1 1 en4 _ _ _ hH (lv_sub hl [2, 1, 0] rfl)
abbrev rm_X8_aside : Room := { frames := 4, cells := 0, slots := 0, locals := 93 }
set_option maxHeartbeats 4000000 in
theorem met_X8_aside {l : Launch} {D : va_G} {ad : Nat → Nat} {cA : Nat → ClassId} {a_all : Nat → Int32} {a_hasImage : Nat → Int32} {a_tape : Nat → Int32} {a_fresh : Nat → Int32} {v_taped : Int32} {v_at : Int32} {v_behind : Int32} {v_size : Int32} {v_kind : Int32} {v_number : Int32} {v_wrong : Int32} {v_wrongAt : Int32} {v_depth : Int32} {v_steps : Int32} {v_faultKind : Int32} {v_faultPlace : Int32} {a_on : Nat → Int32} {a_many : Nat → Int32} {v_moved : Int32} {a_pile : Nat → Int32} {v_aside : Int32} {v_judgedBy : Int32} {v_judgedYear : Int32} {a_leastCost : Nat → Int32} {a_matched : Nat → Int32} {a_order : Nat → Int32} {a_lies : Nat → Int64} {a_movedThen : Nat → Int32} {a_yearTable : Nat → Int32} {a_yearMark : Nat → Int32} {a_beginTable : Nat → Int32} {a_beginMark : Nat → Int32} {v_statesTold : Int32} {v_found : Int32} {v_yearFrom : Int32} {v_mark : Int32} {v_beginsMark : Int32} {v_begins : Int32} {a_began : Nat → Int64} {v_isSpent : Int32} {a_wants : Nat → Int32} {a_rowSort : Nat → Int32} {a_rowMany : Nat → Int32} {a_numbers : Nat → Int64}  {p1 : Int32} {res : Int32} {ra_leastCost : Nat → Int32} {ra_matched : Nat → Int32} {ak av fo : Nat} {E : EvT} (hE : EvM E ak av fo) (hF : FX8_aside a_all a_leastCost a_matched p1 = some (res, ra_leastCost, ra_matched)) : MM l yX8_aside (ws_ yX8_aside cX8_aside 5 (Option.some Jvm.ClassFile.FieldType.int)) rm_X8_aside D vwA (mT cA) E [.ref (ad 0), .int p1] (mW ad cA a_all a_hasImage a_tape a_fresh v_taped v_at v_behind v_size v_kind v_number v_wrong v_wrongAt v_depth v_steps v_faultKind v_faultPlace a_on a_many v_moved a_pile v_aside v_judgedBy v_judgedYear a_leastCost a_matched a_order a_lies a_movedThen a_yearTable a_yearMark a_beginTable a_beginMark v_statesTold v_found v_yearFrom v_mark v_beginsMark v_begins a_began v_isSpent a_wants a_rowSort a_rowMany a_numbers) (mW ad cA a_all a_hasImage a_tape a_fresh v_taped v_at v_behind v_size v_kind v_number v_wrong v_wrongAt v_depth v_steps v_faultKind v_faultPlace a_on a_many v_moved a_pile v_aside v_judgedBy v_judgedYear ra_leastCost ra_matched a_order a_lies a_movedThen a_yearTable a_yearMark a_beginTable a_beginMark v_statesTold v_found v_yearFrom v_mark v_beginsMark v_begins a_began v_isSpent a_wants a_rowSort a_rowMany a_numbers) (some (.int res)) := by
  refine MM.ofI (by decide) (Nat.le_of_ble_eq_true rfl) ?_
  intro p e s m args below meth c Q A hX hK hE0 hret H locs ls hH hl
  have hX : CallFix p m c cX8_aside 5 s args lw_all RX8 := hX
  have hx := hX.1
  have hb := hX.2.1
  have hown := hX.2.2.2.1
  have hts := hX.2.2.2.2
  have hl : lv_has ls 5 [(0, .ref (ad 0)), (1, .int p1)] := hl
  have hEv := hE.1
  delta FX8_aside at hF
  refine lv_aload_n hx hb dX8_aside_0 rfl (lv_at hl 0 rfl) ?_
  refine lv_iconst (v := 0) hx hb dX8_aside_1 syi_0 ?_
  refine mp_thrown hX hK hH dX8_aside_2 (fun H locs hH => ?_)
  refine lv_iload_n hx hb dX8_aside_5 rfl (lv_at hl 1 rfl) ?_
  refine lv_i2l (v := (Int32.toInt64 p1)) hx hb dX8_aside_6 rfl ?_
  refine lv_lconst (v := 0) hx hb dX8_aside_7 rfl ?_
  refine lv_lconst (v := 1) hx hb dX8_aside_8 rfl ?_
  obtain ⟨b_46, he, hF⟩ := bd1e hF
  refine mcS hX hK hEv hE0 hH (met_X8_within hE he) gw_StoneYearModel_153 hd_yX8_within ⟨Nat.le_of_ble_eq_true rfl, Nat.le_of_ble_eq_true rfl⟩ rfl rfl hl (Nat.le_of_ble_eq_true rfl) dX8_aside_9 ⟨Nat.le_of_ble_eq_true rfl, Nat.le_of_ble_eq_true rfl⟩ (fun H locs hH => ?_)
  refine lv_if_ne (tgt := 18) hx hb dX8_aside_12 rfl (fun c_47 => ?_) (fun c_47 => ?_)
  · have hF := itn c_47 hF
    refine lv_aload_n hx hb dX8_aside_18 rfl (lv_at hl 0 rfl) ?_
    obtain ⟨a_leastCost_48, a_matched_49, he, hF⟩ := bd2e hF
    refine mcV hX hK hEv hE0 hH (met_X8_matches hE he) (mrecv hK hH) gw_StoneYearModel_340 hd_yX8_matches ⟨Nat.le_of_ble_eq_true rfl, Nat.le_of_ble_eq_true rfl⟩ rfl rfl hl (Nat.le_of_ble_eq_true rfl) dX8_aside_19 ⟨Nat.le_of_ble_eq_true rfl, Nat.le_of_ble_eq_true rfl⟩ (fun H locs hH => ?_)
    refine lv_iconst (v := 0) hx hb dX8_aside_22 syi_0 ?_
    refine lv_istore_n (lv' := [(2, .int 0), (0, .ref (ad 0)), (1, .int p1)]) hx hb dX8_aside_23 rfl hl (by decide) rfl (fun ls hl => ?_)
    refine lv_iconst (v := 0) hx hb dX8_aside_24 syi_0 ?_
    refine lv_istore_n (lv' := [(3, .int 0), (2, .int 0), (0, .ref (ad 0)), (1, .int p1)]) hx hb dX8_aside_25 rfl hl (by decide) rfl (fun ls hl => ?_)
    obtain ⟨xx26, ee26, kk26_0⟩ := bd1L hF
    have k26_0 : ∀ (x_62 : Int32), xx26 = x_62 → ∀ (H : Heap) (locs : List Loc) (ls : Array Slot), MH D vwA A s.heap (mW ad cA a_all a_hasImage a_tape a_fresh v_taped v_at v_behind v_size v_kind v_number v_wrong v_wrongAt v_depth v_steps v_faultKind v_faultPlace a_on a_many v_moved a_pile v_aside v_judgedBy v_judgedYear a_leastCost_48 a_matched_49 a_order a_lies a_movedThen a_yearTable a_yearMark a_beginTable a_beginMark v_statesTold v_found v_yearFrom v_mark v_beginsMark v_begins a_began v_isSpent a_wants a_rowSort a_rowMany a_numbers) H locs → lv_has ls 5 [(0, .ref (ad 0)), (1, .int p1), (2, .int x_62)] → W p l e rm_X8_aside s m args below meth c H locs 0 0 Q (F0 m 61 ls []) := by
      intro x_62 hxx H locs ls hH hl
      have hF := un1e (kk26_0 x_62 hxx)
      refine lv_iload_n hx hb dX8_aside_61 rfl (lv_at hl 2 rfl) ?_
      refine lv_istore_n (lv' := [(3, .int x_62), (0, .ref (ad 0)), (1, .int p1), (2, .int x_62)]) hx hb dX8_aside_62 rfl hl (by decide) rfl (fun ls hl => ?_)
      refine lv_iconst (v := 0) hx hb dX8_aside_63 syi_0 ?_
      refine lv_istore (lv' := [(4, .int 0), (3, .int x_62), (0, .ref (ad 0)), (1, .int p1), (2, .int x_62)]) hx hb dX8_aside_64 hl (by decide) rfl (fun ls hl => ?_)
      obtain ⟨xx66, ee66, kk66_0⟩ := bd1L hF
      have k66_0 : ∀ (x_81 : Int32), xx66 = x_81 → ∀ (H : Heap) (locs : List Loc) (ls : Array Slot), MH D vwA A s.heap (mW ad cA a_all a_hasImage a_tape a_fresh v_taped v_at v_behind v_size v_kind v_number v_wrong v_wrongAt v_depth v_steps v_faultKind v_faultPlace a_on a_many v_moved a_pile v_aside v_judgedBy v_judgedYear a_leastCost_48 a_matched_49 a_order a_lies a_movedThen a_yearTable a_yearMark a_beginTable a_beginMark v_statesTold v_found v_yearFrom v_mark v_beginsMark v_begins a_began v_isSpent a_wants a_rowSort a_rowMany a_numbers) H locs → lv_has ls 5 [(1, .int p1), (3, .int x_81)] → W p l e rm_X8_aside s m args below meth c H locs 0 0 Q (F0 m 120 ls []) := by
        intro x_81 hxx H locs ls hH hl
        have hF := un1e (kk66_0 x_81 hxx)
        refine lv_iload_n hx hb dX8_aside_120 rfl (lv_at hl 0 rfl) ?_
        refine lv_if_ne (tgt := 131) hx hb dX8_aside_121 rfl (fun c_82 => ?_) (fun c_82 => ?_)
        · have hF := itn c_82 hF
          refine lv_iload_n hx hb dX8_aside_131 rfl (lv_at hl 1 rfl) ?_
          obtain ⟨rfl, rfl, rfl⟩ := re3 hF
          exact hret _ _ _ _ hH dX8_aside_132
        · have hF := itp c_82 hF
          refine lv_iload_n hx hb dX8_aside_124 rfl (lv_at hl 1 rfl) ?_
          obtain ⟨x_83, he, hF⟩ := bd1e hF
          refine mcS hX hK hEv hE0 hH (met_X8_bitsOf hE he) gw_StoneYearModel_247 hd_yX8_bitsOf ⟨Nat.le_of_ble_eq_true rfl, Nat.le_of_ble_eq_true rfl⟩ rfl rfl hl (Nat.le_of_ble_eq_true rfl) dX8_aside_125 ⟨Nat.le_of_ble_eq_true rfl, Nat.le_of_ble_eq_true rfl⟩ (fun H locs hH => ?_)
          refine lv_goto (tgt := 132) hx hb dX8_aside_128 rfl ?_
          obtain ⟨rfl, rfl, rfl⟩ := re3 hF
          exact hret _ _ _ _ hH dX8_aside_132
      obtain ⟨nn66, en66⟩ := loopC_some ee66
      have l66 : ∀ (n : Nat) (x_71 : Int32) (x_72 : Int32), loopN (fun s => FX8_aside_b66 a_all a_matched_49 x_62 s.1 s.2) n (x_71, x_72) = some xx66 → ∀ (H : Heap) (locs : List Loc) (ls : Array Slot), MH D vwA A s.heap (mW ad cA a_all a_hasImage a_tape a_fresh v_taped v_at v_behind v_size v_kind v_number v_wrong v_wrongAt v_depth v_steps v_faultKind v_faultPlace a_on a_many v_moved a_pile v_aside v_judgedBy v_judgedYear a_leastCost_48 a_matched_49 a_order a_lies a_movedThen a_yearTable a_yearMark a_beginTable a_beginMark v_statesTold v_found v_yearFrom v_mark v_beginsMark v_begins a_began v_isSpent a_wants a_rowSort a_rowMany a_numbers) H locs → lv_has ls 5 [(0, .ref (ad 0)), (1, .int p1), (2, .int x_62), (3, .int x_71), (4, .int x_72)] → W p l e rm_X8_aside s m args below meth c H locs 0 0 Q (F0 m 66 ls []) := by
        intro n
        induction n with
        | zero =>
          intro x_71 x_72 hN
          exact absurd hN loopN_zero
        | succ n ih =>
          intro x_71 x_72 hN H locs ls hH hl
          obtain ⟨yy66, hB66, hY66⟩ := loopN_succ hN
          have hF : FX8_aside_b66 a_all a_matched_49 x_62 x_71 x_72 = some yy66 := hB66
          delta FX8_aside_b66 at hF
          refine lv_iload hx hb dX8_aside_66 (lv_at hl 4 rfl) ?_
          refine lv_sipush (v := 256) hx hb dX8_aside_68 sys_256 ?_
          refine lv_icmp_ge (tgt := 120) hx hb dX8_aside_71 rfl (fun c_73 => ?_) (fun c_73 => ?_)
          · have hF := itp c_73 hF
            obtain rfl := Option.some.inj hF
            exact k66_0 x_71 hY66 _ _ _ hH (lv_sub hl [1, 3] rfl)
          · have hF := itn c_73 hF
            refine lv_iload hx hb dX8_aside_74 (lv_at hl 4 rfl) ?_
            refine lv_iload_n hx hb dX8_aside_76 rfl (lv_at hl 2 rfl) ?_
            refine lv_iconst (v := (-1)) hx hb dX8_aside_77 syi_m1 ?_
            refine lv_ixor hx hb dX8_aside_78 ?_
            refine lv_iand hx hb dX8_aside_79 ?_
            have j114 : ∀ (x_80 : Int32), FX8_aside_j114 x_72 x_80 = some yy66 → ∀ (H : Heap) (locs : List Loc) (ls : Array Slot), MH D vwA A s.heap (mW ad cA a_all a_hasImage a_tape a_fresh v_taped v_at v_behind v_size v_kind v_number v_wrong v_wrongAt v_depth v_steps v_faultKind v_faultPlace a_on a_many v_moved a_pile v_aside v_judgedBy v_judgedYear a_leastCost_48 a_matched_49 a_order a_lies a_movedThen a_yearTable a_yearMark a_beginTable a_beginMark v_statesTold v_found v_yearFrom v_mark v_beginsMark v_begins a_began v_isSpent a_wants a_rowSort a_rowMany a_numbers) H locs → lv_has ls 5 [(0, .ref (ad 0)), (1, .int p1), (2, .int x_62), (3, .int x_80), (4, .int x_72)] → W p l e rm_X8_aside s m args below meth c H locs 0 0 Q (F0 m 114 ls []) := by
              intro x_80 hF H locs ls hH hl
              delta FX8_aside_j114 at hF
              refine lv_iinc (v := (x_72 + 1)) (lv' := [(4, .int (x_72 + 1)), (0, .ref (ad 0)), (1, .int p1), (2, .int x_62), (3, .int x_80)]) hx hb dX8_aside_114 hl (k := 4) rfl (syc syi_1) (by decide) rfl (fun ls hl => ?_)
              refine lv_goto (tgt := 66) hx hb dX8_aside_117 rfl ?_
              obtain rfl := Option.some.inj hF
              exact ih x_80 (x_72 + 1) hY66 _ _ _ hH (lv_sub hl [1, 2, 3, 4, 0] rfl)
            refine lv_if_ne (tgt := 114) hx hb dX8_aside_80 rfl (fun c_74 => ?_) (fun c_74 => ?_)
            · have hF := itn c_74 hF
              exact j114 x_71 hF _ _ _ hH (lv_sub hl [0, 1, 2, 3, 4] rfl)
            · have hF := itp c_74 hF
              refine lv_iload hx hb dX8_aside_83 (lv_at hl 4 rfl) ?_
              obtain ⟨x_75, he, hF⟩ := bd1e hF
              refine mcS hX hK hEv hE0 hH (met_X8_bitsOf hE he) gw_StoneYearModel_247 hd_yX8_bitsOf ⟨Nat.le_of_ble_eq_true rfl, Nat.le_of_ble_eq_true rfl⟩ rfl rfl hl (Nat.le_of_ble_eq_true rfl) dX8_aside_85 ⟨Nat.le_of_ble_eq_true rfl, Nat.le_of_ble_eq_true rfl⟩ (fun H locs hH => ?_)
              refine lv_iload_n hx hb dX8_aside_88 rfl (lv_at hl 3 rfl) ?_
              obtain ⟨x_76, he, hF⟩ := bd1e hF
              refine mcS hX hK hEv hE0 hH (met_X8_bitsOf hE he) gw_StoneYearModel_247 hd_yX8_bitsOf ⟨Nat.le_of_ble_eq_true rfl, Nat.le_of_ble_eq_true rfl⟩ rfl rfl hl (Nat.le_of_ble_eq_true rfl) dX8_aside_89 ⟨Nat.le_of_ble_eq_true rfl, Nat.le_of_ble_eq_true rfl⟩ (fun H locs hH => ?_)
              refine lv_icmp_ge (tgt := 114) hx hb dX8_aside_92 rfl (fun c_77 => ?_) (fun c_77 => ?_)
              · have hF := itp c_77 hF
                exact j114 x_71 hF _ _ _ hH (lv_sub hl [0, 1, 2, 3, 4] rfl)
              · have hF := itn c_77 hF
                refine lv_aload_n hx hb dX8_aside_95 rfl (lv_at hl 0 rfl) ?_
                refine lv_iload_n hx hb dX8_aside_96 rfl (lv_at hl 2 rfl) ?_
                refine lv_iload hx hb dX8_aside_97 (lv_at hl 4 rfl) ?_
                refine lv_iconst (v := (-1)) hx hb dX8_aside_99 syi_m1 ?_
                refine lv_ixor hx hb dX8_aside_100 ?_
                refine lv_iand hx hb dX8_aside_101 ?_
                obtain ⟨b_78, he, hF⟩ := bd1e hF
                refine mcV hX hK hEv hE0 hH (met_X8_isRing hE he) (mrecv hK hH) gw_StoneYearModel_360 hd_yX8_isRing ⟨Nat.le_of_ble_eq_true rfl, Nat.le_of_ble_eq_true rfl⟩ rfl rfl hl (Nat.le_of_ble_eq_true rfl) dX8_aside_102 ⟨Nat.le_of_ble_eq_true rfl, Nat.le_of_ble_eq_true rfl⟩ (fun H locs hH => ?_)
                refine lv_if_eq (tgt := 111) hx hb dX8_aside_105 rfl (fun c_79 => ?_) (fun c_79 => ?_)
                · have hF := itp c_79 hF
                  refine lv_iload hx hb dX8_aside_111 (lv_at hl 4 rfl) ?_
                  refine lv_istore_n (lv' := [(3, .int x_72), (0, .ref (ad 0)), (1, .int p1), (2, .int x_62), (4, .int x_72)]) hx hb dX8_aside_113 rfl hl (by decide) rfl (fun ls hl => ?_)
                  exact j114 x_72 hF _ _ _ hH (lv_sub hl [1, 2, 3, 0, 4] rfl)
                · have hF := itn c_79 hF
                  refine lv_goto (tgt := 114) hx hb dX8_aside_108 rfl ?_
                  exact j114 x_71 hF _ _ _ hH (lv_sub hl [0, 1, 2, 3, 4] rfl)
      exact l66 nn66 x_62 0 en66 _ _ _ hH (lv_sub hl [2, 3, 4, 1, 0] rfl)
    obtain ⟨nn26, en26⟩ := loopC_some ee26
    have l26 : ∀ (n : Nat) (x_55 : Int32) (x_56 : Int32), loopN (fun s => FX8_aside_b26 a_all a_matched_49 s.1 s.2) n (x_55, x_56) = some xx26 → ∀ (H : Heap) (locs : List Loc) (ls : Array Slot), MH D vwA A s.heap (mW ad cA a_all a_hasImage a_tape a_fresh v_taped v_at v_behind v_size v_kind v_number v_wrong v_wrongAt v_depth v_steps v_faultKind v_faultPlace a_on a_many v_moved a_pile v_aside v_judgedBy v_judgedYear a_leastCost_48 a_matched_49 a_order a_lies a_movedThen a_yearTable a_yearMark a_beginTable a_beginMark v_statesTold v_found v_yearFrom v_mark v_beginsMark v_begins a_began v_isSpent a_wants a_rowSort a_rowMany a_numbers) H locs → lv_has ls 5 [(0, .ref (ad 0)), (1, .int p1), (2, .int x_55), (3, .int x_56)] → W p l e rm_X8_aside s m args below meth c H locs 0 0 Q (F0 m 26 ls []) := by
      intro n
      induction n with
      | zero =>
        intro x_55 x_56 hN
        exact absurd hN loopN_zero
      | succ n ih =>
        intro x_55 x_56 hN H locs ls hH hl
        obtain ⟨yy26, hB26, hY26⟩ := loopN_succ hN
        have hF : FX8_aside_b26 a_all a_matched_49 x_55 x_56 = some yy26 := hB26
        delta FX8_aside_b26 at hF
        refine lv_iload_n hx hb dX8_aside_26 rfl (lv_at hl 3 rfl) ?_
        refine lv_aload_n hx hb dX8_aside_27 rfl (lv_at hl 0 rfl) ?_
        refine mg_all hX hK hH dX8_aside_28 ?_
        refine lv_bipush (v := 6) hx hb dX8_aside_31 syb_6 ?_
        obtain ⟨x_57, he, hF⟩ := bd1e hF
        refine ml_all hX hK hH he dX8_aside_33 ?_
        refine lv_icmp_ge (tgt := 61) hx hb dX8_aside_34 rfl (fun c_58 => ?_) (fun c_58 => ?_)
        · have hF := itp c_58 hF
          obtain rfl := Option.some.inj hF
          exact k26_0 x_55 hY26 _ _ _ hH (lv_sub hl [0, 1, 2] rfl)
        · have hF := itn c_58 hF
          refine lv_iload_n hx hb dX8_aside_37 rfl (lv_at hl 2 rfl) ?_
          refine lv_aload_n hx hb dX8_aside_38 rfl (lv_at hl 0 rfl) ?_
          refine lv_iload_n hx hb dX8_aside_39 rfl (lv_at hl 3 rfl) ?_
          obtain ⟨b_59, he, hF⟩ := bd1e hF
          refine mcV hX hK hEv hE0 hH (met_X8_isAway hE he) (mrecv hK hH) gw_StoneYearModel_343 hd_yX8_isAway ⟨Nat.le_of_ble_eq_true rfl, Nat.le_of_ble_eq_true rfl⟩ rfl rfl hl (Nat.le_of_ble_eq_true rfl) dX8_aside_40 ⟨Nat.le_of_ble_eq_true rfl, Nat.le_of_ble_eq_true rfl⟩ (fun H locs hH => ?_)
          have j53 : ∀ (x_61 : Int32), FX8_aside_j53 x_55 x_56 x_61 = some yy26 → ∀ (H : Heap) (locs : List Loc) (ls : Array Slot), MH D vwA A s.heap (mW ad cA a_all a_hasImage a_tape a_fresh v_taped v_at v_behind v_size v_kind v_number v_wrong v_wrongAt v_depth v_steps v_faultKind v_faultPlace a_on a_many v_moved a_pile v_aside v_judgedBy v_judgedYear a_leastCost_48 a_matched_49 a_order a_lies a_movedThen a_yearTable a_yearMark a_beginTable a_beginMark v_statesTold v_found v_yearFrom v_mark v_beginsMark v_begins a_began v_isSpent a_wants a_rowSort a_rowMany a_numbers) H locs → lv_has ls 5 [(0, .ref (ad 0)), (1, .int p1), (3, .int x_56)] → W p l e rm_X8_aside s m args below meth c H locs 0 0 Q (F0 m 53 ls [.int x_61, .int x_55]) := by
            intro x_61 hF H locs ls hH hl
            delta FX8_aside_j53 at hF
            refine lv_ior hx hb dX8_aside_53 ?_
            refine lv_istore_n (lv' := [(2, .int (x_55 ||| x_61)), (0, .ref (ad 0)), (1, .int p1), (3, .int x_56)]) hx hb dX8_aside_54 rfl hl (by decide) rfl (fun ls hl => ?_)
            refine lv_iinc (v := (x_56 + 1)) (lv' := [(3, .int (x_56 + 1)), (2, .int (x_55 ||| x_61)), (0, .ref (ad 0)), (1, .int p1)]) hx hb dX8_aside_55 hl (k := 3) rfl (syc syi_1) (by decide) rfl (fun ls hl => ?_)
            refine lv_goto (tgt := 26) hx hb dX8_aside_58 rfl ?_
            obtain rfl := Option.some.inj hF
            exact ih (x_55 ||| x_61) (x_56 + 1) hY26 _ _ _ hH (lv_sub hl [2, 3, 1, 0] rfl)
          refine lv_if_eq (tgt := 52) hx hb dX8_aside_43 rfl (fun c_60 => ?_) (fun c_60 => ?_)
          · have hF := itp c_60 hF
            refine lv_iconst (v := 0) hx hb dX8_aside_52 syi_0 ?_
            exact j53 0 hF _ _ _ hH (lv_sub hl [0, 1, 3] rfl)
          · have hF := itn c_60 hF
            refine lv_iconst (v := 1) hx hb dX8_aside_46 syi_1 ?_
            refine lv_iload_n hx hb dX8_aside_47 rfl (lv_at hl 3 rfl) ?_
            refine lv_ishl hx hb dX8_aside_48 ?_
            refine lv_goto (tgt := 53) hx hb dX8_aside_49 rfl ?_
            exact j53 ((1 : Int32) <<< (x_56 &&& 31)) hF _ _ _ hH (lv_sub hl [0, 1, 3] rfl)
    exact l26 nn26 0 0 en26 _ _ _ hH (lv_sub hl [2, 3, 1, 0] rfl)
  · have hF := itp c_47 hF
    refine lv_bipush (v := (-2)) hx hb dX8_aside_15 syb_m2 ?_
    obtain ⟨rfl, rfl, rfl⟩ := re3 hF
    exact hret _ _ _ _ hH dX8_aside_17
abbrev rm_X8_spot : Room := { frames := 0, cells := 0, slots := 0, locals := 0 }
set_option maxHeartbeats 4000000 in
theorem met_X8_spot {l : Launch} {D : va_G} {ad : Nat → Nat} {cA : Nat → ClassId} {a_all : Nat → Int32} {a_hasImage : Nat → Int32} {a_tape : Nat → Int32} {a_fresh : Nat → Int32} {v_taped : Int32} {v_at : Int32} {v_behind : Int32} {v_size : Int32} {v_kind : Int32} {v_number : Int32} {v_wrong : Int32} {v_wrongAt : Int32} {v_depth : Int32} {v_steps : Int32} {v_faultKind : Int32} {v_faultPlace : Int32} {a_on : Nat → Int32} {a_many : Nat → Int32} {v_moved : Int32} {a_pile : Nat → Int32} {v_aside : Int32} {v_judgedBy : Int32} {v_judgedYear : Int32} {a_leastCost : Nat → Int32} {a_matched : Nat → Int32} {a_order : Nat → Int32} {a_lies : Nat → Int64} {a_movedThen : Nat → Int32} {a_yearTable : Nat → Int32} {a_yearMark : Nat → Int32} {a_beginTable : Nat → Int32} {a_beginMark : Nat → Int32} {v_statesTold : Int32} {v_found : Int32} {v_yearFrom : Int32} {v_mark : Int32} {v_beginsMark : Int32} {v_begins : Int32} {a_began : Nat → Int64} {v_isSpent : Int32} {a_wants : Nat → Int32} {a_rowSort : Nat → Int32} {a_rowMany : Nat → Int32} {a_numbers : Nat → Int64}  {p0 : Int64} {p2 : Int32} {res : Int32} {ak av fo : Nat} {E : EvT} (hE : EvM E ak av fo) (hF : FX8_spot p0 p2 = some res) : MM l yX8_spot (ws_ yX8_spot cX8_spot 5 (Option.some Jvm.ClassFile.FieldType.int)) rm_X8_spot D vwA (mT cA) E [.long p0, .int p2] (mW ad cA a_all a_hasImage a_tape a_fresh v_taped v_at v_behind v_size v_kind v_number v_wrong v_wrongAt v_depth v_steps v_faultKind v_faultPlace a_on a_many v_moved a_pile v_aside v_judgedBy v_judgedYear a_leastCost a_matched a_order a_lies a_movedThen a_yearTable a_yearMark a_beginTable a_beginMark v_statesTold v_found v_yearFrom v_mark v_beginsMark v_begins a_began v_isSpent a_wants a_rowSort a_rowMany a_numbers) (mW ad cA a_all a_hasImage a_tape a_fresh v_taped v_at v_behind v_size v_kind v_number v_wrong v_wrongAt v_depth v_steps v_faultKind v_faultPlace a_on a_many v_moved a_pile v_aside v_judgedBy v_judgedYear a_leastCost a_matched a_order a_lies a_movedThen a_yearTable a_yearMark a_beginTable a_beginMark v_statesTold v_found v_yearFrom v_mark v_beginsMark v_begins a_began v_isSpent a_wants a_rowSort a_rowMany a_numbers) (some (.int res)) := by
  refine MM.ofI (by decide) (Nat.le_of_ble_eq_true rfl) ?_
  intro p e s m args below meth c Q A hX hK hE0 hret H locs ls hH hl
  have hX : CallFix p m c cX8_spot 5 s args lw_all RX8 := hX
  have hx := hX.1
  have hb := hX.2.1
  have hown := hX.2.2.2.1
  have hts := hX.2.2.2.2
  have hl : lv_has ls 5 [(0, .long p0), (2, .int p2)] := hl
  have hEv := hE.1
  delta FX8_spot at hF
  refine lv_lload_n hx hb dX8_spot_0 rfl (lv_at hl 0 rfl) ?_
  refine lv_ldc2 (v := 256) hx hb hown (hts _ q2116) dX8_spot_1 ?_
  refine lv_lmul hx hb dX8_spot_4 ?_
  refine lv_iload_n hx hb dX8_spot_5 rfl (lv_at hl 1 rfl) ?_
  refine lv_i2l (v := (Int32.toInt64 p2)) hx hb dX8_spot_6 rfl ?_
  refine lv_ladd hx hb dX8_spot_7 ?_
  refine lv_ldc2 (v := (-7046029254386353131)) hx hb hown (hts _ q2117) dX8_spot_8 ?_
  refine lv_lmul hx hb dX8_spot_11 ?_
  refine lv_lstore_n (lv' := [(3, .long (((p0 * 256) + (Int32.toInt64 p2)) * (-7046029254386353131))), (0, .long p0), (2, .int p2)]) hx hb dX8_spot_12 rfl hl (by decide) rfl (fun ls hl => ?_)
  refine lv_lload_n hx hb dX8_spot_13 rfl (lv_at hl 0 rfl) ?_
  refine lv_bipush (v := 50) hx hb dX8_spot_14 syb_50 ?_
  refine lv_lushr hx hb dX8_spot_16 rfl ?_
  refine lv_l2i (v := (Int64.toInt32 (ushL (((p0 * 256) + (Int32.toInt64 p2)) * (-7046029254386353131)) 50))) hx hb dX8_spot_17 rfl ?_
  obtain rfl := Option.some.inj hF
  exact hret _ _ _ _ hH dX8_spot_18
abbrev rm_X8_isBegun : Room := { frames := 1, cells := 0, slots := 0, locals := 24 }
set_option maxHeartbeats 4000000 in
theorem met_X8_isBegun {l : Launch} {D : va_G} {ad : Nat → Nat} {cA : Nat → ClassId} {a_all : Nat → Int32} {a_hasImage : Nat → Int32} {a_tape : Nat → Int32} {a_fresh : Nat → Int32} {v_taped : Int32} {v_at : Int32} {v_behind : Int32} {v_size : Int32} {v_kind : Int32} {v_number : Int32} {v_wrong : Int32} {v_wrongAt : Int32} {v_depth : Int32} {v_steps : Int32} {v_faultKind : Int32} {v_faultPlace : Int32} {a_on : Nat → Int32} {a_many : Nat → Int32} {v_moved : Int32} {a_pile : Nat → Int32} {v_aside : Int32} {v_judgedBy : Int32} {v_judgedYear : Int32} {a_leastCost : Nat → Int32} {a_matched : Nat → Int32} {a_order : Nat → Int32} {a_lies : Nat → Int64} {a_movedThen : Nat → Int32} {a_yearTable : Nat → Int32} {a_yearMark : Nat → Int32} {a_beginTable : Nat → Int32} {a_beginMark : Nat → Int32} {v_statesTold : Int32} {v_found : Int32} {v_yearFrom : Int32} {v_mark : Int32} {v_beginsMark : Int32} {v_begins : Int32} {a_began : Nat → Int64} {v_isSpent : Int32} {a_wants : Nat → Int32} {a_rowSort : Nat → Int32} {a_rowMany : Nat → Int32} {a_numbers : Nat → Int64}  {p1 : Int64} {res : Bool} {ra_beginTable : Nat → Int32} {ra_beginMark : Nat → Int32} {rv_begins : Int32} {ra_began : Nat → Int64} {ak av fo : Nat} {E : EvT} (hE : EvM E ak av fo) (hF : FX8_isBegun a_beginTable a_beginMark v_beginsMark v_begins a_began p1 = some (res, ra_beginTable, ra_beginMark, rv_begins, ra_began)) : MM l yX8_isBegun (ws_ yX8_isBegun cX8_isBegun 4 (Option.some Jvm.ClassFile.FieldType.boolean)) rm_X8_isBegun D vwA (mT cA) E [.ref (ad 0), .long p1] (mW ad cA a_all a_hasImage a_tape a_fresh v_taped v_at v_behind v_size v_kind v_number v_wrong v_wrongAt v_depth v_steps v_faultKind v_faultPlace a_on a_many v_moved a_pile v_aside v_judgedBy v_judgedYear a_leastCost a_matched a_order a_lies a_movedThen a_yearTable a_yearMark a_beginTable a_beginMark v_statesTold v_found v_yearFrom v_mark v_beginsMark v_begins a_began v_isSpent a_wants a_rowSort a_rowMany a_numbers) (mW ad cA a_all a_hasImage a_tape a_fresh v_taped v_at v_behind v_size v_kind v_number v_wrong v_wrongAt v_depth v_steps v_faultKind v_faultPlace a_on a_many v_moved a_pile v_aside v_judgedBy v_judgedYear a_leastCost a_matched a_order a_lies a_movedThen a_yearTable a_yearMark ra_beginTable ra_beginMark v_statesTold v_found v_yearFrom v_mark v_beginsMark rv_begins ra_began v_isSpent a_wants a_rowSort a_rowMany a_numbers) (some (.int (b2i res))) := by
  refine MM.ofZ (by decide) (Nat.le_of_ble_eq_true rfl) ?_
  intro p e s m args below meth c Q A hX hK hE0 hret H locs ls hH hl
  have hX : CallFix p m c cX8_isBegun 4 s args lw_all RX8 := hX
  have hx := hX.1
  have hb := hX.2.1
  have hown := hX.2.2.2.1
  have hts := hX.2.2.2.2
  have hl : lv_has ls 4 [(0, .ref (ad 0)), (1, .long p1)] := hl
  have hEv := hE.1
  delta FX8_isBegun at hF
  refine lv_lload_n hx hb dX8_isBegun_0 rfl (lv_at hl 1 rfl) ?_
  refine lv_iconst (v := 0) hx hb dX8_isBegun_1 syi_0 ?_
  obtain ⟨x_46, he, hF⟩ := bd1e hF
  refine mcS hX hK hEv hE0 hH (met_X8_spot hE he) gw_StoneYearModel_367 hd_yX8_spot ⟨Nat.le_of_ble_eq_true rfl, Nat.le_of_ble_eq_true rfl⟩ rfl rfl hl (Nat.le_of_ble_eq_true rfl) dX8_isBegun_2 ⟨Nat.le_of_ble_eq_true rfl, Nat.le_of_ble_eq_true rfl⟩ (fun H locs hH => ?_)
  refine lv_istore_n (lv' := [(3, .int x_46), (0, .ref (ad 0)), (1, .long p1)]) hx hb dX8_isBegun_5 rfl hl (by decide) rfl (fun ls hl => ?_)
  obtain ⟨xx6, ee6, kk6_0, kk6_1⟩ := bdS2e hF
  have k6_0 : xx6 = (.inl ()) → ∀ (H : Heap) (locs : List Loc) (ls : Array Slot), MH D vwA A s.heap (mW ad cA a_all a_hasImage a_tape a_fresh v_taped v_at v_behind v_size v_kind v_number v_wrong v_wrongAt v_depth v_steps v_faultKind v_faultPlace a_on a_many v_moved a_pile v_aside v_judgedBy v_judgedYear a_leastCost a_matched a_order a_lies a_movedThen a_yearTable a_yearMark a_beginTable a_beginMark v_statesTold v_found v_yearFrom v_mark v_beginsMark v_begins a_began v_isSpent a_wants a_rowSort a_rowMany a_numbers) H locs → lv_has ls 4 [] → W p l e rm_X8_isBegun s m args below meth c H locs 0 0 Q (F0 m 35 ls []) := by
    intro hxx H locs ls hH hl
    have hF := un0e (kk6_0 () hxx)
    refine lv_iconst (v := 0) hx hb dX8_isBegun_35 syi_0 ?_
    obtain ⟨rfl, rfl, rfl, rfl, rfl⟩ := re5 hF
    exact hret _ _ _ _ hH dX8_isBegun_36
  have k6_1 : ∀ (x_58 : Int32), xx6 = (.inr x_58) → ∀ (H : Heap) (locs : List Loc) (ls : Array Slot), MH D vwA A s.heap (mW ad cA a_all a_hasImage a_tape a_fresh v_taped v_at v_behind v_size v_kind v_number v_wrong v_wrongAt v_depth v_steps v_faultKind v_faultPlace a_on a_many v_moved a_pile v_aside v_judgedBy v_judgedYear a_leastCost a_matched a_order a_lies a_movedThen a_yearTable a_yearMark a_beginTable a_beginMark v_statesTold v_found v_yearFrom v_mark v_beginsMark v_begins a_began v_isSpent a_wants a_rowSort a_rowMany a_numbers) H locs → lv_has ls 4 [(0, .ref (ad 0)), (1, .long p1), (3, .int x_58)] → W p l e rm_X8_isBegun s m args below meth c H locs 0 0 Q (F0 m 48 ls []) := by
    intro x_58 hxx H locs ls hH hl
    have hF := un1e (kk6_1 x_58 hxx)
    refine lv_aload_n hx hb dX8_isBegun_48 rfl (lv_at hl 0 rfl) ?_
    refine mg_beginMark hX hK hH dX8_isBegun_49 ?_
    refine lv_iload_n hx hb dX8_isBegun_52 rfl (lv_at hl 2 rfl) ?_
    refine lv_aload_n hx hb dX8_isBegun_53 rfl (lv_at hl 0 rfl) ?_
    refine mg_beginsMark hX hK hH dX8_isBegun_54 ?_
    obtain ⟨a_beginMark_59, he, hF⟩ := bd1e hF
    refine ms_beginMark hX hK hH he dX8_isBegun_57 (fun H locs hH => ?_)
    refine lv_aload_n hx hb dX8_isBegun_58 rfl (lv_at hl 0 rfl) ?_
    refine mg_beginTable hX hK hH dX8_isBegun_59 ?_
    refine lv_iload_n hx hb dX8_isBegun_62 rfl (lv_at hl 2 rfl) ?_
    refine lv_aload_n hx hb dX8_isBegun_63 rfl (lv_at hl 0 rfl) ?_
    refine mg_begins hX hK hH dX8_isBegun_64 ?_
    obtain ⟨a_beginTable_60, he, hF⟩ := bd1e hF
    refine ms_beginTable hX hK hH he dX8_isBegun_67 (fun H locs hH => ?_)
    refine lv_aload_n hx hb dX8_isBegun_68 rfl (lv_at hl 0 rfl) ?_
    refine mg_began hX hK hH dX8_isBegun_69 ?_
    refine lv_aload_n hx hb dX8_isBegun_72 rfl (lv_at hl 0 rfl) ?_
    refine mg_begins hX hK hH dX8_isBegun_73 ?_
    refine lv_lload_n hx hb dX8_isBegun_76 rfl (lv_at hl 1 rfl) ?_
    obtain ⟨a_began_61, he, hF⟩ := bd1e hF
    refine ms_began hX hK hH he dX8_isBegun_77 (fun H locs hH => ?_)
    refine lv_aload_n hx hb dX8_isBegun_78 rfl (lv_at hl 0 rfl) ?_
    refine lv_dup hx hb dX8_isBegun_79 rfl ?_
    refine mg_begins hX hK hH dX8_isBegun_80 ?_
    refine lv_iconst (v := 1) hx hb dX8_isBegun_83 syi_1 ?_
    refine lv_iadd hx hb dX8_isBegun_84 ?_
    refine mp_begins hX hK hH dX8_isBegun_85 (fun H locs hH => ?_)
    refine lv_iconst (v := 1) hx hb dX8_isBegun_88 syi_1 ?_
    obtain ⟨rfl, rfl, rfl, rfl, rfl⟩ := re5 hF
    exact hret _ _ _ _ hH dX8_isBegun_89
  obtain ⟨nn6, en6⟩ := loopC_some ee6
  have l6 : ∀ (n : Nat) (x_52 : Int32), loopN (fun s => FX8_isBegun_b6 a_beginTable a_beginMark v_beginsMark a_began p1 s) n x_52 = some xx6 → ∀ (H : Heap) (locs : List Loc) (ls : Array Slot), MH D vwA A s.heap (mW ad cA a_all a_hasImage a_tape a_fresh v_taped v_at v_behind v_size v_kind v_number v_wrong v_wrongAt v_depth v_steps v_faultKind v_faultPlace a_on a_many v_moved a_pile v_aside v_judgedBy v_judgedYear a_leastCost a_matched a_order a_lies a_movedThen a_yearTable a_yearMark a_beginTable a_beginMark v_statesTold v_found v_yearFrom v_mark v_beginsMark v_begins a_began v_isSpent a_wants a_rowSort a_rowMany a_numbers) H locs → lv_has ls 4 [(0, .ref (ad 0)), (1, .long p1), (3, .int x_52)] → W p l e rm_X8_isBegun s m args below meth c H locs 0 0 Q (F0 m 6 ls []) := by
    intro n
    induction n with
    | zero =>
      intro x_52 hN
      exact absurd hN loopN_zero
    | succ n ih =>
      intro x_52 hN H locs ls hH hl
      obtain ⟨yy6, hB6, hY6⟩ := loopN_succ hN
      have hF : FX8_isBegun_b6 a_beginTable a_beginMark v_beginsMark a_began p1 x_52 = some yy6 := hB6
      delta FX8_isBegun_b6 at hF
      refine lv_aload_n hx hb dX8_isBegun_6 rfl (lv_at hl 0 rfl) ?_
      refine mg_beginMark hX hK hH dX8_isBegun_7 ?_
      refine lv_iload_n hx hb dX8_isBegun_10 rfl (lv_at hl 2 rfl) ?_
      obtain ⟨x_53, he, hF⟩ := bd1e hF
      refine ml_beginMark hX hK hH he dX8_isBegun_11 ?_
      refine lv_aload_n hx hb dX8_isBegun_12 rfl (lv_at hl 0 rfl) ?_
      refine mg_beginsMark hX hK hH dX8_isBegun_13 ?_
      refine lv_icmp_ne (tgt := 48) hx hb dX8_isBegun_16 rfl (fun c_54 => ?_) (fun c_54 => ?_)
      · have hF := itn c_54 hF
        obtain rfl := Option.some.inj hF
        exact k6_1 x_52 hY6 _ _ _ hH (lv_sub hl [0, 1, 2] rfl)
      · have hF := itp c_54 hF
        refine lv_aload_n hx hb dX8_isBegun_19 rfl (lv_at hl 0 rfl) ?_
        refine mg_began hX hK hH dX8_isBegun_20 ?_
        refine lv_aload_n hx hb dX8_isBegun_23 rfl (lv_at hl 0 rfl) ?_
        refine mg_beginTable hX hK hH dX8_isBegun_24 ?_
        refine lv_iload_n hx hb dX8_isBegun_27 rfl (lv_at hl 2 rfl) ?_
        obtain ⟨x_55, he, hF⟩ := bd1e hF
        refine ml_beginTable hX hK hH he dX8_isBegun_28 ?_
        obtain ⟨y_56, he, hF⟩ := bd1e hF
        refine ml_began hX hK hH he dX8_isBegun_29 ?_
        refine lv_lload_n hx hb dX8_isBegun_30 rfl (lv_at hl 1 rfl) ?_
        refine W.lcmp hx hb dX8_isBegun_31 ?_
        refine lv_if_ne (tgt := 37) hx hb dX8_isBegun_32 rfl (fun c_57 => ?_) (fun c_57 => ?_)
        · have hF := itn c_57 hF
          refine lv_iload_n hx hb dX8_isBegun_37 rfl (lv_at hl 2 rfl) ?_
          refine lv_iconst (v := 1) hx hb dX8_isBegun_38 syi_1 ?_
          refine lv_iadd hx hb dX8_isBegun_39 ?_
          refine lv_sipush (v := 16383) hx hb dX8_isBegun_40 sys_16383 ?_
          refine lv_iand hx hb dX8_isBegun_43 ?_
          refine lv_istore_n (lv' := [(3, .int ((x_52 + 1) &&& 16383)), (0, .ref (ad 0)), (1, .long p1)]) hx hb dX8_isBegun_44 rfl hl (by decide) rfl (fun ls hl => ?_)
          refine lv_goto (tgt := 6) hx hb dX8_isBegun_45 rfl ?_
          obtain rfl := Option.some.inj hF
          exact ih ((x_52 + 1) &&& 16383) hY6 _ _ _ hH (lv_sub hl [1, 2, 0] rfl)
        · have hF := itp c_57 hF
          obtain rfl := Option.some.inj hF
          exact k6_0 hY6 _ _ _ hH (lv_sub hl [] rfl)
  exact l6 nn6 x_46 en6 _ _ _ hH (lv_sub hl [1, 2, 0] rfl)
abbrev rm_X8_takes : Room := { frames := 1, cells := 0, slots := 0, locals := 24 }
set_option maxHeartbeats 4000000 in
theorem met_X8_takes {l : Launch} {D : va_G} {ad : Nat → Nat} {cA : Nat → ClassId} {a_all : Nat → Int32} {a_hasImage : Nat → Int32} {a_tape : Nat → Int32} {a_fresh : Nat → Int32} {v_taped : Int32} {v_at : Int32} {v_behind : Int32} {v_size : Int32} {v_kind : Int32} {v_number : Int32} {v_wrong : Int32} {v_wrongAt : Int32} {v_depth : Int32} {v_steps : Int32} {v_faultKind : Int32} {v_faultPlace : Int32} {a_on : Nat → Int32} {a_many : Nat → Int32} {v_moved : Int32} {a_pile : Nat → Int32} {v_aside : Int32} {v_judgedBy : Int32} {v_judgedYear : Int32} {a_leastCost : Nat → Int32} {a_matched : Nat → Int32} {a_order : Nat → Int32} {a_lies : Nat → Int64} {a_movedThen : Nat → Int32} {a_yearTable : Nat → Int32} {a_yearMark : Nat → Int32} {a_beginTable : Nat → Int32} {a_beginMark : Nat → Int32} {v_statesTold : Int32} {v_found : Int32} {v_yearFrom : Int32} {v_mark : Int32} {v_beginsMark : Int32} {v_begins : Int32} {a_began : Nat → Int64} {v_isSpent : Int32} {a_wants : Nat → Int32} {a_rowSort : Nat → Int32} {a_rowMany : Nat → Int32} {a_numbers : Nat → Int64}  {p1 : Int64} {p3 : Int32} {ra_lies : Nat → Int64} {ra_movedThen : Nat → Int32} {ra_yearTable : Nat → Int32} {ra_yearMark : Nat → Int32} {rv_found : Int32} {rv_isSpent : Int32} {ak av fo : Nat} {E : EvT} (hE : EvM E ak av fo) (hF : FX8_takes a_lies a_movedThen a_yearTable a_yearMark v_found v_mark v_isSpent p1 p3 = some (ra_lies, ra_movedThen, ra_yearTable, ra_yearMark, rv_found, rv_isSpent)) : MM l yX8_takes (ws_ yX8_takes cX8_takes 5 (Option.none : Option Jvm.ClassFile.FieldType)) rm_X8_takes D vwA (mT cA) E [.ref (ad 0), .long p1, .int p3] (mW ad cA a_all a_hasImage a_tape a_fresh v_taped v_at v_behind v_size v_kind v_number v_wrong v_wrongAt v_depth v_steps v_faultKind v_faultPlace a_on a_many v_moved a_pile v_aside v_judgedBy v_judgedYear a_leastCost a_matched a_order a_lies a_movedThen a_yearTable a_yearMark a_beginTable a_beginMark v_statesTold v_found v_yearFrom v_mark v_beginsMark v_begins a_began v_isSpent a_wants a_rowSort a_rowMany a_numbers) (mW ad cA a_all a_hasImage a_tape a_fresh v_taped v_at v_behind v_size v_kind v_number v_wrong v_wrongAt v_depth v_steps v_faultKind v_faultPlace a_on a_many v_moved a_pile v_aside v_judgedBy v_judgedYear a_leastCost a_matched a_order ra_lies ra_movedThen ra_yearTable ra_yearMark a_beginTable a_beginMark v_statesTold rv_found v_yearFrom v_mark v_beginsMark v_begins a_began rv_isSpent a_wants a_rowSort a_rowMany a_numbers) none := by
  refine MM.ofV (by decide) (Nat.le_of_ble_eq_true rfl) ?_
  intro p e s m args below meth c Q A hX hK hE0 hret H locs ls hH hl
  have hX : CallFix p m c cX8_takes 5 s args lw_all RX8 := hX
  have hx := hX.1
  have hb := hX.2.1
  have hown := hX.2.2.2.1
  have hts := hX.2.2.2.2
  have hl : lv_has ls 5 [(0, .ref (ad 0)), (1, .long p1), (3, .int p3)] := hl
  have hEv := hE.1
  delta FX8_takes at hF
  refine lv_lload_n hx hb dX8_takes_0 rfl (lv_at hl 1 rfl) ?_
  refine lv_iload_n hx hb dX8_takes_1 rfl (lv_at hl 2 rfl) ?_
  obtain ⟨x_47, he, hF⟩ := bd1e hF
  refine mcS hX hK hEv hE0 hH (met_X8_spot hE he) gw_StoneYearModel_367 hd_yX8_spot ⟨Nat.le_of_ble_eq_true rfl, Nat.le_of_ble_eq_true rfl⟩ rfl rfl hl (Nat.le_of_ble_eq_true rfl) dX8_takes_2 ⟨Nat.le_of_ble_eq_true rfl, Nat.le_of_ble_eq_true rfl⟩ (fun H locs hH => ?_)
  refine lv_istore (lv' := [(4, .int x_47), (0, .ref (ad 0)), (1, .long p1), (3, .int p3)]) hx hb dX8_takes_5 hl (by decide) rfl (fun ls hl => ?_)
  obtain ⟨xx7, ee7, kk7_0, kk7_1⟩ := bdS2e hF
  have k7_0 : xx7 = (.inl ()) → ∀ (H : Heap) (locs : List Loc) (ls : Array Slot), MH D vwA A s.heap (mW ad cA a_all a_hasImage a_tape a_fresh v_taped v_at v_behind v_size v_kind v_number v_wrong v_wrongAt v_depth v_steps v_faultKind v_faultPlace a_on a_many v_moved a_pile v_aside v_judgedBy v_judgedYear a_leastCost a_matched a_order a_lies a_movedThen a_yearTable a_yearMark a_beginTable a_beginMark v_statesTold v_found v_yearFrom v_mark v_beginsMark v_begins a_began v_isSpent a_wants a_rowSort a_rowMany a_numbers) H locs → lv_has ls 5 [] → W p l e rm_X8_takes s m args below meth c H locs 0 0 Q (F0 m 54 ls []) := by
    intro hxx H locs ls hH hl
    have hF := un0e (kk7_0 () hxx)
    obtain ⟨rfl, rfl, rfl, rfl, rfl, rfl⟩ := re6 hF
    exact hret _ _ _ _ hH dX8_takes_54
  have k7_1 : ∀ (x_65 : Int32), xx7 = (.inr x_65) → ∀ (H : Heap) (locs : List Loc) (ls : Array Slot), MH D vwA A s.heap (mW ad cA a_all a_hasImage a_tape a_fresh v_taped v_at v_behind v_size v_kind v_number v_wrong v_wrongAt v_depth v_steps v_faultKind v_faultPlace a_on a_many v_moved a_pile v_aside v_judgedBy v_judgedYear a_leastCost a_matched a_order a_lies a_movedThen a_yearTable a_yearMark a_beginTable a_beginMark v_statesTold v_found v_yearFrom v_mark v_beginsMark v_begins a_began v_isSpent a_wants a_rowSort a_rowMany a_numbers) H locs → lv_has ls 5 [(0, .ref (ad 0)), (1, .long p1), (3, .int p3), (4, .int x_65)] → W p l e rm_X8_takes s m args below meth c H locs 0 0 Q (F0 m 68 ls []) := by
    intro x_65 hxx H locs ls hH hl
    have hF := un1e (kk7_1 x_65 hxx)
    refine lv_aload_n hx hb dX8_takes_68 rfl (lv_at hl 0 rfl) ?_
    refine mg_found hX hK hH dX8_takes_69 ?_
    refine lv_sipush (v := 6000) hx hb dX8_takes_72 sys_6000 ?_
    refine lv_icmp_ne (tgt := 84) hx hb dX8_takes_75 rfl (fun c_66 => ?_) (fun c_66 => ?_)
    · have hF := itn c_66 hF
      refine lv_aload_n hx hb dX8_takes_84 rfl (lv_at hl 0 rfl) ?_
      refine mg_yearMark hX hK hH dX8_takes_85 ?_
      refine lv_iload hx hb dX8_takes_88 (lv_at hl 3 rfl) ?_
      refine lv_aload_n hx hb dX8_takes_90 rfl (lv_at hl 0 rfl) ?_
      refine mg_mark hX hK hH dX8_takes_91 ?_
      obtain ⟨a_yearMark_67, he, hF⟩ := bd1e hF
      refine ms_yearMark hX hK hH he dX8_takes_94 (fun H locs hH => ?_)
      refine lv_aload_n hx hb dX8_takes_95 rfl (lv_at hl 0 rfl) ?_
      refine mg_yearTable hX hK hH dX8_takes_96 ?_
      refine lv_iload hx hb dX8_takes_99 (lv_at hl 3 rfl) ?_
      refine lv_aload_n hx hb dX8_takes_101 rfl (lv_at hl 0 rfl) ?_
      refine mg_found hX hK hH dX8_takes_102 ?_
      obtain ⟨a_yearTable_68, he, hF⟩ := bd1e hF
      refine ms_yearTable hX hK hH he dX8_takes_105 (fun H locs hH => ?_)
      refine lv_aload_n hx hb dX8_takes_106 rfl (lv_at hl 0 rfl) ?_
      refine mg_lies hX hK hH dX8_takes_107 ?_
      refine lv_aload_n hx hb dX8_takes_110 rfl (lv_at hl 0 rfl) ?_
      refine mg_found hX hK hH dX8_takes_111 ?_
      refine lv_lload_n hx hb dX8_takes_114 rfl (lv_at hl 1 rfl) ?_
      obtain ⟨a_lies_69, he, hF⟩ := bd1e hF
      refine ms_lies hX hK hH he dX8_takes_115 (fun H locs hH => ?_)
      refine lv_aload_n hx hb dX8_takes_116 rfl (lv_at hl 0 rfl) ?_
      refine mg_movedThen hX hK hH dX8_takes_117 ?_
      refine lv_aload_n hx hb dX8_takes_120 rfl (lv_at hl 0 rfl) ?_
      refine mg_found hX hK hH dX8_takes_121 ?_
      refine lv_iload_n hx hb dX8_takes_124 rfl (lv_at hl 2 rfl) ?_
      obtain ⟨a_movedThen_70, he, hF⟩ := bd1e hF
      refine ms_movedThen hX hK hH he dX8_takes_125 (fun H locs hH => ?_)
      refine lv_aload_n hx hb dX8_takes_126 rfl (lv_at hl 0 rfl) ?_
      refine lv_dup hx hb dX8_takes_127 rfl ?_
      refine mg_found hX hK hH dX8_takes_128 ?_
      refine lv_iconst (v := 1) hx hb dX8_takes_131 syi_1 ?_
      refine lv_iadd hx hb dX8_takes_132 ?_
      refine mp_found hX hK hH dX8_takes_133 (fun H locs hH => ?_)
      obtain ⟨rfl, rfl, rfl, rfl, rfl, rfl⟩ := re6 hF
      exact hret _ _ _ _ hH dX8_takes_136
    · have hF := itp c_66 hF
      refine lv_aload_n hx hb dX8_takes_78 rfl (lv_at hl 0 rfl) ?_
      refine lv_iconst (v := 1) hx hb dX8_takes_79 syi_1 ?_
      refine mp_isSpent hX hK hH (by decide) dX8_takes_80 (fun H locs hH => ?_)
      obtain ⟨rfl, rfl, rfl, rfl, rfl, rfl⟩ := re6 hF
      exact hret _ _ _ _ hH dX8_takes_83
  obtain ⟨nn7, en7⟩ := loopC_some ee7
  have l7 : ∀ (n : Nat) (x_56 : Int32), loopN (fun s => FX8_takes_b7 a_lies a_movedThen a_yearTable a_yearMark v_mark p1 p3 s) n x_56 = some xx7 → ∀ (H : Heap) (locs : List Loc) (ls : Array Slot), MH D vwA A s.heap (mW ad cA a_all a_hasImage a_tape a_fresh v_taped v_at v_behind v_size v_kind v_number v_wrong v_wrongAt v_depth v_steps v_faultKind v_faultPlace a_on a_many v_moved a_pile v_aside v_judgedBy v_judgedYear a_leastCost a_matched a_order a_lies a_movedThen a_yearTable a_yearMark a_beginTable a_beginMark v_statesTold v_found v_yearFrom v_mark v_beginsMark v_begins a_began v_isSpent a_wants a_rowSort a_rowMany a_numbers) H locs → lv_has ls 5 [(0, .ref (ad 0)), (1, .long p1), (3, .int p3), (4, .int x_56)] → W p l e rm_X8_takes s m args below meth c H locs 0 0 Q (F0 m 7 ls []) := by
    intro n
    induction n with
    | zero =>
      intro x_56 hN
      exact absurd hN loopN_zero
    | succ n ih =>
      intro x_56 hN H locs ls hH hl
      obtain ⟨yy7, hB7, hY7⟩ := loopN_succ hN
      have hF : FX8_takes_b7 a_lies a_movedThen a_yearTable a_yearMark v_mark p1 p3 x_56 = some yy7 := hB7
      delta FX8_takes_b7 at hF
      refine lv_aload_n hx hb dX8_takes_7 rfl (lv_at hl 0 rfl) ?_
      refine mg_yearMark hX hK hH dX8_takes_8 ?_
      refine lv_iload hx hb dX8_takes_11 (lv_at hl 3 rfl) ?_
      obtain ⟨x_57, he, hF⟩ := bd1e hF
      refine ml_yearMark hX hK hH he dX8_takes_13 ?_
      refine lv_aload_n hx hb dX8_takes_14 rfl (lv_at hl 0 rfl) ?_
      refine mg_mark hX hK hH dX8_takes_15 ?_
      refine lv_icmp_ne (tgt := 68) hx hb dX8_takes_18 rfl (fun c_58 => ?_) (fun c_58 => ?_)
      · have hF := itn c_58 hF
        obtain rfl := Option.some.inj hF
        exact k7_1 x_56 hY7 _ _ _ hH (lv_sub hl [0, 1, 2, 3] rfl)
      · have hF := itp c_58 hF
        refine lv_aload_n hx hb dX8_takes_21 rfl (lv_at hl 0 rfl) ?_
        refine mg_lies hX hK hH dX8_takes_22 ?_
        refine lv_aload_n hx hb dX8_takes_25 rfl (lv_at hl 0 rfl) ?_
        refine mg_yearTable hX hK hH dX8_takes_26 ?_
        refine lv_iload hx hb dX8_takes_29 (lv_at hl 3 rfl) ?_
        obtain ⟨x_59, he, hF⟩ := bd1e hF
        refine ml_yearTable hX hK hH he dX8_takes_31 ?_
        obtain ⟨y_60, he, hF⟩ := bd1e hF
        refine ml_lies hX hK hH he dX8_takes_32 ?_
        refine lv_lload_n hx hb dX8_takes_33 rfl (lv_at hl 1 rfl) ?_
        refine W.lcmp hx hb dX8_takes_34 ?_
        have j55 : FX8_takes_j55 x_56 = some yy7 → ∀ (H : Heap) (locs : List Loc) (ls : Array Slot), MH D vwA A s.heap (mW ad cA a_all a_hasImage a_tape a_fresh v_taped v_at v_behind v_size v_kind v_number v_wrong v_wrongAt v_depth v_steps v_faultKind v_faultPlace a_on a_many v_moved a_pile v_aside v_judgedBy v_judgedYear a_leastCost a_matched a_order a_lies a_movedThen a_yearTable a_yearMark a_beginTable a_beginMark v_statesTold v_found v_yearFrom v_mark v_beginsMark v_begins a_began v_isSpent a_wants a_rowSort a_rowMany a_numbers) H locs → lv_has ls 5 [(0, .ref (ad 0)), (1, .long p1), (3, .int p3), (4, .int x_56)] → W p l e rm_X8_takes s m args below meth c H locs 0 0 Q (F0 m 55 ls []) := by
          intro hF H locs ls hH hl
          delta FX8_takes_j55 at hF
          refine lv_iload hx hb dX8_takes_55 (lv_at hl 3 rfl) ?_
          refine lv_iconst (v := 1) hx hb dX8_takes_57 syi_1 ?_
          refine lv_iadd hx hb dX8_takes_58 ?_
          refine lv_sipush (v := 16383) hx hb dX8_takes_59 sys_16383 ?_
          refine lv_iand hx hb dX8_takes_62 ?_
          refine lv_istore (lv' := [(4, .int ((x_56 + 1) &&& 16383)), (0, .ref (ad 0)), (1, .long p1), (3, .int p3)]) hx hb dX8_takes_63 hl (by decide) rfl (fun ls hl => ?_)
          refine lv_goto (tgt := 7) hx hb dX8_takes_65 rfl ?_
          obtain rfl := Option.some.inj hF
          exact ih ((x_56 + 1) &&& 16383) hY7 _ _ _ hH (lv_sub hl [1, 2, 3, 0] rfl)
        refine lv_if_ne (tgt := 55) hx hb dX8_takes_35 rfl (fun c_61 => ?_) (fun c_61 => ?_)
        · have hF := itn c_61 hF
          exact j55 hF _ _ _ hH (lv_sub hl [0, 1, 2, 3] rfl)
        · have hF := itp c_61 hF
          refine lv_aload_n hx hb dX8_takes_38 rfl (lv_at hl 0 rfl) ?_
          refine mg_movedThen hX hK hH dX8_takes_39 ?_
          refine lv_aload_n hx hb dX8_takes_42 rfl (lv_at hl 0 rfl) ?_
          refine mg_yearTable hX hK hH dX8_takes_43 ?_
          refine lv_iload hx hb dX8_takes_46 (lv_at hl 3 rfl) ?_
          obtain ⟨x_62, he, hF⟩ := bd1e hF
          refine ml_yearTable hX hK hH he dX8_takes_48 ?_
          obtain ⟨x_63, he, hF⟩ := bd1e hF
          refine ml_movedThen hX hK hH he dX8_takes_49 ?_
          refine lv_iload_n hx hb dX8_takes_50 rfl (lv_at hl 2 rfl) ?_
          refine lv_icmp_ne (tgt := 55) hx hb dX8_takes_51 rfl (fun c_64 => ?_) (fun c_64 => ?_)
          · have hF := itn c_64 hF
            exact j55 hF _ _ _ hH (lv_sub hl [0, 1, 2, 3] rfl)
          · have hF := itp c_64 hF
            obtain rfl := Option.some.inj hF
            exact k7_0 hY7 _ _ _ hH (lv_sub hl [] rfl)
  exact l7 nn7 x_47 en7 _ _ _ hH (lv_sub hl [1, 2, 3, 0] rfl)
abbrev rm_X8_nextYear : Room := { frames := 2, cells := 0, slots := 0, locals := 48 }
set_option maxHeartbeats 4000000 in
theorem met_X8_nextYear {l : Launch} {D : va_G} {ad : Nat → Nat} {cA : Nat → ClassId} {a_all : Nat → Int32} {a_hasImage : Nat → Int32} {a_tape : Nat → Int32} {a_fresh : Nat → Int32} {v_taped : Int32} {v_at : Int32} {v_behind : Int32} {v_size : Int32} {v_kind : Int32} {v_number : Int32} {v_wrong : Int32} {v_wrongAt : Int32} {v_depth : Int32} {v_steps : Int32} {v_faultKind : Int32} {v_faultPlace : Int32} {a_on : Nat → Int32} {a_many : Nat → Int32} {v_moved : Int32} {a_pile : Nat → Int32} {v_aside : Int32} {v_judgedBy : Int32} {v_judgedYear : Int32} {a_leastCost : Nat → Int32} {a_matched : Nat → Int32} {a_order : Nat → Int32} {a_lies : Nat → Int64} {a_movedThen : Nat → Int32} {a_yearTable : Nat → Int32} {a_yearMark : Nat → Int32} {a_beginTable : Nat → Int32} {a_beginMark : Nat → Int32} {v_statesTold : Int32} {v_found : Int32} {v_yearFrom : Int32} {v_mark : Int32} {v_beginsMark : Int32} {v_begins : Int32} {a_began : Nat → Int64} {v_isSpent : Int32} {a_wants : Nat → Int32} {a_rowSort : Nat → Int32} {a_rowMany : Nat → Int32} {a_numbers : Nat → Int64}   {res : Bool} {ra_lies : Nat → Int64} {ra_movedThen : Nat → Int32} {ra_yearTable : Nat → Int32} {ra_yearMark : Nat → Int32} {ra_beginTable : Nat → Int32} {ra_beginMark : Nat → Int32} {rv_found : Int32} {rv_yearFrom : Int32} {rv_mark : Int32} {rv_begins : Int32} {ra_began : Nat → Int64} {rv_isSpent : Int32} {ak av fo : Nat} {E : EvT} (hE : EvM E ak av fo) (hF : FX8_nextYear a_lies a_movedThen a_yearTable a_yearMark a_beginTable a_beginMark v_found v_yearFrom v_mark v_beginsMark v_begins a_began v_isSpent = some (res, ra_lies, ra_movedThen, ra_yearTable, ra_yearMark, ra_beginTable, ra_beginMark, rv_found, rv_yearFrom, rv_mark, rv_begins, ra_began, rv_isSpent)) : MM l yX8_nextYear (ws_ yX8_nextYear cX8_nextYear 4 (Option.some Jvm.ClassFile.FieldType.boolean)) rm_X8_nextYear D vwA (mT cA) E [.ref (ad 0)] (mW ad cA a_all a_hasImage a_tape a_fresh v_taped v_at v_behind v_size v_kind v_number v_wrong v_wrongAt v_depth v_steps v_faultKind v_faultPlace a_on a_many v_moved a_pile v_aside v_judgedBy v_judgedYear a_leastCost a_matched a_order a_lies a_movedThen a_yearTable a_yearMark a_beginTable a_beginMark v_statesTold v_found v_yearFrom v_mark v_beginsMark v_begins a_began v_isSpent a_wants a_rowSort a_rowMany a_numbers) (mW ad cA a_all a_hasImage a_tape a_fresh v_taped v_at v_behind v_size v_kind v_number v_wrong v_wrongAt v_depth v_steps v_faultKind v_faultPlace a_on a_many v_moved a_pile v_aside v_judgedBy v_judgedYear a_leastCost a_matched a_order ra_lies ra_movedThen ra_yearTable ra_yearMark ra_beginTable ra_beginMark v_statesTold rv_found rv_yearFrom rv_mark v_beginsMark rv_begins ra_began rv_isSpent a_wants a_rowSort a_rowMany a_numbers) (some (.int (b2i res))) := by
  refine MM.ofZ (by decide) (Nat.le_of_ble_eq_true rfl) ?_
  intro p e s m args below meth c Q A hX hK hE0 hret H locs ls hH hl
  have hX : CallFix p m c cX8_nextYear 4 s args lw_all RX8 := hX
  have hx := hX.1
  have hb := hX.2.1
  have hown := hX.2.2.2.1
  have hts := hX.2.2.2.2
  have hl : lv_has ls 4 [(0, .ref (ad 0))] := hl
  have hEv := hE.1
  delta FX8_nextYear at hF
  refine lv_aload_n hx hb dX8_nextYear_0 rfl (lv_at hl 0 rfl) ?_
  refine mg_yearFrom hX hK hH dX8_nextYear_1 ?_
  refine lv_istore_n (lv' := [(1, .int v_yearFrom), (0, .ref (ad 0))]) hx hb dX8_nextYear_4 rfl hl (by decide) rfl (fun ls hl => ?_)
  refine lv_aload_n hx hb dX8_nextYear_5 rfl (lv_at hl 1 rfl) ?_
  refine mg_found hX hK hH dX8_nextYear_6 ?_
  refine lv_istore_n (lv' := [(2, .int v_found), (1, .int v_yearFrom), (0, .ref (ad 0))]) hx hb dX8_nextYear_9 rfl hl (by decide) rfl (fun ls hl => ?_)
  refine lv_aload_n hx hb dX8_nextYear_10 rfl (lv_at hl 2 rfl) ?_
  refine lv_aload_n hx hb dX8_nextYear_11 rfl (lv_at hl 2 rfl) ?_
  refine mg_found hX hK hH dX8_nextYear_12 ?_
  refine mp_yearFrom hX hK hH dX8_nextYear_15 (fun H locs hH => ?_)
  refine lv_aload_n hx hb dX8_nextYear_18 rfl (lv_at hl 2 rfl) ?_
  refine lv_dup hx hb dX8_nextYear_19 rfl ?_
  refine mg_mark hX hK hH dX8_nextYear_20 ?_
  refine lv_iconst (v := 1) hx hb dX8_nextYear_23 syi_1 ?_
  refine lv_iadd hx hb dX8_nextYear_24 ?_
  refine mp_mark hX hK hH dX8_nextYear_25 (fun H locs hH => ?_)
  refine lv_iload_n hx hb dX8_nextYear_28 rfl (lv_at hl 1 rfl) ?_
  refine lv_istore_n (lv' := [(3, .int v_yearFrom), (2, .int v_found), (1, .int v_yearFrom), (0, .ref (ad 0))]) hx hb dX8_nextYear_29 rfl hl (by decide) rfl (fun ls hl => ?_)
  obtain ⟨xx30, ee30, kk30_0⟩ := bd10L hF
  have k30_0 : ∀ (a_lies_100 : Nat → Int64) (a_movedThen_101 : Nat → Int32) (a_yearTable_102 : Nat → Int32) (a_yearMark_103 : Nat → Int32) (a_beginTable_104 : Nat → Int32) (a_beginMark_105 : Nat → Int32) (v_found_106 : Int32) (v_begins_107 : Int32) (a_began_108 : Nat → Int64) (v_isSpent_109 : Int32), xx30 = (a_lies_100, a_movedThen_101, a_yearTable_102, a_yearMark_103, a_beginTable_104, a_beginMark_105, v_found_106, v_begins_107, a_began_108, v_isSpent_109) → ∀ (H : Heap) (locs : List Loc) (ls : Array Slot), MH D vwA A s.heap (mW ad cA a_all a_hasImage a_tape a_fresh v_taped v_at v_behind v_size v_kind v_number v_wrong v_wrongAt v_depth v_steps v_faultKind v_faultPlace a_on a_many v_moved a_pile v_aside v_judgedBy v_judgedYear a_leastCost a_matched a_order a_lies_100 a_movedThen_101 a_yearTable_102 a_yearMark_103 a_beginTable_104 a_beginMark_105 v_statesTold v_found_106 v_found (v_mark + 1) v_beginsMark v_begins_107 a_began_108 v_isSpent_109 a_wants a_rowSort a_rowMany a_numbers) H locs → lv_has ls 4 [(0, .ref (ad 0))] → W p l e rm_X8_nextYear s m args below meth c H locs 0 0 Q (F0 m 72 ls []) := by
    intro a_lies_100 a_movedThen_101 a_yearTable_102 a_yearMark_103 a_beginTable_104 a_beginMark_105 v_found_106 v_begins_107 a_began_108 v_isSpent_109 hxx H locs ls hH hl
    have hF := un10e (kk30_0 (a_lies_100, a_movedThen_101, a_yearTable_102, a_yearMark_103, a_beginTable_104, a_beginMark_105, v_found_106, v_begins_107, a_began_108, v_isSpent_109) hxx)
    refine lv_aload_n hx hb dX8_nextYear_72 rfl (lv_at hl 0 rfl) ?_
    refine mg_found hX hK hH dX8_nextYear_73 ?_
    refine lv_aload_n hx hb dX8_nextYear_76 rfl (lv_at hl 0 rfl) ?_
    refine mg_yearFrom hX hK hH dX8_nextYear_77 ?_
    have j90 : FX8_nextYear_j90 v_found v_mark a_lies_100 a_movedThen_101 a_yearTable_102 a_yearMark_103 a_beginTable_104 a_beginMark_105 v_found_106 v_begins_107 a_began_108 v_isSpent_109 = some (res, ra_lies, ra_movedThen, ra_yearTable, ra_yearMark, ra_beginTable, ra_beginMark, rv_found, rv_yearFrom, rv_mark, rv_begins, ra_began, rv_isSpent) → ∀ (H : Heap) (locs : List Loc) (ls : Array Slot), MH D vwA A s.heap (mW ad cA a_all a_hasImage a_tape a_fresh v_taped v_at v_behind v_size v_kind v_number v_wrong v_wrongAt v_depth v_steps v_faultKind v_faultPlace a_on a_many v_moved a_pile v_aside v_judgedBy v_judgedYear a_leastCost a_matched a_order a_lies_100 a_movedThen_101 a_yearTable_102 a_yearMark_103 a_beginTable_104 a_beginMark_105 v_statesTold v_found_106 v_found (v_mark + 1) v_beginsMark v_begins_107 a_began_108 v_isSpent_109 a_wants a_rowSort a_rowMany a_numbers) H locs → lv_has ls 4 [] → W p l e rm_X8_nextYear s m args below meth c H locs 0 0 Q (F0 m 90 ls []) := by
      intro hF H locs ls hH hl
      delta FX8_nextYear_j90 at hF
      refine lv_iconst (v := 1) hx hb dX8_nextYear_90 syi_1 ?_
      refine lv_goto (tgt := 95) hx hb dX8_nextYear_91 rfl ?_
      obtain ⟨rfl, rfl, rfl, rfl, rfl, rfl, rfl, rfl, rfl, rfl, rfl, rfl, rfl⟩ := re13 hF
      exact hret _ _ _ _ hH dX8_nextYear_95
    refine lv_icmp_gt (tgt := 90) hx hb dX8_nextYear_80 rfl (fun c_110 => ?_) (fun c_110 => ?_)
    · have hF := itp c_110 hF
      exact j90 hF _ _ _ hH (lv_sub hl [] rfl)
    · have hF := itn c_110 hF
      refine lv_aload_n hx hb dX8_nextYear_83 rfl (lv_at hl 0 rfl) ?_
      refine mg_isSpent hX hK hH dX8_nextYear_84 ?_
      refine lv_if_eq (tgt := 94) hx hb dX8_nextYear_87 rfl (fun c_111 => ?_) (fun c_111 => ?_)
      · have hF := itp c_111 hF
        refine lv_iconst (v := 0) hx hb dX8_nextYear_94 syi_0 ?_
        obtain ⟨rfl, rfl, rfl, rfl, rfl, rfl, rfl, rfl, rfl, rfl, rfl, rfl, rfl⟩ := re13 hF
        exact hret _ _ _ _ hH dX8_nextYear_95
      · have hF := itn c_111 hF
        exact j90 hF _ _ _ hH (lv_sub hl [] rfl)
  obtain ⟨nn30, en30⟩ := loopC_some ee30
  have l30 : ∀ (n : Nat) (x_67 : Int32) (a_lies_68 : Nat → Int64) (a_movedThen_69 : Nat → Int32) (a_yearTable_70 : Nat → Int32) (a_yearMark_71 : Nat → Int32) (a_beginTable_72 : Nat → Int32) (a_beginMark_73 : Nat → Int32) (v_found_74 : Int32) (v_begins_75 : Int32) (a_began_76 : Nat → Int64) (v_isSpent_77 : Int32), loopN (fun s => FX8_nextYear_b30 v_found v_mark v_beginsMark s.1 s.2.1 s.2.2.1 s.2.2.2.1 s.2.2.2.2.1 s.2.2.2.2.2.1 s.2.2.2.2.2.2.1 s.2.2.2.2.2.2.2.1 s.2.2.2.2.2.2.2.2.1 s.2.2.2.2.2.2.2.2.2.1 s.2.2.2.2.2.2.2.2.2.2) n (x_67, a_lies_68, a_movedThen_69, a_yearTable_70, a_yearMark_71, a_beginTable_72, a_beginMark_73, v_found_74, v_begins_75, a_began_76, v_isSpent_77) = some xx30 → ∀ (H : Heap) (locs : List Loc) (ls : Array Slot), MH D vwA A s.heap (mW ad cA a_all a_hasImage a_tape a_fresh v_taped v_at v_behind v_size v_kind v_number v_wrong v_wrongAt v_depth v_steps v_faultKind v_faultPlace a_on a_many v_moved a_pile v_aside v_judgedBy v_judgedYear a_leastCost a_matched a_order a_lies_68 a_movedThen_69 a_yearTable_70 a_yearMark_71 a_beginTable_72 a_beginMark_73 v_statesTold v_found_74 v_found (v_mark + 1) v_beginsMark v_begins_75 a_began_76 v_isSpent_77 a_wants a_rowSort a_rowMany a_numbers) H locs → lv_has ls 4 [(0, .ref (ad 0)), (2, .int v_found), (3, .int x_67)] → W p l e rm_X8_nextYear s m args below meth c H locs 0 0 Q (F0 m 30 ls []) := by
    intro n
    induction n with
    | zero =>
      intro x_67 a_lies_68 a_movedThen_69 a_yearTable_70 a_yearMark_71 a_beginTable_72 a_beginMark_73 v_found_74 v_begins_75 a_began_76 v_isSpent_77 hN
      exact absurd hN loopN_zero
    | succ n ih =>
      intro x_67 a_lies_68 a_movedThen_69 a_yearTable_70 a_yearMark_71 a_beginTable_72 a_beginMark_73 v_found_74 v_begins_75 a_began_76 v_isSpent_77 hN H locs ls hH hl
      obtain ⟨yy30, hB30, hY30⟩ := loopN_succ hN
      have hF : FX8_nextYear_b30 v_found v_mark v_beginsMark x_67 a_lies_68 a_movedThen_69 a_yearTable_70 a_yearMark_71 a_beginTable_72 a_beginMark_73 v_found_74 v_begins_75 a_began_76 v_isSpent_77 = some yy30 := hB30
      delta FX8_nextYear_b30 at hF
      refine lv_iload_n hx hb dX8_nextYear_30 rfl (lv_at hl 2 rfl) ?_
      refine lv_iload_n hx hb dX8_nextYear_31 rfl (lv_at hl 1 rfl) ?_
      refine lv_icmp_ge (tgt := 72) hx hb dX8_nextYear_32 rfl (fun c_78 => ?_) (fun c_78 => ?_)
      · have hF := itp c_78 hF
        obtain rfl := Option.some.inj hF
        exact k30_0 a_lies_68 a_movedThen_69 a_yearTable_70 a_yearMark_71 a_beginTable_72 a_beginMark_73 v_found_74 v_begins_75 a_began_76 v_isSpent_77 hY30 _ _ _ hH (lv_sub hl [0] rfl)
      · have hF := itn c_78 hF
        refine lv_aload_n hx hb dX8_nextYear_35 rfl (lv_at hl 0 rfl) ?_
        refine mg_isSpent hX hK hH dX8_nextYear_36 ?_
        refine lv_if_ne (tgt := 72) hx hb dX8_nextYear_39 rfl (fun c_79 => ?_) (fun c_79 => ?_)
        · have hF := itn c_79 hF
          obtain rfl := Option.some.inj hF
          exact k30_0 a_lies_68 a_movedThen_69 a_yearTable_70 a_yearMark_71 a_beginTable_72 a_beginMark_73 v_found_74 v_begins_75 a_began_76 v_isSpent_77 hY30 _ _ _ hH (lv_sub hl [0] rfl)
        · have hF := itp c_79 hF
          refine lv_aload_n hx hb dX8_nextYear_42 rfl (lv_at hl 0 rfl) ?_
          refine lv_aload_n hx hb dX8_nextYear_43 rfl (lv_at hl 0 rfl) ?_
          refine mg_lies hX hK hH dX8_nextYear_44 ?_
          refine lv_iload_n hx hb dX8_nextYear_47 rfl (lv_at hl 2 rfl) ?_
          obtain ⟨y_80, he, hF⟩ := bd1e hF
          refine ml_lies hX hK hH he dX8_nextYear_48 ?_
          obtain ⟨b_81, a_beginTable_82, a_beginMark_83, v_begins_84, a_began_85, he, hF⟩ := bd5e hF
          refine mcV hX hK hEv hE0 hH (met_X8_isBegun hE he) (mrecv hK hH) gw_StoneYearModel_393 hd_yX8_isBegun ⟨Nat.le_of_ble_eq_true rfl, Nat.le_of_ble_eq_true rfl⟩ rfl rfl hl (Nat.le_of_ble_eq_true rfl) dX8_nextYear_49 ⟨Nat.le_of_ble_eq_true rfl, Nat.le_of_ble_eq_true rfl⟩ (fun H locs hH => ?_)
          have j66 : ∀ (a_lies_94 : Nat → Int64) (a_movedThen_95 : Nat → Int32) (a_yearTable_96 : Nat → Int32) (a_yearMark_97 : Nat → Int32) (v_found_98 : Int32) (v_isSpent_99 : Int32), FX8_nextYear_j66 x_67 a_beginTable_82 a_beginMark_83 v_begins_84 a_began_85 a_lies_94 a_movedThen_95 a_yearTable_96 a_yearMark_97 v_found_98 v_isSpent_99 = some yy30 → ∀ (H : Heap) (locs : List Loc) (ls : Array Slot), MH D vwA A s.heap (mW ad cA a_all a_hasImage a_tape a_fresh v_taped v_at v_behind v_size v_kind v_number v_wrong v_wrongAt v_depth v_steps v_faultKind v_faultPlace a_on a_many v_moved a_pile v_aside v_judgedBy v_judgedYear a_leastCost a_matched a_order a_lies_94 a_movedThen_95 a_yearTable_96 a_yearMark_97 a_beginTable_82 a_beginMark_83 v_statesTold v_found_98 v_found (v_mark + 1) v_beginsMark v_begins_84 a_began_85 v_isSpent_99 a_wants a_rowSort a_rowMany a_numbers) H locs → lv_has ls 4 [(0, .ref (ad 0)), (2, .int v_found), (3, .int x_67)] → W p l e rm_X8_nextYear s m args below meth c H locs 0 0 Q (F0 m 66 ls []) := by
            intro a_lies_94 a_movedThen_95 a_yearTable_96 a_yearMark_97 v_found_98 v_isSpent_99 hF H locs ls hH hl
            delta FX8_nextYear_j66 at hF
            refine lv_iinc (v := (x_67 + 1)) (lv' := [(3, .int (x_67 + 1)), (0, .ref (ad 0)), (2, .int v_found)]) hx hb dX8_nextYear_66 hl (k := 2) rfl (syc syi_1) (by decide) rfl (fun ls hl => ?_)
            refine lv_goto (tgt := 30) hx hb dX8_nextYear_69 rfl ?_
            obtain rfl := Option.some.inj hF
            exact ih (x_67 + 1) a_lies_94 a_movedThen_95 a_yearTable_96 a_yearMark_97 a_beginTable_82 a_beginMark_83 v_found_98 v_begins_84 a_began_85 v_isSpent_99 hY30 _ _ _ hH (lv_sub hl [1, 2, 0] rfl)
          refine lv_if_eq (tgt := 66) hx hb dX8_nextYear_52 rfl (fun c_86 => ?_) (fun c_86 => ?_)
          · have hF := itp c_86 hF
            exact j66 a_lies_68 a_movedThen_69 a_yearTable_70 a_yearMark_71 v_found_74 v_isSpent_77 hF _ _ _ hH (lv_sub hl [0, 1, 2] rfl)
          · have hF := itn c_86 hF
            refine lv_aload_n hx hb dX8_nextYear_55 rfl (lv_at hl 0 rfl) ?_
            refine lv_aload_n hx hb dX8_nextYear_56 rfl (lv_at hl 0 rfl) ?_
            refine mg_lies hX hK hH dX8_nextYear_57 ?_
            refine lv_iload_n hx hb dX8_nextYear_60 rfl (lv_at hl 2 rfl) ?_
            obtain ⟨y_87, he, hF⟩ := bd1e hF
            refine ml_lies hX hK hH he dX8_nextYear_61 ?_
            refine lv_iconst (v := 0) hx hb dX8_nextYear_62 syi_0 ?_
            obtain ⟨a_lies_88, a_movedThen_89, a_yearTable_90, a_yearMark_91, v_found_92, v_isSpent_93, he, hF⟩ := bd6e hF
            refine mcV hX hK hEv hE0 hH (met_X8_takes hE he) (mrecv hK hH) gw_StoneYearModel_390 hd_yX8_takes ⟨Nat.le_of_ble_eq_true rfl, Nat.le_of_ble_eq_true rfl⟩ rfl rfl hl (Nat.le_of_ble_eq_true rfl) dX8_nextYear_63 ⟨Nat.le_of_ble_eq_true rfl, Nat.le_of_ble_eq_true rfl⟩ (fun H locs hH => ?_)
            exact j66 a_lies_88 a_movedThen_89 a_yearTable_90 a_yearMark_91 v_found_92 v_isSpent_93 hF _ _ _ hH (lv_sub hl [0, 1, 2] rfl)
  exact l30 nn30 v_yearFrom a_lies a_movedThen a_yearTable a_yearMark a_beginTable a_beginMark v_found v_begins a_began v_isSpent en30 _ _ _ hH (lv_sub hl [3, 1, 0] rfl)
abbrev rm_X8_spreads : Room := { frames := 3, cells := 0, slots := 0, locals := 80 }
set_option maxHeartbeats 4000000 in
theorem met_X8_spreads {l : Launch} {D : va_G} {ad : Nat → Nat} {cA : Nat → ClassId} {a_all : Nat → Int32} {a_hasImage : Nat → Int32} {a_tape : Nat → Int32} {a_fresh : Nat → Int32} {v_taped : Int32} {v_at : Int32} {v_behind : Int32} {v_size : Int32} {v_kind : Int32} {v_number : Int32} {v_wrong : Int32} {v_wrongAt : Int32} {v_depth : Int32} {v_steps : Int32} {v_faultKind : Int32} {v_faultPlace : Int32} {a_on : Nat → Int32} {a_many : Nat → Int32} {v_moved : Int32} {a_pile : Nat → Int32} {v_aside : Int32} {v_judgedBy : Int32} {v_judgedYear : Int32} {a_leastCost : Nat → Int32} {a_matched : Nat → Int32} {a_order : Nat → Int32} {a_lies : Nat → Int64} {a_movedThen : Nat → Int32} {a_yearTable : Nat → Int32} {a_yearMark : Nat → Int32} {a_beginTable : Nat → Int32} {a_beginMark : Nat → Int32} {v_statesTold : Int32} {v_found : Int32} {v_yearFrom : Int32} {v_mark : Int32} {v_beginsMark : Int32} {v_begins : Int32} {a_began : Nat → Int64} {v_isSpent : Int32} {a_wants : Nat → Int32} {a_rowSort : Nat → Int32} {a_rowMany : Nat → Int32} {a_numbers : Nat → Int64}  {p1 : Int32} {ra_on : Nat → Int32} {ra_many : Nat → Int32} {rv_moved : Int32} {ra_pile : Nat → Int32} {ra_lies : Nat → Int64} {ra_movedThen : Nat → Int32} {ra_yearTable : Nat → Int32} {ra_yearMark : Nat → Int32} {rv_found : Int32} {rv_isSpent : Int32} {ak av fo : Nat} {E : EvT} (hE : EvM E ak av fo) (hF : FX8_spreads a_all a_on a_many v_moved a_pile v_aside a_lies a_movedThen a_yearTable a_yearMark v_found v_yearFrom v_mark v_isSpent p1 = some (ra_on, ra_many, rv_moved, ra_pile, ra_lies, ra_movedThen, ra_yearTable, ra_yearMark, rv_found, rv_isSpent)) : MM l yX8_spreads (ws_ yX8_spreads cX8_spreads 6 (Option.none : Option Jvm.ClassFile.FieldType)) rm_X8_spreads D vwA (mT cA) E [.ref (ad 0), .int p1] (mW ad cA a_all a_hasImage a_tape a_fresh v_taped v_at v_behind v_size v_kind v_number v_wrong v_wrongAt v_depth v_steps v_faultKind v_faultPlace a_on a_many v_moved a_pile v_aside v_judgedBy v_judgedYear a_leastCost a_matched a_order a_lies a_movedThen a_yearTable a_yearMark a_beginTable a_beginMark v_statesTold v_found v_yearFrom v_mark v_beginsMark v_begins a_began v_isSpent a_wants a_rowSort a_rowMany a_numbers) (mW ad cA a_all a_hasImage a_tape a_fresh v_taped v_at v_behind v_size v_kind v_number v_wrong v_wrongAt v_depth v_steps v_faultKind v_faultPlace ra_on ra_many rv_moved ra_pile v_aside v_judgedBy v_judgedYear a_leastCost a_matched a_order ra_lies ra_movedThen ra_yearTable ra_yearMark a_beginTable a_beginMark v_statesTold rv_found v_yearFrom v_mark v_beginsMark v_begins a_began rv_isSpent a_wants a_rowSort a_rowMany a_numbers) none := by
  refine MM.ofV (by decide) (Nat.le_of_ble_eq_true rfl) ?_
  intro p e s m args below meth c Q A hX hK hE0 hret H locs ls hH hl
  have hX : CallFix p m c cX8_spreads 6 s args lw_all RX8 := hX
  have hx := hX.1
  have hb := hX.2.1
  have hown := hX.2.2.2.1
  have hts := hX.2.2.2.2
  have hl : lv_has ls 6 [(0, .ref (ad 0)), (1, .int p1)] := hl
  have hEv := hE.1
  delta FX8_spreads at hF
  refine lv_aload_n hx hb dX8_spreads_0 rfl (lv_at hl 0 rfl) ?_
  refine mg_yearFrom hX hK hH dX8_spreads_1 ?_
  refine lv_istore_n (lv' := [(2, .int v_yearFrom), (0, .ref (ad 0)), (1, .int p1)]) hx hb dX8_spreads_4 rfl hl (by decide) rfl (fun ls hl => ?_)
  obtain ⟨xx5, ee5, kk5_0⟩ := bd10L hF
  have k5_0 : ∀ (a_on_641 : Nat → Int32) (a_many_642 : Nat → Int32) (v_moved_643 : Int32) (a_pile_644 : Nat → Int32) (a_lies_645 : Nat → Int64) (a_movedThen_646 : Nat → Int32) (a_yearTable_647 : Nat → Int32) (a_yearMark_648 : Nat → Int32) (v_found_649 : Int32) (v_isSpent_650 : Int32), xx5 = (a_on_641, a_many_642, v_moved_643, a_pile_644, a_lies_645, a_movedThen_646, a_yearTable_647, a_yearMark_648, v_found_649, v_isSpent_650) → ∀ (H : Heap) (locs : List Loc) (ls : Array Slot), MH D vwA A s.heap (mW ad cA a_all a_hasImage a_tape a_fresh v_taped v_at v_behind v_size v_kind v_number v_wrong v_wrongAt v_depth v_steps v_faultKind v_faultPlace a_on_641 a_many_642 v_moved_643 a_pile_644 v_aside v_judgedBy v_judgedYear a_leastCost a_matched a_order a_lies_645 a_movedThen_646 a_yearTable_647 a_yearMark_648 a_beginTable a_beginMark v_statesTold v_found_649 v_yearFrom v_mark v_beginsMark v_begins a_began v_isSpent_650 a_wants a_rowSort a_rowMany a_numbers) H locs → lv_has ls 6 [] → W p l e rm_X8_spreads s m args below meth c H locs 0 0 Q (F0 m 214 ls []) := by
    intro a_on_641 a_many_642 v_moved_643 a_pile_644 a_lies_645 a_movedThen_646 a_yearTable_647 a_yearMark_648 v_found_649 v_isSpent_650 hxx H locs ls hH hl
    have hF := un10e (kk5_0 (a_on_641, a_many_642, v_moved_643, a_pile_644, a_lies_645, a_movedThen_646, a_yearTable_647, a_yearMark_648, v_found_649, v_isSpent_650) hxx)
    obtain ⟨rfl, rfl, rfl, rfl, rfl, rfl, rfl, rfl, rfl, rfl⟩ := re10 hF
    exact hret _ _ _ _ hH dX8_spreads_214
  obtain ⟨nn5, en5⟩ := loopC_some ee5
  have l5 : ∀ (n : Nat) (x_338 : Int32) (a_on_339 : Nat → Int32) (a_many_340 : Nat → Int32) (v_moved_341 : Int32) (a_pile_342 : Nat → Int32) (a_lies_343 : Nat → Int64) (a_movedThen_344 : Nat → Int32) (a_yearTable_345 : Nat → Int32) (a_yearMark_346 : Nat → Int32) (v_found_347 : Int32) (v_isSpent_348 : Int32), loopN (fun s => FX8_spreads_b5 a_all v_aside v_mark p1 s.1 s.2.1 s.2.2.1 s.2.2.2.1 s.2.2.2.2.1 s.2.2.2.2.2.1 s.2.2.2.2.2.2.1 s.2.2.2.2.2.2.2.1 s.2.2.2.2.2.2.2.2.1 s.2.2.2.2.2.2.2.2.2.1 s.2.2.2.2.2.2.2.2.2.2) n (x_338, a_on_339, a_many_340, v_moved_341, a_pile_342, a_lies_343, a_movedThen_344, a_yearTable_345, a_yearMark_346, v_found_347, v_isSpent_348) = some xx5 → ∀ (H : Heap) (locs : List Loc) (ls : Array Slot), MH D vwA A s.heap (mW ad cA a_all a_hasImage a_tape a_fresh v_taped v_at v_behind v_size v_kind v_number v_wrong v_wrongAt v_depth v_steps v_faultKind v_faultPlace a_on_339 a_many_340 v_moved_341 a_pile_342 v_aside v_judgedBy v_judgedYear a_leastCost a_matched a_order a_lies_343 a_movedThen_344 a_yearTable_345 a_yearMark_346 a_beginTable a_beginMark v_statesTold v_found_347 v_yearFrom v_mark v_beginsMark v_begins a_began v_isSpent_348 a_wants a_rowSort a_rowMany a_numbers) H locs → lv_has ls 6 [(0, .ref (ad 0)), (1, .int p1), (2, .int x_338)] → W p l e rm_X8_spreads s m args below meth c H locs 0 0 Q (F0 m 5 ls []) := by
    intro n
    induction n with
    | zero =>
      intro x_338 a_on_339 a_many_340 v_moved_341 a_pile_342 a_lies_343 a_movedThen_344 a_yearTable_345 a_yearMark_346 v_found_347 v_isSpent_348 hN
      exact absurd hN loopN_zero
    | succ n ih =>
      intro x_338 a_on_339 a_many_340 v_moved_341 a_pile_342 a_lies_343 a_movedThen_344 a_yearTable_345 a_yearMark_346 v_found_347 v_isSpent_348 hN H locs ls hH hl
      obtain ⟨yy5, hB5, hY5⟩ := loopN_succ hN
      have hF : FX8_spreads_b5 a_all v_aside v_mark p1 x_338 a_on_339 a_many_340 v_moved_341 a_pile_342 a_lies_343 a_movedThen_344 a_yearTable_345 a_yearMark_346 v_found_347 v_isSpent_348 = some yy5 := hB5
      delta FX8_spreads_b5 at hF
      refine lv_iload_n hx hb dX8_spreads_5 rfl (lv_at hl 2 rfl) ?_
      refine lv_aload_n hx hb dX8_spreads_6 rfl (lv_at hl 0 rfl) ?_
      refine mg_found hX hK hH dX8_spreads_7 ?_
      refine lv_icmp_ge (tgt := 214) hx hb dX8_spreads_10 rfl (fun c_349 => ?_) (fun c_349 => ?_)
      · have hF := itp c_349 hF
        obtain rfl := Option.some.inj hF
        exact k5_0 a_on_339 a_many_340 v_moved_341 a_pile_342 a_lies_343 a_movedThen_344 a_yearTable_345 a_yearMark_346 v_found_347 v_isSpent_348 hY5 _ _ _ hH (lv_sub hl [] rfl)
      · have hF := itn c_349 hF
        refine lv_aload_n hx hb dX8_spreads_13 rfl (lv_at hl 0 rfl) ?_
        refine mg_isSpent hX hK hH dX8_spreads_14 ?_
        refine lv_if_ne (tgt := 214) hx hb dX8_spreads_17 rfl (fun c_350 => ?_) (fun c_350 => ?_)
        · have hF := itn c_350 hF
          obtain rfl := Option.some.inj hF
          exact k5_0 a_on_339 a_many_340 v_moved_341 a_pile_342 a_lies_343 a_movedThen_344 a_yearTable_345 a_yearMark_346 v_found_347 v_isSpent_348 hY5 _ _ _ hH (lv_sub hl [] rfl)
        · have hF := itp c_350 hF
          refine lv_aload_n hx hb dX8_spreads_20 rfl (lv_at hl 0 rfl) ?_
          refine lv_aload_n hx hb dX8_spreads_21 rfl (lv_at hl 0 rfl) ?_
          refine mg_lies hX hK hH dX8_spreads_22 ?_
          refine lv_iload_n hx hb dX8_spreads_25 rfl (lv_at hl 2 rfl) ?_
          obtain ⟨y_351, he, hF⟩ := bd1e hF
          refine ml_lies hX hK hH he dX8_spreads_26 ?_
          refine lv_aload_n hx hb dX8_spreads_27 rfl (lv_at hl 0 rfl) ?_
          refine mg_movedThen hX hK hH dX8_spreads_28 ?_
          refine lv_iload_n hx hb dX8_spreads_31 rfl (lv_at hl 2 rfl) ?_
          obtain ⟨x_352, he, hF⟩ := bd1e hF
          refine ml_movedThen hX hK hH he dX8_spreads_32 ?_
          obtain ⟨a_on_353, a_many_354, v_moved_355, he, hF⟩ := bd3e hF
          refine mcV hX hK hEv hE0 hH (met_X8_looksAt hE he) (mrecv hK hH) gw_StoneYearModel_353 hd_yX8_looksAt ⟨Nat.le_of_ble_eq_true rfl, Nat.le_of_ble_eq_true rfl⟩ rfl rfl hl (Nat.le_of_ble_eq_true rfl) dX8_spreads_33 ⟨Nat.le_of_ble_eq_true rfl, Nat.le_of_ble_eq_true rfl⟩ (fun H locs hH => ?_)
          refine lv_aload_n hx hb dX8_spreads_36 rfl (lv_at hl 0 rfl) ?_
          refine mg_moved hX hK hH dX8_spreads_37 ?_
          refine lv_istore_n (lv' := [(3, .int v_moved_355), (0, .ref (ad 0)), (1, .int p1), (2, .int x_338)]) hx hb dX8_spreads_40 rfl hl (by decide) rfl (fun ls hl => ?_)
          refine lv_iconst (v := 0) hx hb dX8_spreads_41 syi_0 ?_
          refine lv_istore (lv' := [(4, .int 0), (3, .int v_moved_355), (0, .ref (ad 0)), (1, .int p1), (2, .int x_338)]) hx hb dX8_spreads_42 hl (by decide) rfl (fun ls hl => ?_)
          obtain ⟨xx44, ee44, kk44_0⟩ := bd9L hF
          have k44_0 : ∀ (a_on_632 : Nat → Int32) (a_many_633 : Nat → Int32) (a_pile_634 : Nat → Int32) (a_lies_635 : Nat → Int64) (a_movedThen_636 : Nat → Int32) (a_yearTable_637 : Nat → Int32) (a_yearMark_638 : Nat → Int32) (v_found_639 : Int32) (v_isSpent_640 : Int32), xx44 = (a_on_632, a_many_633, a_pile_634, a_lies_635, a_movedThen_636, a_yearTable_637, a_yearMark_638, v_found_639, v_isSpent_640) → ∀ (H : Heap) (locs : List Loc) (ls : Array Slot), MH D vwA A s.heap (mW ad cA a_all a_hasImage a_tape a_fresh v_taped v_at v_behind v_size v_kind v_number v_wrong v_wrongAt v_depth v_steps v_faultKind v_faultPlace a_on_632 a_many_633 v_moved_355 a_pile_634 v_aside v_judgedBy v_judgedYear a_leastCost a_matched a_order a_lies_635 a_movedThen_636 a_yearTable_637 a_yearMark_638 a_beginTable a_beginMark v_statesTold v_found_639 v_yearFrom v_mark v_beginsMark v_begins a_began v_isSpent_640 a_wants a_rowSort a_rowMany a_numbers) H locs → lv_has ls 6 [(0, .ref (ad 0)), (1, .int p1), (2, .int x_338)] → W p l e rm_X8_spreads s m args below meth c H locs 0 0 Q (F0 m 208 ls []) := by
            intro a_on_632 a_many_633 a_pile_634 a_lies_635 a_movedThen_636 a_yearTable_637 a_yearMark_638 v_found_639 v_isSpent_640 hxx H locs ls hH hl
            have hF := un9e (kk44_0 (a_on_632, a_many_633, a_pile_634, a_lies_635, a_movedThen_636, a_yearTable_637, a_yearMark_638, v_found_639, v_isSpent_640) hxx)
            refine lv_iinc (v := (x_338 + 1)) (lv' := [(2, .int (x_338 + 1)), (0, .ref (ad 0)), (1, .int p1)]) hx hb dX8_spreads_208 hl (k := 2) rfl (syc syi_1) (by decide) rfl (fun ls hl => ?_)
            refine lv_goto (tgt := 5) hx hb dX8_spreads_211 rfl ?_
            obtain rfl := Option.some.inj hF
            exact ih (x_338 + 1) a_on_632 a_many_633 v_moved_355 a_pile_634 a_lies_635 a_movedThen_636 a_yearTable_637 a_yearMark_638 v_found_639 v_isSpent_640 hY5 _ _ _ hH (lv_sub hl [1, 2, 0] rfl)
          obtain ⟨nn44, en44⟩ := loopC_some ee44
          have l44 : ∀ (n : Nat) (x_489 : Int32) (a_on_490 : Nat → Int32) (a_many_491 : Nat → Int32) (a_pile_492 : Nat → Int32) (a_lies_493 : Nat → Int64) (a_movedThen_494 : Nat → Int32) (a_yearTable_495 : Nat → Int32) (a_yearMark_496 : Nat → Int32) (v_found_497 : Int32) (v_isSpent_498 : Int32), loopN (fun s => FX8_spreads_b44 a_all v_aside v_mark p1 v_moved_355 s.1 s.2.1 s.2.2.1 s.2.2.2.1 s.2.2.2.2.1 s.2.2.2.2.2.1 s.2.2.2.2.2.2.1 s.2.2.2.2.2.2.2.1 s.2.2.2.2.2.2.2.2.1 s.2.2.2.2.2.2.2.2.2) n (x_489, a_on_490, a_many_491, a_pile_492, a_lies_493, a_movedThen_494, a_yearTable_495, a_yearMark_496, v_found_497, v_isSpent_498) = some xx44 → ∀ (H : Heap) (locs : List Loc) (ls : Array Slot), MH D vwA A s.heap (mW ad cA a_all a_hasImage a_tape a_fresh v_taped v_at v_behind v_size v_kind v_number v_wrong v_wrongAt v_depth v_steps v_faultKind v_faultPlace a_on_490 a_many_491 v_moved_355 a_pile_492 v_aside v_judgedBy v_judgedYear a_leastCost a_matched a_order a_lies_493 a_movedThen_494 a_yearTable_495 a_yearMark_496 a_beginTable a_beginMark v_statesTold v_found_497 v_yearFrom v_mark v_beginsMark v_begins a_began v_isSpent_498 a_wants a_rowSort a_rowMany a_numbers) H locs → lv_has ls 6 [(0, .ref (ad 0)), (1, .int p1), (2, .int x_338), (3, .int v_moved_355), (4, .int x_489)] → W p l e rm_X8_spreads s m args below meth c H locs 0 0 Q (F0 m 44 ls []) := by
            intro n
            induction n with
            | zero =>
              intro x_489 a_on_490 a_many_491 a_pile_492 a_lies_493 a_movedThen_494 a_yearTable_495 a_yearMark_496 v_found_497 v_isSpent_498 hN
              exact absurd hN loopN_zero
            | succ n ih =>
              intro x_489 a_on_490 a_many_491 a_pile_492 a_lies_493 a_movedThen_494 a_yearTable_495 a_yearMark_496 v_found_497 v_isSpent_498 hN H locs ls hH hl
              obtain ⟨yy44, hB44, hY44⟩ := loopN_succ hN
              have hF : FX8_spreads_b44 a_all v_aside v_mark p1 v_moved_355 x_489 a_on_490 a_many_491 a_pile_492 a_lies_493 a_movedThen_494 a_yearTable_495 a_yearMark_496 v_found_497 v_isSpent_498 = some yy44 := hB44
              delta FX8_spreads_b44 at hF
              refine lv_iload hx hb dX8_spreads_44 (lv_at hl 4 rfl) ?_
              refine lv_aload_n hx hb dX8_spreads_46 rfl (lv_at hl 0 rfl) ?_
              refine mg_all hX hK hH dX8_spreads_47 ?_
              refine lv_iconst (v := 0) hx hb dX8_spreads_50 syi_0 ?_
              obtain ⟨x_499, he, hF⟩ := bd1e hF
              refine ml_all hX hK hH he dX8_spreads_51 ?_
              refine lv_icmp_ge (tgt := 208) hx hb dX8_spreads_52 rfl (fun c_500 => ?_) (fun c_500 => ?_)
              · have hF := itp c_500 hF
                obtain rfl := Option.some.inj hF
                exact k44_0 a_on_490 a_many_491 a_pile_492 a_lies_493 a_movedThen_494 a_yearTable_495 a_yearMark_496 v_found_497 v_isSpent_498 hY44 _ _ _ hH (lv_sub hl [0, 1, 2] rfl)
              · have hF := itn c_500 hF
                refine lv_iconst (v := 0) hx hb dX8_spreads_55 syi_0 ?_
                refine lv_istore (lv' := [(5, .int 0), (0, .ref (ad 0)), (1, .int p1), (2, .int x_338), (3, .int v_moved_355), (4, .int x_489)]) hx hb dX8_spreads_56 hl (by decide) rfl (fun ls hl => ?_)
                obtain ⟨xx58, ee58, kk58_0⟩ := bd9L hF
                have k58_0 : ∀ (a_on_623 : Nat → Int32) (a_many_624 : Nat → Int32) (a_pile_625 : Nat → Int32) (a_lies_626 : Nat → Int64) (a_movedThen_627 : Nat → Int32) (a_yearTable_628 : Nat → Int32) (a_yearMark_629 : Nat → Int32) (v_found_630 : Int32) (v_isSpent_631 : Int32), xx58 = (a_on_623, a_many_624, a_pile_625, a_lies_626, a_movedThen_627, a_yearTable_628, a_yearMark_629, v_found_630, v_isSpent_631) → ∀ (H : Heap) (locs : List Loc) (ls : Array Slot), MH D vwA A s.heap (mW ad cA a_all a_hasImage a_tape a_fresh v_taped v_at v_behind v_size v_kind v_number v_wrong v_wrongAt v_depth v_steps v_faultKind v_faultPlace a_on_623 a_many_624 v_moved_355 a_pile_625 v_aside v_judgedBy v_judgedYear a_leastCost a_matched a_order a_lies_626 a_movedThen_627 a_yearTable_628 a_yearMark_629 a_beginTable a_beginMark v_statesTold v_found_630 v_yearFrom v_mark v_beginsMark v_begins a_began v_isSpent_631 a_wants a_rowSort a_rowMany a_numbers) H locs → lv_has ls 6 [(0, .ref (ad 0)), (1, .int p1), (2, .int x_338), (3, .int v_moved_355), (4, .int x_489)] → W p l e rm_X8_spreads s m args below meth c H locs 0 0 Q (F0 m 202 ls []) := by
                  intro a_on_623 a_many_624 a_pile_625 a_lies_626 a_movedThen_627 a_yearTable_628 a_yearMark_629 v_found_630 v_isSpent_631 hxx H locs ls hH hl
                  have hF := un9e (kk58_0 (a_on_623, a_many_624, a_pile_625, a_lies_626, a_movedThen_627, a_yearTable_628, a_yearMark_629, v_found_630, v_isSpent_631) hxx)
                  refine lv_iinc (v := (x_489 + 1)) (lv' := [(4, .int (x_489 + 1)), (0, .ref (ad 0)), (1, .int p1), (2, .int x_338), (3, .int v_moved_355)]) hx hb dX8_spreads_202 hl (k := 4) rfl (syc syi_1) (by decide) rfl (fun ls hl => ?_)
                  refine lv_goto (tgt := 44) hx hb dX8_spreads_205 rfl ?_
                  obtain rfl := Option.some.inj hF
                  exact ih (x_489 + 1) a_on_623 a_many_624 a_pile_625 a_lies_626 a_movedThen_627 a_yearTable_628 a_yearMark_629 v_found_630 v_isSpent_631 hY44 _ _ _ hH (lv_sub hl [1, 2, 3, 4, 0] rfl)
                obtain ⟨nn58, en58⟩ := loopC_some ee58
                have l58 : ∀ (n : Nat) (x_557 : Int32) (a_on_558 : Nat → Int32) (a_many_559 : Nat → Int32) (a_pile_560 : Nat → Int32) (a_lies_561 : Nat → Int64) (a_movedThen_562 : Nat → Int32) (a_yearTable_563 : Nat → Int32) (a_yearMark_564 : Nat → Int32) (v_found_565 : Int32) (v_isSpent_566 : Int32), loopN (fun s => FX8_spreads_b58 a_all v_aside v_mark p1 v_moved_355 x_489 s.1 s.2.1 s.2.2.1 s.2.2.2.1 s.2.2.2.2.1 s.2.2.2.2.2.1 s.2.2.2.2.2.2.1 s.2.2.2.2.2.2.2.1 s.2.2.2.2.2.2.2.2.1 s.2.2.2.2.2.2.2.2.2) n (x_557, a_on_558, a_many_559, a_pile_560, a_lies_561, a_movedThen_562, a_yearTable_563, a_yearMark_564, v_found_565, v_isSpent_566) = some xx58 → ∀ (H : Heap) (locs : List Loc) (ls : Array Slot), MH D vwA A s.heap (mW ad cA a_all a_hasImage a_tape a_fresh v_taped v_at v_behind v_size v_kind v_number v_wrong v_wrongAt v_depth v_steps v_faultKind v_faultPlace a_on_558 a_many_559 v_moved_355 a_pile_560 v_aside v_judgedBy v_judgedYear a_leastCost a_matched a_order a_lies_561 a_movedThen_562 a_yearTable_563 a_yearMark_564 a_beginTable a_beginMark v_statesTold v_found_565 v_yearFrom v_mark v_beginsMark v_begins a_began v_isSpent_566 a_wants a_rowSort a_rowMany a_numbers) H locs → lv_has ls 6 [(0, .ref (ad 0)), (1, .int p1), (2, .int x_338), (3, .int v_moved_355), (4, .int x_489), (5, .int x_557)] → W p l e rm_X8_spreads s m args below meth c H locs 0 0 Q (F0 m 58 ls []) := by
                  intro n
                  induction n with
                  | zero =>
                    intro x_557 a_on_558 a_many_559 a_pile_560 a_lies_561 a_movedThen_562 a_yearTable_563 a_yearMark_564 v_found_565 v_isSpent_566 hN
                    exact absurd hN loopN_zero
                  | succ n ih =>
                    intro x_557 a_on_558 a_many_559 a_pile_560 a_lies_561 a_movedThen_562 a_yearTable_563 a_yearMark_564 v_found_565 v_isSpent_566 hN H locs ls hH hl
                    obtain ⟨yy58, hB58, hY58⟩ := loopN_succ hN
                    have hF : FX8_spreads_b58 a_all v_aside v_mark p1 v_moved_355 x_489 x_557 a_on_558 a_many_559 a_pile_560 a_lies_561 a_movedThen_562 a_yearTable_563 a_yearMark_564 v_found_565 v_isSpent_566 = some yy58 := hB58
                    delta FX8_spreads_b58 at hF
                    refine lv_iload hx hb dX8_spreads_58 (lv_at hl 5 rfl) ?_
                    refine lv_aload_n hx hb dX8_spreads_60 rfl (lv_at hl 0 rfl) ?_
                    refine mg_all hX hK hH dX8_spreads_61 ?_
                    refine lv_iconst (v := 0) hx hb dX8_spreads_64 syi_0 ?_
                    obtain ⟨x_567, he, hF⟩ := bd1e hF
                    refine ml_all hX hK hH he dX8_spreads_65 ?_
                    refine lv_icmp_ge (tgt := 202) hx hb dX8_spreads_66 rfl (fun c_568 => ?_) (fun c_568 => ?_)
                    · have hF := itp c_568 hF
                      obtain rfl := Option.some.inj hF
                      exact k58_0 a_on_558 a_many_559 a_pile_560 a_lies_561 a_movedThen_562 a_yearTable_563 a_yearMark_564 v_found_565 v_isSpent_566 hY58 _ _ _ hH (lv_sub hl [0, 1, 2, 3, 4] rfl)
                    · have hF := itn c_568 hF
                      refine lv_iload hx hb dX8_spreads_69 (lv_at hl 4 rfl) ?_
                      refine lv_iload hx hb dX8_spreads_71 (lv_at hl 5 rfl) ?_
                      have j196 : ∀ (a_on_614 : Nat → Int32) (a_many_615 : Nat → Int32) (a_pile_616 : Nat → Int32) (a_lies_617 : Nat → Int64) (a_movedThen_618 : Nat → Int32) (a_yearTable_619 : Nat → Int32) (a_yearMark_620 : Nat → Int32) (v_found_621 : Int32) (v_isSpent_622 : Int32), FX8_spreads_j196 x_557 a_on_614 a_many_615 a_pile_616 a_lies_617 a_movedThen_618 a_yearTable_619 a_yearMark_620 v_found_621 v_isSpent_622 = some yy58 → ∀ (H : Heap) (locs : List Loc) (ls : Array Slot), MH D vwA A s.heap (mW ad cA a_all a_hasImage a_tape a_fresh v_taped v_at v_behind v_size v_kind v_number v_wrong v_wrongAt v_depth v_steps v_faultKind v_faultPlace a_on_614 a_many_615 v_moved_355 a_pile_616 v_aside v_judgedBy v_judgedYear a_leastCost a_matched a_order a_lies_617 a_movedThen_618 a_yearTable_619 a_yearMark_620 a_beginTable a_beginMark v_statesTold v_found_621 v_yearFrom v_mark v_beginsMark v_begins a_began v_isSpent_622 a_wants a_rowSort a_rowMany a_numbers) H locs → lv_has ls 6 [(0, .ref (ad 0)), (1, .int p1), (2, .int x_338), (3, .int v_moved_355), (4, .int x_489), (5, .int x_557)] → W p l e rm_X8_spreads s m args below meth c H locs 0 0 Q (F0 m 196 ls []) := by
                        intro a_on_614 a_many_615 a_pile_616 a_lies_617 a_movedThen_618 a_yearTable_619 a_yearMark_620 v_found_621 v_isSpent_622 hF H locs ls hH hl
                        delta FX8_spreads_j196 at hF
                        refine lv_iinc (v := (x_557 + 1)) (lv' := [(5, .int (x_557 + 1)), (0, .ref (ad 0)), (1, .int p1), (2, .int x_338), (3, .int v_moved_355), (4, .int x_489)]) hx hb dX8_spreads_196 hl (k := 5) rfl (syc syi_1) (by decide) rfl (fun ls hl => ?_)
                        refine lv_goto (tgt := 58) hx hb dX8_spreads_199 rfl ?_
                        obtain rfl := Option.some.inj hF
                        exact ih (x_557 + 1) a_on_614 a_many_615 a_pile_616 a_lies_617 a_movedThen_618 a_yearTable_619 a_yearMark_620 v_found_621 v_isSpent_622 hY58 _ _ _ hH (lv_sub hl [1, 2, 3, 4, 5, 0] rfl)
                      refine lv_icmp_ne (tgt := 79) hx hb dX8_spreads_73 rfl (fun c_569 => ?_) (fun c_569 => ?_)
                      · have hF := itn c_569 hF
                        refine lv_aload_n hx hb dX8_spreads_79 rfl (lv_at hl 0 rfl) ?_
                        refine lv_iload hx hb dX8_spreads_80 (lv_at hl 4 rfl) ?_
                        refine lv_iload hx hb dX8_spreads_82 (lv_at hl 5 rfl) ?_
                        obtain ⟨x_570, a_many_571, a_pile_572, he, hF⟩ := bd3e hF
                        refine mcV hX hK hEv hE0 hH (met_X8_mayCarry hE he) (mrecv hK hH) gw_StoneYearModel_266 hd_yX8_mayCarry ⟨Nat.le_of_ble_eq_true rfl, Nat.le_of_ble_eq_true rfl⟩ rfl rfl hl (Nat.le_of_ble_eq_true rfl) dX8_spreads_84 ⟨Nat.le_of_ble_eq_true rfl, Nat.le_of_ble_eq_true rfl⟩ (fun H locs hH => ?_)
                        have j134 : ∀ (a_on_589 : Nat → Int32) (a_many_590 : Nat → Int32) (a_lies_591 : Nat → Int64) (a_movedThen_592 : Nat → Int32) (a_yearTable_593 : Nat → Int32) (a_yearMark_594 : Nat → Int32) (v_found_595 : Int32) (v_isSpent_596 : Int32), FX8_spreads_j134 a_all v_mark p1 v_moved_355 x_489 x_557 a_pile_572 a_on_589 a_many_590 a_lies_591 a_movedThen_592 a_yearTable_593 a_yearMark_594 v_found_595 v_isSpent_596 = some yy58 → ∀ (H : Heap) (locs : List Loc) (ls : Array Slot), MH D vwA A s.heap (mW ad cA a_all a_hasImage a_tape a_fresh v_taped v_at v_behind v_size v_kind v_number v_wrong v_wrongAt v_depth v_steps v_faultKind v_faultPlace a_on_589 a_many_590 v_moved_355 a_pile_572 v_aside v_judgedBy v_judgedYear a_leastCost a_matched a_order a_lies_591 a_movedThen_592 a_yearTable_593 a_yearMark_594 a_beginTable a_beginMark v_statesTold v_found_595 v_yearFrom v_mark v_beginsMark v_begins a_began v_isSpent_596 a_wants a_rowSort a_rowMany a_numbers) H locs → lv_has ls 6 [(0, .ref (ad 0)), (1, .int p1), (2, .int x_338), (3, .int v_moved_355), (4, .int x_489), (5, .int x_557)] → W p l e rm_X8_spreads s m args below meth c H locs 0 0 Q (F0 m 134 ls []) := by
                          intro a_on_589 a_many_590 a_lies_591 a_movedThen_592 a_yearTable_593 a_yearMark_594 v_found_595 v_isSpent_596 hF H locs ls hH hl
                          delta FX8_spreads_j134 at hF
                          refine lv_iload hx hb dX8_spreads_134 (lv_at hl 4 rfl) ?_
                          refine lv_iload hx hb dX8_spreads_136 (lv_at hl 5 rfl) ?_
                          refine lv_icmp_ge (tgt := 196) hx hb dX8_spreads_138 rfl (fun c_597 => ?_) (fun c_597 => ?_)
                          · have hF := itp c_597 hF
                            exact j196 a_on_589 a_many_590 a_pile_572 a_lies_591 a_movedThen_592 a_yearTable_593 a_yearMark_594 v_found_595 v_isSpent_596 hF _ _ _ hH (lv_sub hl [0, 1, 2, 3, 4, 5] rfl)
                          · have hF := itn c_597 hF
                            refine lv_aload_n hx hb dX8_spreads_141 rfl (lv_at hl 0 rfl) ?_
                            refine lv_iload hx hb dX8_spreads_142 (lv_at hl 4 rfl) ?_
                            refine lv_iload hx hb dX8_spreads_144 (lv_at hl 5 rfl) ?_
                            obtain ⟨x_598, a_pile_599, he, hF⟩ := bd2e hF
                            refine mcV hX hK hEv hE0 hH (met_X8_mayTurn hE he) (mrecv hK hH) gw_StoneYearModel_269 hd_yX8_mayTurn ⟨Nat.le_of_ble_eq_true rfl, Nat.le_of_ble_eq_true rfl⟩ rfl rfl hl (Nat.le_of_ble_eq_true rfl) dX8_spreads_146 ⟨Nat.le_of_ble_eq_true rfl, Nat.le_of_ble_eq_true rfl⟩ (fun H locs hH => ?_)
                            refine lv_if_ne (tgt := 196) hx hb dX8_spreads_149 rfl (fun c_600 => ?_) (fun c_600 => ?_)
                            · have hF := itn c_600 hF
                              exact j196 a_on_589 a_many_590 a_pile_599 a_lies_591 a_movedThen_592 a_yearTable_593 a_yearMark_594 v_found_595 v_isSpent_596 hF _ _ _ hH (lv_sub hl [0, 1, 2, 3, 4, 5] rfl)
                            · have hF := itp c_600 hF
                              refine lv_aload_n hx hb dX8_spreads_152 rfl (lv_at hl 0 rfl) ?_
                              refine lv_iload hx hb dX8_spreads_153 (lv_at hl 4 rfl) ?_
                              refine lv_iload hx hb dX8_spreads_155 (lv_at hl 5 rfl) ?_
                              obtain ⟨a_on_601, v_moved_602, he, hF⟩ := bd2e hF
                              refine mcV hX hK hEv hE0 hH (met_X8_turns hE he) (mrecv hK hH) gw_StoneYearModel_281 hd_yX8_turns ⟨Nat.le_of_ble_eq_true rfl, Nat.le_of_ble_eq_true rfl⟩ rfl rfl hl (Nat.le_of_ble_eq_true rfl) dX8_spreads_157 ⟨Nat.le_of_ble_eq_true rfl, Nat.le_of_ble_eq_true rfl⟩ (fun H locs hH => ?_)
                              refine lv_aload_n hx hb dX8_spreads_160 rfl (lv_at hl 0 rfl) ?_
                              refine lv_aload_n hx hb dX8_spreads_161 rfl (lv_at hl 0 rfl) ?_
                              refine mg_on hX hK hH dX8_spreads_162 ?_
                              obtain ⟨y_603, he, hF⟩ := bd1e hF
                              refine mcS hX hK hEv hE0 hH (met_X8_packed hE he) gw_StoneYearModel_346 hd_yX8_packed ⟨Nat.le_of_ble_eq_true rfl, Nat.le_of_ble_eq_true rfl⟩ rfl rfl hl (Nat.le_of_ble_eq_true rfl) dX8_spreads_165 ⟨Nat.le_of_ble_eq_true rfl, Nat.le_of_ble_eq_true rfl⟩ (fun H locs hH => ?_)
                              refine lv_iload_n hx hb dX8_spreads_168 rfl (lv_at hl 1 rfl) ?_
                              have j180 : ∀ (x_605 : Int32), FX8_spreads_j180 v_mark x_489 x_557 a_many_590 a_lies_591 a_movedThen_592 a_yearTable_593 a_yearMark_594 v_found_595 v_isSpent_596 a_pile_599 a_on_601 v_moved_602 y_603 x_605 = some yy58 → ∀ (H : Heap) (locs : List Loc) (ls : Array Slot), MH D vwA A s.heap (mW ad cA a_all a_hasImage a_tape a_fresh v_taped v_at v_behind v_size v_kind v_number v_wrong v_wrongAt v_depth v_steps v_faultKind v_faultPlace a_on_601 a_many_590 v_moved_602 a_pile_599 v_aside v_judgedBy v_judgedYear a_leastCost a_matched a_order a_lies_591 a_movedThen_592 a_yearTable_593 a_yearMark_594 a_beginTable a_beginMark v_statesTold v_found_595 v_yearFrom v_mark v_beginsMark v_begins a_began v_isSpent_596 a_wants a_rowSort a_rowMany a_numbers) H locs → lv_has ls 6 [(0, .ref (ad 0)), (1, .int p1), (2, .int x_338), (3, .int v_moved_355), (4, .int x_489), (5, .int x_557)] → W p l e rm_X8_spreads s m args below meth c H locs 0 0 Q (F0 m 180 ls [.int x_605, .long y_603, .ref (ad 0)]) := by
                                intro x_605 hF H locs ls hH hl
                                delta FX8_spreads_j180 at hF
                                obtain ⟨a_lies_606, a_movedThen_607, a_yearTable_608, a_yearMark_609, v_found_610, v_isSpent_611, he, hF⟩ := bd6e hF
                                refine mcV hX hK hEv hE0 hH (met_X8_takes hE he) (mrecv hK hH) gw_StoneYearModel_390 hd_yX8_takes ⟨Nat.le_of_ble_eq_true rfl, Nat.le_of_ble_eq_true rfl⟩ rfl rfl hl (Nat.le_of_ble_eq_true rfl) dX8_spreads_180 ⟨Nat.le_of_ble_eq_true rfl, Nat.le_of_ble_eq_true rfl⟩ (fun H locs hH => ?_)
                                refine lv_aload_n hx hb dX8_spreads_183 rfl (lv_at hl 0 rfl) ?_
                                refine lv_iload hx hb dX8_spreads_184 (lv_at hl 4 rfl) ?_
                                refine lv_iload hx hb dX8_spreads_186 (lv_at hl 5 rfl) ?_
                                obtain ⟨a_on_612, v_moved_613, he, hF⟩ := bd2e hF
                                refine mcV hX hK hEv hE0 hH (met_X8_turns hE he) (mrecv hK hH) gw_StoneYearModel_281 hd_yX8_turns ⟨Nat.le_of_ble_eq_true rfl, Nat.le_of_ble_eq_true rfl⟩ rfl rfl hl (Nat.le_of_ble_eq_true rfl) dX8_spreads_188 ⟨Nat.le_of_ble_eq_true rfl, Nat.le_of_ble_eq_true rfl⟩ (fun H locs hH => ?_)
                                refine lv_aload_n hx hb dX8_spreads_191 rfl (lv_at hl 0 rfl) ?_
                                refine lv_iload_n hx hb dX8_spreads_192 rfl (lv_at hl 3 rfl) ?_
                                refine mp_moved hX hK hH dX8_spreads_193 (fun H locs hH => ?_)
                                exact j196 a_on_612 a_many_590 a_pile_599 a_lies_606 a_movedThen_607 a_yearTable_608 a_yearMark_609 v_found_610 v_isSpent_611 hF _ _ _ hH (lv_sub hl [0, 1, 2, 3, 4, 5] rfl)
                              refine lv_if_eq (tgt := 176) hx hb dX8_spreads_169 rfl (fun c_604 => ?_) (fun c_604 => ?_)
                              · have hF := itp c_604 hF
                                refine lv_aload_n hx hb dX8_spreads_176 rfl (lv_at hl 0 rfl) ?_
                                refine mg_moved hX hK hH dX8_spreads_177 ?_
                                exact j180 v_moved_602 hF _ _ _ hH (lv_sub hl [0, 1, 2, 3, 4, 5] rfl)
                              · have hF := itn c_604 hF
                                refine lv_iconst (v := 0) hx hb dX8_spreads_172 syi_0 ?_
                                refine lv_goto (tgt := 180) hx hb dX8_spreads_173 rfl ?_
                                exact j180 0 hF _ _ _ hH (lv_sub hl [0, 1, 2, 3, 4, 5] rfl)
                        refine lv_if_ne (tgt := 134) hx hb dX8_spreads_87 rfl (fun c_573 => ?_) (fun c_573 => ?_)
                        · have hF := itn c_573 hF
                          exact j134 a_on_558 a_many_571 a_lies_561 a_movedThen_562 a_yearTable_563 a_yearMark_564 v_found_565 v_isSpent_566 hF _ _ _ hH (lv_sub hl [0, 1, 2, 3, 4, 5] rfl)
                        · have hF := itp c_573 hF
                          refine lv_aload_n hx hb dX8_spreads_90 rfl (lv_at hl 0 rfl) ?_
                          refine lv_iload hx hb dX8_spreads_91 (lv_at hl 4 rfl) ?_
                          refine lv_iload hx hb dX8_spreads_93 (lv_at hl 5 rfl) ?_
                          obtain ⟨a_on_574, a_many_575, v_moved_576, he, hF⟩ := bd3e hF
                          refine mcV hX hK hEv hE0 hH (met_X8_carries hE he) (mrecv hK hH) gw_StoneYearModel_272 hd_yX8_carries ⟨Nat.le_of_ble_eq_true rfl, Nat.le_of_ble_eq_true rfl⟩ rfl rfl hl (Nat.le_of_ble_eq_true rfl) dX8_spreads_95 ⟨Nat.le_of_ble_eq_true rfl, Nat.le_of_ble_eq_true rfl⟩ (fun H locs hH => ?_)
                          refine lv_aload_n hx hb dX8_spreads_98 rfl (lv_at hl 0 rfl) ?_
                          refine lv_aload_n hx hb dX8_spreads_99 rfl (lv_at hl 0 rfl) ?_
                          refine mg_on hX hK hH dX8_spreads_100 ?_
                          obtain ⟨y_577, he, hF⟩ := bd1e hF
                          refine mcS hX hK hEv hE0 hH (met_X8_packed hE he) gw_StoneYearModel_346 hd_yX8_packed ⟨Nat.le_of_ble_eq_true rfl, Nat.le_of_ble_eq_true rfl⟩ rfl rfl hl (Nat.le_of_ble_eq_true rfl) dX8_spreads_103 ⟨Nat.le_of_ble_eq_true rfl, Nat.le_of_ble_eq_true rfl⟩ (fun H locs hH => ?_)
                          refine lv_iload_n hx hb dX8_spreads_106 rfl (lv_at hl 1 rfl) ?_
                          have j118 : ∀ (x_579 : Int32), FX8_spreads_j118 a_all v_mark p1 v_moved_355 x_489 x_557 a_lies_561 a_movedThen_562 a_yearTable_563 a_yearMark_564 v_found_565 v_isSpent_566 a_pile_572 a_on_574 a_many_575 v_moved_576 y_577 x_579 = some yy58 → ∀ (H : Heap) (locs : List Loc) (ls : Array Slot), MH D vwA A s.heap (mW ad cA a_all a_hasImage a_tape a_fresh v_taped v_at v_behind v_size v_kind v_number v_wrong v_wrongAt v_depth v_steps v_faultKind v_faultPlace a_on_574 a_many_575 v_moved_576 a_pile_572 v_aside v_judgedBy v_judgedYear a_leastCost a_matched a_order a_lies_561 a_movedThen_562 a_yearTable_563 a_yearMark_564 a_beginTable a_beginMark v_statesTold v_found_565 v_yearFrom v_mark v_beginsMark v_begins a_began v_isSpent_566 a_wants a_rowSort a_rowMany a_numbers) H locs → lv_has ls 6 [(0, .ref (ad 0)), (1, .int p1), (2, .int x_338), (3, .int v_moved_355), (4, .int x_489), (5, .int x_557)] → W p l e rm_X8_spreads s m args below meth c H locs 0 0 Q (F0 m 118 ls [.int x_579, .long y_577, .ref (ad 0)]) := by
                            intro x_579 hF H locs ls hH hl
                            delta FX8_spreads_j118 at hF
                            obtain ⟨a_lies_580, a_movedThen_581, a_yearTable_582, a_yearMark_583, v_found_584, v_isSpent_585, he, hF⟩ := bd6e hF
                            refine mcV hX hK hEv hE0 hH (met_X8_takes hE he) (mrecv hK hH) gw_StoneYearModel_390 hd_yX8_takes ⟨Nat.le_of_ble_eq_true rfl, Nat.le_of_ble_eq_true rfl⟩ rfl rfl hl (Nat.le_of_ble_eq_true rfl) dX8_spreads_118 ⟨Nat.le_of_ble_eq_true rfl, Nat.le_of_ble_eq_true rfl⟩ (fun H locs hH => ?_)
                            refine lv_aload_n hx hb dX8_spreads_121 rfl (lv_at hl 0 rfl) ?_
                            refine lv_iload hx hb dX8_spreads_122 (lv_at hl 5 rfl) ?_
                            refine lv_iload hx hb dX8_spreads_124 (lv_at hl 4 rfl) ?_
                            obtain ⟨a_on_586, a_many_587, v_moved_588, he, hF⟩ := bd3e hF
                            refine mcV hX hK hEv hE0 hH (met_X8_carries hE he) (mrecv hK hH) gw_StoneYearModel_272 hd_yX8_carries ⟨Nat.le_of_ble_eq_true rfl, Nat.le_of_ble_eq_true rfl⟩ rfl rfl hl (Nat.le_of_ble_eq_true rfl) dX8_spreads_126 ⟨Nat.le_of_ble_eq_true rfl, Nat.le_of_ble_eq_true rfl⟩ (fun H locs hH => ?_)
                            refine lv_aload_n hx hb dX8_spreads_129 rfl (lv_at hl 0 rfl) ?_
                            refine lv_iload_n hx hb dX8_spreads_130 rfl (lv_at hl 3 rfl) ?_
                            refine mp_moved hX hK hH dX8_spreads_131 (fun H locs hH => ?_)
                            exact j134 a_on_586 a_many_587 a_lies_580 a_movedThen_581 a_yearTable_582 a_yearMark_583 v_found_584 v_isSpent_585 hF _ _ _ hH (lv_sub hl [0, 1, 2, 3, 4, 5] rfl)
                          refine lv_if_eq (tgt := 114) hx hb dX8_spreads_107 rfl (fun c_578 => ?_) (fun c_578 => ?_)
                          · have hF := itp c_578 hF
                            refine lv_aload_n hx hb dX8_spreads_114 rfl (lv_at hl 0 rfl) ?_
                            refine mg_moved hX hK hH dX8_spreads_115 ?_
                            exact j118 v_moved_576 hF _ _ _ hH (lv_sub hl [0, 1, 2, 3, 4, 5] rfl)
                          · have hF := itn c_578 hF
                            refine lv_iconst (v := 0) hx hb dX8_spreads_110 syi_0 ?_
                            refine lv_goto (tgt := 118) hx hb dX8_spreads_111 rfl ?_
                            exact j118 0 hF _ _ _ hH (lv_sub hl [0, 1, 2, 3, 4, 5] rfl)
                      · have hF := itp c_569 hF
                        refine lv_goto (tgt := 196) hx hb dX8_spreads_76 rfl ?_
                        exact j196 a_on_558 a_many_559 a_pile_560 a_lies_561 a_movedThen_562 a_yearTable_563 a_yearMark_564 v_found_565 v_isSpent_566 hF _ _ _ hH (lv_sub hl [0, 1, 2, 3, 4, 5] rfl)
                exact l58 nn58 0 a_on_490 a_many_491 a_pile_492 a_lies_493 a_movedThen_494 a_yearTable_495 a_yearMark_496 v_found_497 v_isSpent_498 en58 _ _ _ hH (lv_sub hl [1, 2, 3, 4, 5, 0] rfl)
          exact l44 nn44 0 a_on_353 a_many_354 a_pile_342 a_lies_343 a_movedThen_344 a_yearTable_345 a_yearMark_346 v_found_347 v_isSpent_348 en44 _ _ _ hH (lv_sub hl [2, 3, 4, 1, 0] rfl)
  exact l5 nn5 v_yearFrom a_on a_many v_moved a_pile a_lies a_movedThen a_yearTable a_yearMark v_found v_isSpent en5 _ _ _ hH (lv_sub hl [1, 2, 0] rfl)
abbrev rm_X8_startsYears : Room := { frames := 2, cells := 0, slots := 0, locals := 48 }
set_option maxHeartbeats 4000000 in
theorem met_X8_startsYears {l : Launch} {D : va_G} {ad : Nat → Nat} {cA : Nat → ClassId} {a_all : Nat → Int32} {a_hasImage : Nat → Int32} {a_tape : Nat → Int32} {a_fresh : Nat → Int32} {v_taped : Int32} {v_at : Int32} {v_behind : Int32} {v_size : Int32} {v_kind : Int32} {v_number : Int32} {v_wrong : Int32} {v_wrongAt : Int32} {v_depth : Int32} {v_steps : Int32} {v_faultKind : Int32} {v_faultPlace : Int32} {a_on : Nat → Int32} {a_many : Nat → Int32} {v_moved : Int32} {a_pile : Nat → Int32} {v_aside : Int32} {v_judgedBy : Int32} {v_judgedYear : Int32} {a_leastCost : Nat → Int32} {a_matched : Nat → Int32} {a_order : Nat → Int32} {a_lies : Nat → Int64} {a_movedThen : Nat → Int32} {a_yearTable : Nat → Int32} {a_yearMark : Nat → Int32} {a_beginTable : Nat → Int32} {a_beginMark : Nat → Int32} {v_statesTold : Int32} {v_found : Int32} {v_yearFrom : Int32} {v_mark : Int32} {v_beginsMark : Int32} {v_begins : Int32} {a_began : Nat → Int64} {v_isSpent : Int32} {a_wants : Nat → Int32} {a_rowSort : Nat → Int32} {a_rowMany : Nat → Int32} {a_numbers : Nat → Int64}   {ra_lies : Nat → Int64} {ra_movedThen : Nat → Int32} {ra_yearTable : Nat → Int32} {ra_yearMark : Nat → Int32} {ra_beginTable : Nat → Int32} {ra_beginMark : Nat → Int32} {rv_found : Int32} {rv_yearFrom : Int32} {rv_mark : Int32} {rv_beginsMark : Int32} {rv_begins : Int32} {ra_began : Nat → Int64} {rv_isSpent : Int32} {ak av fo : Nat} {E : EvT} (hE : EvM E ak av fo) (hF : FX8_startsYears a_on v_moved a_lies a_movedThen a_yearTable a_yearMark a_beginTable a_beginMark v_mark v_beginsMark a_began = some (ra_lies, ra_movedThen, ra_yearTable, ra_yearMark, ra_beginTable, ra_beginMark, rv_found, rv_yearFrom, rv_mark, rv_beginsMark, rv_begins, ra_began, rv_isSpent)) : MM l yX8_startsYears (ws_ yX8_startsYears cX8_startsYears 1 (Option.none : Option Jvm.ClassFile.FieldType)) rm_X8_startsYears D vwA (mT cA) E [.ref (ad 0)] (mW ad cA a_all a_hasImage a_tape a_fresh v_taped v_at v_behind v_size v_kind v_number v_wrong v_wrongAt v_depth v_steps v_faultKind v_faultPlace a_on a_many v_moved a_pile v_aside v_judgedBy v_judgedYear a_leastCost a_matched a_order a_lies a_movedThen a_yearTable a_yearMark a_beginTable a_beginMark v_statesTold v_found v_yearFrom v_mark v_beginsMark v_begins a_began v_isSpent a_wants a_rowSort a_rowMany a_numbers) (mW ad cA a_all a_hasImage a_tape a_fresh v_taped v_at v_behind v_size v_kind v_number v_wrong v_wrongAt v_depth v_steps v_faultKind v_faultPlace a_on a_many v_moved a_pile v_aside v_judgedBy v_judgedYear a_leastCost a_matched a_order ra_lies ra_movedThen ra_yearTable ra_yearMark ra_beginTable ra_beginMark v_statesTold rv_found rv_yearFrom rv_mark rv_beginsMark rv_begins ra_began rv_isSpent a_wants a_rowSort a_rowMany a_numbers) none := by
  refine MM.ofV (by decide) (Nat.le_of_ble_eq_true rfl) ?_
  intro p e s m args below meth c Q A hX hK hE0 hret H locs ls hH hl
  have hX : CallFix p m c cX8_startsYears 1 s args lw_all RX8 := hX
  have hx := hX.1
  have hb := hX.2.1
  have hown := hX.2.2.2.1
  have hts := hX.2.2.2.2
  have hl : lv_has ls 1 [(0, .ref (ad 0))] := hl
  have hEv := hE.1
  delta FX8_startsYears at hF
  refine lv_aload_n hx hb dX8_startsYears_0 rfl (lv_at hl 0 rfl) ?_
  refine lv_iconst (v := 0) hx hb dX8_startsYears_1 syi_0 ?_
  refine mp_found hX hK hH dX8_startsYears_2 (fun H locs hH => ?_)
  refine lv_aload_n hx hb dX8_startsYears_5 rfl (lv_at hl 0 rfl) ?_
  refine lv_iconst (v := 0) hx hb dX8_startsYears_6 syi_0 ?_
  refine mp_yearFrom hX hK hH dX8_startsYears_7 (fun H locs hH => ?_)
  refine lv_aload_n hx hb dX8_startsYears_10 rfl (lv_at hl 0 rfl) ?_
  refine lv_iconst (v := 0) hx hb dX8_startsYears_11 syi_0 ?_
  refine mp_begins hX hK hH dX8_startsYears_12 (fun H locs hH => ?_)
  refine lv_aload_n hx hb dX8_startsYears_15 rfl (lv_at hl 0 rfl) ?_
  refine lv_iconst (v := 0) hx hb dX8_startsYears_16 syi_0 ?_
  refine mp_isSpent hX hK hH (by decide) dX8_startsYears_17 (fun H locs hH => ?_)
  refine lv_aload_n hx hb dX8_startsYears_20 rfl (lv_at hl 0 rfl) ?_
  refine lv_dup hx hb dX8_startsYears_21 rfl ?_
  refine mg_mark hX hK hH dX8_startsYears_22 ?_
  refine lv_iconst (v := 1) hx hb dX8_startsYears_25 syi_1 ?_
  refine lv_iadd hx hb dX8_startsYears_26 ?_
  refine mp_mark hX hK hH dX8_startsYears_27 (fun H locs hH => ?_)
  refine lv_aload_n hx hb dX8_startsYears_30 rfl (lv_at hl 0 rfl) ?_
  refine lv_dup hx hb dX8_startsYears_31 rfl ?_
  refine mg_beginsMark hX hK hH dX8_startsYears_32 ?_
  refine lv_iconst (v := 1) hx hb dX8_startsYears_35 syi_1 ?_
  refine lv_iadd hx hb dX8_startsYears_36 ?_
  refine mp_beginsMark hX hK hH dX8_startsYears_37 (fun H locs hH => ?_)
  refine lv_aload_n hx hb dX8_startsYears_40 rfl (lv_at hl 0 rfl) ?_
  refine lv_aload_n hx hb dX8_startsYears_41 rfl (lv_at hl 0 rfl) ?_
  refine mg_on hX hK hH dX8_startsYears_42 ?_
  obtain ⟨y_45, he, hF⟩ := bd1e hF
  refine mcS hX hK hEv hE0 hH (met_X8_packed hE he) gw_StoneYearModel_346 hd_yX8_packed ⟨Nat.le_of_ble_eq_true rfl, Nat.le_of_ble_eq_true rfl⟩ rfl rfl hl (Nat.le_of_ble_eq_true rfl) dX8_startsYears_45 ⟨Nat.le_of_ble_eq_true rfl, Nat.le_of_ble_eq_true rfl⟩ (fun H locs hH => ?_)
  refine lv_aload_n hx hb dX8_startsYears_48 rfl (lv_at hl 0 rfl) ?_
  refine mg_moved hX hK hH dX8_startsYears_49 ?_
  obtain ⟨a_lies_46, a_movedThen_47, a_yearTable_48, a_yearMark_49, v_found_50, v_isSpent_51, he, hF⟩ := bd6e hF
  refine mcV hX hK hEv hE0 hH (met_X8_takes hE he) (mrecv hK hH) gw_StoneYearModel_390 hd_yX8_takes ⟨Nat.le_of_ble_eq_true rfl, Nat.le_of_ble_eq_true rfl⟩ rfl rfl hl (Nat.le_of_ble_eq_true rfl) dX8_startsYears_52 ⟨Nat.le_of_ble_eq_true rfl, Nat.le_of_ble_eq_true rfl⟩ (fun H locs hH => ?_)
  refine lv_aload_n hx hb dX8_startsYears_55 rfl (lv_at hl 0 rfl) ?_
  refine mg_moved hX hK hH dX8_startsYears_56 ?_
  refine lv_if_ne (tgt := 74) hx hb dX8_startsYears_59 rfl (fun c_52 => ?_) (fun c_52 => ?_)
  · have hF := itn c_52 hF
    obtain ⟨rfl, rfl, rfl, rfl, rfl, rfl, rfl, rfl, rfl, rfl, rfl, rfl, rfl⟩ := re13 hF
    exact hret _ _ _ _ hH dX8_startsYears_74
  · have hF := itp c_52 hF
    refine lv_aload_n hx hb dX8_startsYears_62 rfl (lv_at hl 0 rfl) ?_
    refine lv_aload_n hx hb dX8_startsYears_63 rfl (lv_at hl 0 rfl) ?_
    refine mg_on hX hK hH dX8_startsYears_64 ?_
    obtain ⟨y_53, he, hF⟩ := bd1e hF
    refine mcS hX hK hEv hE0 hH (met_X8_packed hE he) gw_StoneYearModel_346 hd_yX8_packed ⟨Nat.le_of_ble_eq_true rfl, Nat.le_of_ble_eq_true rfl⟩ rfl rfl hl (Nat.le_of_ble_eq_true rfl) dX8_startsYears_67 ⟨Nat.le_of_ble_eq_true rfl, Nat.le_of_ble_eq_true rfl⟩ (fun H locs hH => ?_)
    obtain ⟨b_54, a_beginTable_55, a_beginMark_56, v_begins_57, a_began_58, he, hF⟩ := bd5e hF
    refine mcV hX hK hEv hE0 hH (met_X8_isBegun hE he) (mrecv hK hH) gw_StoneYearModel_393 hd_yX8_isBegun ⟨Nat.le_of_ble_eq_true rfl, Nat.le_of_ble_eq_true rfl⟩ rfl rfl hl (Nat.le_of_ble_eq_true rfl) dX8_startsYears_70 ⟨Nat.le_of_ble_eq_true rfl, Nat.le_of_ble_eq_true rfl⟩ (fun H locs hH => ?_)
    refine lv_pop hx hb dX8_startsYears_73 rfl ?_
    obtain ⟨rfl, rfl, rfl, rfl, rfl, rfl, rfl, rfl, rfl, rfl, rfl, rfl, rfl⟩ := re13 hF
    exact hret _ _ _ _ hH dX8_startsYears_74
abbrev rm_X8_sought : Room := { frames := 4, cells := 0, slots := 0, locals := 105 }
set_option maxHeartbeats 4000000 in
theorem met_X8_sought {l : Launch} {D : va_G} {ad : Nat → Nat} {cA : Nat → ClassId} {a_all : Nat → Int32} {a_hasImage : Nat → Int32} {a_tape : Nat → Int32} {a_fresh : Nat → Int32} {v_taped : Int32} {v_at : Int32} {v_behind : Int32} {v_size : Int32} {v_kind : Int32} {v_number : Int32} {v_wrong : Int32} {v_wrongAt : Int32} {v_depth : Int32} {v_steps : Int32} {v_faultKind : Int32} {v_faultPlace : Int32} {a_on : Nat → Int32} {a_many : Nat → Int32} {v_moved : Int32} {a_pile : Nat → Int32} {v_aside : Int32} {v_judgedBy : Int32} {v_judgedYear : Int32} {a_leastCost : Nat → Int32} {a_matched : Nat → Int32} {a_order : Nat → Int32} {a_lies : Nat → Int64} {a_movedThen : Nat → Int32} {a_yearTable : Nat → Int32} {a_yearMark : Nat → Int32} {a_beginTable : Nat → Int32} {a_beginMark : Nat → Int32} {v_statesTold : Int32} {v_found : Int32} {v_yearFrom : Int32} {v_mark : Int32} {v_beginsMark : Int32} {v_begins : Int32} {a_began : Nat → Int64} {v_isSpent : Int32} {a_wants : Nat → Int32} {a_rowSort : Nat → Int32} {a_rowMany : Nat → Int32} {a_numbers : Nat → Int64}  {p1 : Int32} {res : Int32} {ra_on : Nat → Int32} {ra_many : Nat → Int32} {rv_moved : Int32} {ra_pile : Nat → Int32} {ra_lies : Nat → Int64} {ra_movedThen : Nat → Int32} {ra_yearTable : Nat → Int32} {ra_yearMark : Nat → Int32} {ra_beginTable : Nat → Int32} {ra_beginMark : Nat → Int32} {rv_found : Int32} {rv_yearFrom : Int32} {rv_mark : Int32} {rv_beginsMark : Int32} {rv_begins : Int32} {ra_began : Nat → Int64} {rv_isSpent : Int32} {ak av fo : Nat} {E : EvT} (hE : EvM E ak av fo) (hF : FX8_sought a_all a_on a_many v_moved a_pile v_aside a_lies a_movedThen a_yearTable a_yearMark a_beginTable a_beginMark v_yearFrom v_mark v_beginsMark v_begins a_began v_isSpent p1 = some (res, ra_on, ra_many, rv_moved, ra_pile, ra_lies, ra_movedThen, ra_yearTable, ra_yearMark, ra_beginTable, ra_beginMark, rv_found, rv_yearFrom, rv_mark, rv_beginsMark, rv_begins, ra_began, rv_isSpent)) : MM l yX8_sought (ws_ yX8_sought cX8_sought 4 (Option.some Jvm.ClassFile.FieldType.int)) rm_X8_sought D vwA (mT cA) E [.ref (ad 0), .int p1] (mW ad cA a_all a_hasImage a_tape a_fresh v_taped v_at v_behind v_size v_kind v_number v_wrong v_wrongAt v_depth v_steps v_faultKind v_faultPlace a_on a_many v_moved a_pile v_aside v_judgedBy v_judgedYear a_leastCost a_matched a_order a_lies a_movedThen a_yearTable a_yearMark a_beginTable a_beginMark v_statesTold v_found v_yearFrom v_mark v_beginsMark v_begins a_began v_isSpent a_wants a_rowSort a_rowMany a_numbers) (mW ad cA a_all a_hasImage a_tape a_fresh v_taped v_at v_behind v_size v_kind v_number v_wrong v_wrongAt v_depth v_steps v_faultKind v_faultPlace ra_on ra_many rv_moved ra_pile v_aside v_judgedBy v_judgedYear a_leastCost a_matched a_order ra_lies ra_movedThen ra_yearTable ra_yearMark ra_beginTable ra_beginMark v_statesTold rv_found rv_yearFrom rv_mark rv_beginsMark rv_begins ra_began rv_isSpent a_wants a_rowSort a_rowMany a_numbers) (some (.int res)) := by
  refine MM.ofI (by decide) (Nat.le_of_ble_eq_true rfl) ?_
  intro p e s m args below meth c Q A hX hK hE0 hret H locs ls hH hl
  have hX : CallFix p m c cX8_sought 4 s args lw_all RX8 := hX
  have hx := hX.1
  have hb := hX.2.1
  have hown := hX.2.2.2.1
  have hts := hX.2.2.2.2
  have hl : lv_has ls 4 [(0, .ref (ad 0)), (1, .int p1)] := hl
  have hEv := hE.1
  delta FX8_sought at hF
  refine lv_aload_n hx hb dX8_sought_0 rfl (lv_at hl 0 rfl) ?_
  refine lv_iload_n hx hb dX8_sought_1 rfl (lv_at hl 1 rfl) ?_
  obtain ⟨b_46, he, hF⟩ := bd1e hF
  refine mcV hX hK hEv hE0 hH (met_X8_isDone hE he) (mrecv hK hH) gw_StoneYearModel_299 hd_yX8_isDone ⟨Nat.le_of_ble_eq_true rfl, Nat.le_of_ble_eq_true rfl⟩ rfl rfl hl (Nat.le_of_ble_eq_true rfl) dX8_sought_2 ⟨Nat.le_of_ble_eq_true rfl, Nat.le_of_ble_eq_true rfl⟩ (fun H locs hH => ?_)
  refine lv_if_eq (tgt := 15) hx hb dX8_sought_5 rfl (fun c_47 => ?_) (fun c_47 => ?_)
  · have hF := itp c_47 hF
    refine lv_aload_n hx hb dX8_sought_15 rfl (lv_at hl 0 rfl) ?_
    obtain ⟨a_lies_48, a_movedThen_49, a_yearTable_50, a_yearMark_51, a_beginTable_52, a_beginMark_53, v_found_54, v_yearFrom_55, v_mark_56, v_beginsMark_57, v_begins_58, a_began_59, v_isSpent_60, he, hF⟩ := bd13e hF
    refine mcV hX hK hEv hE0 hH (met_X8_startsYears hE he) (mrecv hK hH) gw_StoneYearModel_397 hd_yX8_startsYears ⟨Nat.le_of_ble_eq_true rfl, Nat.le_of_ble_eq_true rfl⟩ rfl rfl hl (Nat.le_of_ble_eq_true rfl) dX8_sought_16 ⟨Nat.le_of_ble_eq_true rfl, Nat.le_of_ble_eq_true rfl⟩ (fun H locs hH => ?_)
    refine lv_iconst (v := 1) hx hb dX8_sought_19 syi_1 ?_
    refine lv_istore_n (lv' := [(2, .int 1), (0, .ref (ad 0)), (1, .int p1)]) hx hb dX8_sought_20 rfl hl (by decide) rfl (fun ls hl => ?_)
    obtain ⟨xx21, ee21, kk21_0, kk21_1, kk21_2, kk21_3⟩ := bdS4e hF
    have k21_0 : ∀ (a_on_182 : Nat → Int32) (a_many_183 : Nat → Int32) (v_moved_184 : Int32) (a_pile_185 : Nat → Int32) (a_lies_186 : Nat → Int64) (a_movedThen_187 : Nat → Int32) (a_yearTable_188 : Nat → Int32) (a_yearMark_189 : Nat → Int32) (a_beginTable_190 : Nat → Int32) (a_beginMark_191 : Nat → Int32) (v_found_192 : Int32) (v_yearFrom_193 : Int32) (v_mark_194 : Int32) (v_begins_195 : Int32) (a_began_196 : Nat → Int64) (v_isSpent_197 : Int32), xx21 = (.inl (a_on_182, a_many_183, v_moved_184, a_pile_185, a_lies_186, a_movedThen_187, a_yearTable_188, a_yearMark_189, a_beginTable_190, a_beginMark_191, v_found_192, v_yearFrom_193, v_mark_194, v_begins_195, a_began_196, v_isSpent_197)) → ∀ (H : Heap) (locs : List Loc) (ls : Array Slot), MH D vwA A s.heap (mW ad cA a_all a_hasImage a_tape a_fresh v_taped v_at v_behind v_size v_kind v_number v_wrong v_wrongAt v_depth v_steps v_faultKind v_faultPlace a_on_182 a_many_183 v_moved_184 a_pile_185 v_aside v_judgedBy v_judgedYear a_leastCost a_matched a_order a_lies_186 a_movedThen_187 a_yearTable_188 a_yearMark_189 a_beginTable_190 a_beginMark_191 v_statesTold v_found_192 v_yearFrom_193 v_mark_194 v_beginsMark_57 v_begins_195 a_began_196 v_isSpent_197 a_wants a_rowSort a_rowMany a_numbers) H locs → lv_has ls 4 [] → W p l e rm_X8_sought s m args below meth c H locs 0 0 Q (F0 m 33 ls []) := by
      intro a_on_182 a_many_183 v_moved_184 a_pile_185 a_lies_186 a_movedThen_187 a_yearTable_188 a_yearMark_189 a_beginTable_190 a_beginMark_191 v_found_192 v_yearFrom_193 v_mark_194 v_begins_195 a_began_196 v_isSpent_197 hxx H locs ls hH hl
      have hF := un16e (kk21_0 (a_on_182, a_many_183, v_moved_184, a_pile_185, a_lies_186, a_movedThen_187, a_yearTable_188, a_yearMark_189, a_beginTable_190, a_beginMark_191, v_found_192, v_yearFrom_193, v_mark_194, v_begins_195, a_began_196, v_isSpent_197) hxx)
      refine lv_bipush (v := (-4)) hx hb dX8_sought_33 syb_m4 ?_
      obtain ⟨rfl, rfl, rfl, rfl, rfl, rfl, rfl, rfl, rfl, rfl, rfl, rfl, rfl, rfl, rfl, rfl, rfl, rfl⟩ := re18 hF
      exact hret _ _ _ _ hH dX8_sought_35
    have k21_1 : ∀ (x_198 : Int32) (a_on_199 : Nat → Int32) (a_many_200 : Nat → Int32) (v_moved_201 : Int32) (a_pile_202 : Nat → Int32) (a_lies_203 : Nat → Int64) (a_movedThen_204 : Nat → Int32) (a_yearTable_205 : Nat → Int32) (a_yearMark_206 : Nat → Int32) (a_beginTable_207 : Nat → Int32) (a_beginMark_208 : Nat → Int32) (v_found_209 : Int32) (v_yearFrom_210 : Int32) (v_mark_211 : Int32) (v_begins_212 : Int32) (a_began_213 : Nat → Int64) (v_isSpent_214 : Int32), xx21 = (.inr (.inl (x_198, a_on_199, a_many_200, v_moved_201, a_pile_202, a_lies_203, a_movedThen_204, a_yearTable_205, a_yearMark_206, a_beginTable_207, a_beginMark_208, v_found_209, v_yearFrom_210, v_mark_211, v_begins_212, a_began_213, v_isSpent_214))) → ∀ (H : Heap) (locs : List Loc) (ls : Array Slot), MH D vwA A s.heap (mW ad cA a_all a_hasImage a_tape a_fresh v_taped v_at v_behind v_size v_kind v_number v_wrong v_wrongAt v_depth v_steps v_faultKind v_faultPlace a_on_199 a_many_200 v_moved_201 a_pile_202 v_aside v_judgedBy v_judgedYear a_leastCost a_matched a_order a_lies_203 a_movedThen_204 a_yearTable_205 a_yearMark_206 a_beginTable_207 a_beginMark_208 v_statesTold v_found_209 v_yearFrom_210 v_mark_211 v_beginsMark_57 v_begins_212 a_began_213 v_isSpent_214 a_wants a_rowSort a_rowMany a_numbers) H locs → lv_has ls 4 [(2, .int x_198)] → W p l e rm_X8_sought s m args below meth c H locs 0 0 Q (F0 m 73 ls []) := by
      intro x_198 a_on_199 a_many_200 v_moved_201 a_pile_202 a_lies_203 a_movedThen_204 a_yearTable_205 a_yearMark_206 a_beginTable_207 a_beginMark_208 v_found_209 v_yearFrom_210 v_mark_211 v_begins_212 a_began_213 v_isSpent_214 hxx H locs ls hH hl
      have hF := un17e (kk21_1 (x_198, a_on_199, a_many_200, v_moved_201, a_pile_202, a_lies_203, a_movedThen_204, a_yearTable_205, a_yearMark_206, a_beginTable_207, a_beginMark_208, v_found_209, v_yearFrom_210, v_mark_211, v_begins_212, a_began_213, v_isSpent_214) hxx)
      refine lv_iload_n hx hb dX8_sought_73 rfl (lv_at hl 0 rfl) ?_
      obtain ⟨rfl, rfl, rfl, rfl, rfl, rfl, rfl, rfl, rfl, rfl, rfl, rfl, rfl, rfl, rfl, rfl, rfl, rfl⟩ := re18 hF
      exact hret _ _ _ _ hH dX8_sought_74
    have k21_2 : ∀ (a_on_215 : Nat → Int32) (a_many_216 : Nat → Int32) (v_moved_217 : Int32) (a_pile_218 : Nat → Int32) (a_lies_219 : Nat → Int64) (a_movedThen_220 : Nat → Int32) (a_yearTable_221 : Nat → Int32) (a_yearMark_222 : Nat → Int32) (a_beginTable_223 : Nat → Int32) (a_beginMark_224 : Nat → Int32) (v_found_225 : Int32) (v_yearFrom_226 : Int32) (v_mark_227 : Int32) (v_begins_228 : Int32) (a_began_229 : Nat → Int64) (v_isSpent_230 : Int32), xx21 = (.inr (.inr (.inl (a_on_215, a_many_216, v_moved_217, a_pile_218, a_lies_219, a_movedThen_220, a_yearTable_221, a_yearMark_222, a_beginTable_223, a_beginMark_224, v_found_225, v_yearFrom_226, v_mark_227, v_begins_228, a_began_229, v_isSpent_230)))) → ∀ (H : Heap) (locs : List Loc) (ls : Array Slot), MH D vwA A s.heap (mW ad cA a_all a_hasImage a_tape a_fresh v_taped v_at v_behind v_size v_kind v_number v_wrong v_wrongAt v_depth v_steps v_faultKind v_faultPlace a_on_215 a_many_216 v_moved_217 a_pile_218 v_aside v_judgedBy v_judgedYear a_leastCost a_matched a_order a_lies_219 a_movedThen_220 a_yearTable_221 a_yearMark_222 a_beginTable_223 a_beginMark_224 v_statesTold v_found_225 v_yearFrom_226 v_mark_227 v_beginsMark_57 v_begins_228 a_began_229 v_isSpent_230 a_wants a_rowSort a_rowMany a_numbers) H locs → lv_has ls 4 [] → W p l e rm_X8_sought s m args below meth c H locs 0 0 Q (F0 m 88 ls []) := by
      intro a_on_215 a_many_216 v_moved_217 a_pile_218 a_lies_219 a_movedThen_220 a_yearTable_221 a_yearMark_222 a_beginTable_223 a_beginMark_224 v_found_225 v_yearFrom_226 v_mark_227 v_begins_228 a_began_229 v_isSpent_230 hxx H locs ls hH hl
      have hF := un16e (kk21_2 (a_on_215, a_many_216, v_moved_217, a_pile_218, a_lies_219, a_movedThen_220, a_yearTable_221, a_yearMark_222, a_beginTable_223, a_beginMark_224, v_found_225, v_yearFrom_226, v_mark_227, v_begins_228, a_began_229, v_isSpent_230) hxx)
      refine lv_iconst (v := (-1)) hx hb dX8_sought_88 syi_m1 ?_
      obtain ⟨rfl, rfl, rfl, rfl, rfl, rfl, rfl, rfl, rfl, rfl, rfl, rfl, rfl, rfl, rfl, rfl, rfl, rfl⟩ := re18 hF
      exact hret _ _ _ _ hH dX8_sought_89
    have k21_3 : ∀ (a_on_231 : Nat → Int32) (a_many_232 : Nat → Int32) (v_moved_233 : Int32) (a_pile_234 : Nat → Int32) (a_lies_235 : Nat → Int64) (a_movedThen_236 : Nat → Int32) (a_yearTable_237 : Nat → Int32) (a_yearMark_238 : Nat → Int32) (a_beginTable_239 : Nat → Int32) (a_beginMark_240 : Nat → Int32) (v_found_241 : Int32) (v_yearFrom_242 : Int32) (v_mark_243 : Int32) (v_begins_244 : Int32) (a_began_245 : Nat → Int64) (v_isSpent_246 : Int32), xx21 = (.inr (.inr (.inr (a_on_231, a_many_232, v_moved_233, a_pile_234, a_lies_235, a_movedThen_236, a_yearTable_237, a_yearMark_238, a_beginTable_239, a_beginMark_240, v_found_241, v_yearFrom_242, v_mark_243, v_begins_244, a_began_245, v_isSpent_246)))) → ∀ (H : Heap) (locs : List Loc) (ls : Array Slot), MH D vwA A s.heap (mW ad cA a_all a_hasImage a_tape a_fresh v_taped v_at v_behind v_size v_kind v_number v_wrong v_wrongAt v_depth v_steps v_faultKind v_faultPlace a_on_231 a_many_232 v_moved_233 a_pile_234 v_aside v_judgedBy v_judgedYear a_leastCost a_matched a_order a_lies_235 a_movedThen_236 a_yearTable_237 a_yearMark_238 a_beginTable_239 a_beginMark_240 v_statesTold v_found_241 v_yearFrom_242 v_mark_243 v_beginsMark_57 v_begins_244 a_began_245 v_isSpent_246 a_wants a_rowSort a_rowMany a_numbers) H locs → lv_has ls 4 [] → W p l e rm_X8_sought s m args below meth c H locs 0 0 Q (F0 m 97 ls []) := by
      intro a_on_231 a_many_232 v_moved_233 a_pile_234 a_lies_235 a_movedThen_236 a_yearTable_237 a_yearMark_238 a_beginTable_239 a_beginMark_240 v_found_241 v_yearFrom_242 v_mark_243 v_begins_244 a_began_245 v_isSpent_246 hxx H locs ls hH hl
      have hF := un16e (kk21_3 (a_on_231, a_many_232, v_moved_233, a_pile_234, a_lies_235, a_movedThen_236, a_yearTable_237, a_yearMark_238, a_beginTable_239, a_beginMark_240, v_found_241, v_yearFrom_242, v_mark_243, v_begins_244, a_began_245, v_isSpent_246) hxx)
      refine lv_bipush (v := (-4)) hx hb dX8_sought_97 syb_m4 ?_
      obtain ⟨rfl, rfl, rfl, rfl, rfl, rfl, rfl, rfl, rfl, rfl, rfl, rfl, rfl, rfl, rfl, rfl, rfl, rfl⟩ := re18 hF
      exact hret _ _ _ _ hH dX8_sought_99
    obtain ⟨nn21, en21⟩ := loopC_some ee21
    have l21 : ∀ (n : Nat) (x_113 : Int32) (a_on_114 : Nat → Int32) (a_many_115 : Nat → Int32) (v_moved_116 : Int32) (a_pile_117 : Nat → Int32) (a_lies_118 : Nat → Int64) (a_movedThen_119 : Nat → Int32) (a_yearTable_120 : Nat → Int32) (a_yearMark_121 : Nat → Int32) (a_beginTable_122 : Nat → Int32) (a_beginMark_123 : Nat → Int32) (v_found_124 : Int32) (v_yearFrom_125 : Int32) (v_mark_126 : Int32) (v_begins_127 : Int32) (a_began_128 : Nat → Int64) (v_isSpent_129 : Int32), loopN (fun s => FX8_sought_b21 a_all v_aside p1 v_beginsMark_57 s.1 s.2.1 s.2.2.1 s.2.2.2.1 s.2.2.2.2.1 s.2.2.2.2.2.1 s.2.2.2.2.2.2.1 s.2.2.2.2.2.2.2.1 s.2.2.2.2.2.2.2.2.1 s.2.2.2.2.2.2.2.2.2.1 s.2.2.2.2.2.2.2.2.2.2.1 s.2.2.2.2.2.2.2.2.2.2.2.1 s.2.2.2.2.2.2.2.2.2.2.2.2.1 s.2.2.2.2.2.2.2.2.2.2.2.2.2.1 s.2.2.2.2.2.2.2.2.2.2.2.2.2.2.1 s.2.2.2.2.2.2.2.2.2.2.2.2.2.2.2.1 s.2.2.2.2.2.2.2.2.2.2.2.2.2.2.2.2) n (x_113, a_on_114, a_many_115, v_moved_116, a_pile_117, a_lies_118, a_movedThen_119, a_yearTable_120, a_yearMark_121, a_beginTable_122, a_beginMark_123, v_found_124, v_yearFrom_125, v_mark_126, v_begins_127, a_began_128, v_isSpent_129) = some xx21 → ∀ (H : Heap) (locs : List Loc) (ls : Array Slot), MH D vwA A s.heap (mW ad cA a_all a_hasImage a_tape a_fresh v_taped v_at v_behind v_size v_kind v_number v_wrong v_wrongAt v_depth v_steps v_faultKind v_faultPlace a_on_114 a_many_115 v_moved_116 a_pile_117 v_aside v_judgedBy v_judgedYear a_leastCost a_matched a_order a_lies_118 a_movedThen_119 a_yearTable_120 a_yearMark_121 a_beginTable_122 a_beginMark_123 v_statesTold v_found_124 v_yearFrom_125 v_mark_126 v_beginsMark_57 v_begins_127 a_began_128 v_isSpent_129 a_wants a_rowSort a_rowMany a_numbers) H locs → lv_has ls 4 [(0, .ref (ad 0)), (1, .int p1), (2, .int x_113)] → W p l e rm_X8_sought s m args below meth c H locs 0 0 Q (F0 m 21 ls []) := by
      intro n
      induction n with
      | zero =>
        intro x_113 a_on_114 a_many_115 v_moved_116 a_pile_117 a_lies_118 a_movedThen_119 a_yearTable_120 a_yearMark_121 a_beginTable_122 a_beginMark_123 v_found_124 v_yearFrom_125 v_mark_126 v_begins_127 a_began_128 v_isSpent_129 hN
        exact absurd hN loopN_zero
      | succ n ih =>
        intro x_113 a_on_114 a_many_115 v_moved_116 a_pile_117 a_lies_118 a_movedThen_119 a_yearTable_120 a_yearMark_121 a_beginTable_122 a_beginMark_123 v_found_124 v_yearFrom_125 v_mark_126 v_begins_127 a_began_128 v_isSpent_129 hN H locs ls hH hl
        obtain ⟨yy21, hB21, hY21⟩ := loopN_succ hN
        have hF : FX8_sought_b21 a_all v_aside p1 v_beginsMark_57 x_113 a_on_114 a_many_115 v_moved_116 a_pile_117 a_lies_118 a_movedThen_119 a_yearTable_120 a_yearMark_121 a_beginTable_122 a_beginMark_123 v_found_124 v_yearFrom_125 v_mark_126 v_begins_127 a_began_128 v_isSpent_129 = some yy21 := hB21
        delta FX8_sought_b21 at hF
        refine lv_aload_n hx hb dX8_sought_21 rfl (lv_at hl 0 rfl) ?_
        refine lv_iconst (v := 0) hx hb dX8_sought_22 syi_0 ?_
        obtain ⟨a_on_130, a_many_131, v_moved_132, a_pile_133, a_lies_134, a_movedThen_135, a_yearTable_136, a_yearMark_137, v_found_138, v_isSpent_139, he, hF⟩ := bd10e hF
        refine mcV hX hK hEv hE0 hH (met_X8_spreads hE he) (mrecv hK hH) gw_StoneYearModel_400 hd_yX8_spreads ⟨Nat.le_of_ble_eq_true rfl, Nat.le_of_ble_eq_true rfl⟩ rfl rfl hl (Nat.le_of_ble_eq_true rfl) dX8_sought_23 ⟨Nat.le_of_ble_eq_true rfl, Nat.le_of_ble_eq_true rfl⟩ (fun H locs hH => ?_)
        refine lv_aload_n hx hb dX8_sought_26 rfl (lv_at hl 0 rfl) ?_
        refine mg_isSpent hX hK hH dX8_sought_27 ?_
        refine lv_if_eq (tgt := 36) hx hb dX8_sought_30 rfl (fun c_140 => ?_) (fun c_140 => ?_)
        · have hF := itp c_140 hF
          refine lv_aload_n hx hb dX8_sought_36 rfl (lv_at hl 0 rfl) ?_
          refine mg_yearFrom hX hK hH dX8_sought_37 ?_
          refine lv_istore_n (lv' := [(3, .int v_yearFrom_125), (0, .ref (ad 0)), (1, .int p1), (2, .int x_113)]) hx hb dX8_sought_40 rfl hl (by decide) rfl (fun ls hl => ?_)
          obtain ⟨xx41, ee41, kk41_0, kk41_1⟩ := bdS2e hF
          have k41_0 : ∀ (a_on_161 : Nat → Int32) (a_many_162 : Nat → Int32) (v_moved_163 : Int32), xx41 = (.inl (a_on_161, a_many_162, v_moved_163)) → ∀ (H : Heap) (locs : List Loc) (ls : Array Slot), MH D vwA A s.heap (mW ad cA a_all a_hasImage a_tape a_fresh v_taped v_at v_behind v_size v_kind v_number v_wrong v_wrongAt v_depth v_steps v_faultKind v_faultPlace a_on_161 a_many_162 v_moved_163 a_pile_133 v_aside v_judgedBy v_judgedYear a_leastCost a_matched a_order a_lies_134 a_movedThen_135 a_yearTable_136 a_yearMark_137 a_beginTable_122 a_beginMark_123 v_statesTold v_found_138 v_yearFrom_125 v_mark_126 v_beginsMark_57 v_begins_127 a_began_128 v_isSpent_139 a_wants a_rowSort a_rowMany a_numbers) H locs → lv_has ls 4 [(2, .int x_113)] → W p l e rm_X8_sought s m args below meth c H locs 0 0 Q (F0 m 73 ls []) := by
            intro a_on_161 a_many_162 v_moved_163 hxx H locs ls hH hl
            have hF := un3e (kk41_0 (a_on_161, a_many_162, v_moved_163) hxx)
            obtain rfl := Option.some.inj hF
            exact k21_1 x_113 a_on_161 a_many_162 v_moved_163 a_pile_133 a_lies_134 a_movedThen_135 a_yearTable_136 a_yearMark_137 a_beginTable_122 a_beginMark_123 v_found_138 v_yearFrom_125 v_mark_126 v_begins_127 a_began_128 v_isSpent_139 hY21 _ _ _ hH (lv_sub hl [0] rfl)
          have k41_1 : ∀ (a_on_164 : Nat → Int32) (a_many_165 : Nat → Int32) (v_moved_166 : Int32), xx41 = (.inr (a_on_164, a_many_165, v_moved_166)) → ∀ (H : Heap) (locs : List Loc) (ls : Array Slot), MH D vwA A s.heap (mW ad cA a_all a_hasImage a_tape a_fresh v_taped v_at v_behind v_size v_kind v_number v_wrong v_wrongAt v_depth v_steps v_faultKind v_faultPlace a_on_164 a_many_165 v_moved_166 a_pile_133 v_aside v_judgedBy v_judgedYear a_leastCost a_matched a_order a_lies_134 a_movedThen_135 a_yearTable_136 a_yearMark_137 a_beginTable_122 a_beginMark_123 v_statesTold v_found_138 v_yearFrom_125 v_mark_126 v_beginsMark_57 v_begins_127 a_began_128 v_isSpent_139 a_wants a_rowSort a_rowMany a_numbers) H locs → lv_has ls 4 [(0, .ref (ad 0)), (1, .int p1), (2, .int x_113)] → W p l e rm_X8_sought s m args below meth c H locs 0 0 Q (F0 m 81 ls []) := by
            intro a_on_164 a_many_165 v_moved_166 hxx H locs ls hH hl
            have hF := un3e (kk41_1 (a_on_164, a_many_165, v_moved_166) hxx)
            refine lv_aload_n hx hb dX8_sought_81 rfl (lv_at hl 0 rfl) ?_
            obtain ⟨b_167, a_lies_168, a_movedThen_169, a_yearTable_170, a_yearMark_171, a_beginTable_172, a_beginMark_173, v_found_174, v_yearFrom_175, v_mark_176, v_begins_177, a_began_178, v_isSpent_179, he, hF⟩ := bd13e hF
            refine mcV hX hK hEv hE0 hH (met_X8_nextYear hE he) (mrecv hK hH) gw_StoneYearModel_404 hd_yX8_nextYear ⟨Nat.le_of_ble_eq_true rfl, Nat.le_of_ble_eq_true rfl⟩ rfl rfl hl (Nat.le_of_ble_eq_true rfl) dX8_sought_82 ⟨Nat.le_of_ble_eq_true rfl, Nat.le_of_ble_eq_true rfl⟩ (fun H locs hH => ?_)
            refine lv_if_ne (tgt := 90) hx hb dX8_sought_85 rfl (fun c_180 => ?_) (fun c_180 => ?_)
            · have hF := itn c_180 hF
              refine lv_aload_n hx hb dX8_sought_90 rfl (lv_at hl 0 rfl) ?_
              refine mg_isSpent hX hK hH dX8_sought_91 ?_
              refine lv_if_eq (tgt := 100) hx hb dX8_sought_94 rfl (fun c_181 => ?_) (fun c_181 => ?_)
              · have hF := itp c_181 hF
                refine lv_iinc (v := (x_113 + 1)) (lv' := [(2, .int (x_113 + 1)), (0, .ref (ad 0)), (1, .int p1)]) hx hb dX8_sought_100 hl (k := 2) rfl (syc syi_1) (by decide) rfl (fun ls hl => ?_)
                refine lv_goto (tgt := 21) hx hb dX8_sought_103 rfl ?_
                obtain rfl := Option.some.inj hF
                exact ih (x_113 + 1) a_on_164 a_many_165 v_moved_166 a_pile_133 a_lies_168 a_movedThen_169 a_yearTable_170 a_yearMark_171 a_beginTable_172 a_beginMark_173 v_found_174 v_yearFrom_175 v_mark_176 v_begins_177 a_began_178 v_isSpent_179 hY21 _ _ _ hH (lv_sub hl [1, 2, 0] rfl)
              · have hF := itn c_181 hF
                obtain rfl := Option.some.inj hF
                exact k21_3 a_on_164 a_many_165 v_moved_166 a_pile_133 a_lies_168 a_movedThen_169 a_yearTable_170 a_yearMark_171 a_beginTable_172 a_beginMark_173 v_found_174 v_yearFrom_175 v_mark_176 v_begins_177 a_began_178 v_isSpent_179 hY21 _ _ _ hH (lv_sub hl [] rfl)
            · have hF := itp c_180 hF
              obtain rfl := Option.some.inj hF
              exact k21_2 a_on_164 a_many_165 v_moved_166 a_pile_133 a_lies_168 a_movedThen_169 a_yearTable_170 a_yearMark_171 a_beginTable_172 a_beginMark_173 v_found_174 v_yearFrom_175 v_mark_176 v_begins_177 a_began_178 v_isSpent_179 hY21 _ _ _ hH (lv_sub hl [] rfl)
          obtain ⟨nn41, en41⟩ := loopC_some ee41
          have l41 : ∀ (n : Nat) (x_149 : Int32) (a_on_150 : Nat → Int32) (a_many_151 : Nat → Int32) (v_moved_152 : Int32), loopN (fun s => FX8_sought_b41 a_all p1 a_lies_134 a_movedThen_135 v_found_138 s.1 s.2.1 s.2.2.1 s.2.2.2) n (x_149, a_on_150, a_many_151, v_moved_152) = some xx41 → ∀ (H : Heap) (locs : List Loc) (ls : Array Slot), MH D vwA A s.heap (mW ad cA a_all a_hasImage a_tape a_fresh v_taped v_at v_behind v_size v_kind v_number v_wrong v_wrongAt v_depth v_steps v_faultKind v_faultPlace a_on_150 a_many_151 v_moved_152 a_pile_133 v_aside v_judgedBy v_judgedYear a_leastCost a_matched a_order a_lies_134 a_movedThen_135 a_yearTable_136 a_yearMark_137 a_beginTable_122 a_beginMark_123 v_statesTold v_found_138 v_yearFrom_125 v_mark_126 v_beginsMark_57 v_begins_127 a_began_128 v_isSpent_139 a_wants a_rowSort a_rowMany a_numbers) H locs → lv_has ls 4 [(0, .ref (ad 0)), (1, .int p1), (2, .int x_113), (3, .int x_149)] → W p l e rm_X8_sought s m args below meth c H locs 0 0 Q (F0 m 41 ls []) := by
            intro n
            induction n with
            | zero =>
              intro x_149 a_on_150 a_many_151 v_moved_152 hN
              exact absurd hN loopN_zero
            | succ n ih =>
              intro x_149 a_on_150 a_many_151 v_moved_152 hN H locs ls hH hl
              obtain ⟨yy41, hB41, hY41⟩ := loopN_succ hN
              have hF : FX8_sought_b41 a_all p1 a_lies_134 a_movedThen_135 v_found_138 x_149 a_on_150 a_many_151 v_moved_152 = some yy41 := hB41
              delta FX8_sought_b41 at hF
              refine lv_iload_n hx hb dX8_sought_41 rfl (lv_at hl 3 rfl) ?_
              refine lv_aload_n hx hb dX8_sought_42 rfl (lv_at hl 0 rfl) ?_
              refine mg_found hX hK hH dX8_sought_43 ?_
              refine lv_icmp_ge (tgt := 81) hx hb dX8_sought_46 rfl (fun c_153 => ?_) (fun c_153 => ?_)
              · have hF := itp c_153 hF
                obtain rfl := Option.some.inj hF
                exact k41_1 a_on_150 a_many_151 v_moved_152 hY41 _ _ _ hH (lv_sub hl [0, 1, 2] rfl)
              · have hF := itn c_153 hF
                refine lv_aload_n hx hb dX8_sought_49 rfl (lv_at hl 0 rfl) ?_
                refine lv_aload_n hx hb dX8_sought_50 rfl (lv_at hl 0 rfl) ?_
                refine mg_lies hX hK hH dX8_sought_51 ?_
                refine lv_iload_n hx hb dX8_sought_54 rfl (lv_at hl 3 rfl) ?_
                obtain ⟨y_154, he, hF⟩ := bd1e hF
                refine ml_lies hX hK hH he dX8_sought_55 ?_
                refine lv_aload_n hx hb dX8_sought_56 rfl (lv_at hl 0 rfl) ?_
                refine mg_movedThen hX hK hH dX8_sought_57 ?_
                refine lv_iload_n hx hb dX8_sought_60 rfl (lv_at hl 3 rfl) ?_
                obtain ⟨x_155, he, hF⟩ := bd1e hF
                refine ml_movedThen hX hK hH he dX8_sought_61 ?_
                obtain ⟨a_on_156, a_many_157, v_moved_158, he, hF⟩ := bd3e hF
                refine mcV hX hK hEv hE0 hH (met_X8_looksAt hE he) (mrecv hK hH) gw_StoneYearModel_353 hd_yX8_looksAt ⟨Nat.le_of_ble_eq_true rfl, Nat.le_of_ble_eq_true rfl⟩ rfl rfl hl (Nat.le_of_ble_eq_true rfl) dX8_sought_62 ⟨Nat.le_of_ble_eq_true rfl, Nat.le_of_ble_eq_true rfl⟩ (fun H locs hH => ?_)
                refine lv_aload_n hx hb dX8_sought_65 rfl (lv_at hl 0 rfl) ?_
                refine lv_iload_n hx hb dX8_sought_66 rfl (lv_at hl 1 rfl) ?_
                obtain ⟨b_159, he, hF⟩ := bd1e hF
                refine mcV hX hK hEv hE0 hH (met_X8_isDone hE he) (mrecv hK hH) gw_StoneYearModel_299 hd_yX8_isDone ⟨Nat.le_of_ble_eq_true rfl, Nat.le_of_ble_eq_true rfl⟩ rfl rfl hl (Nat.le_of_ble_eq_true rfl) dX8_sought_67 ⟨Nat.le_of_ble_eq_true rfl, Nat.le_of_ble_eq_true rfl⟩ (fun H locs hH => ?_)
                refine lv_if_eq (tgt := 75) hx hb dX8_sought_70 rfl (fun c_160 => ?_) (fun c_160 => ?_)
                · have hF := itp c_160 hF
                  refine lv_iinc (v := (x_149 + 1)) (lv' := [(3, .int (x_149 + 1)), (0, .ref (ad 0)), (1, .int p1), (2, .int x_113)]) hx hb dX8_sought_75 hl (k := 3) rfl (syc syi_1) (by decide) rfl (fun ls hl => ?_)
                  refine lv_goto (tgt := 41) hx hb dX8_sought_78 rfl ?_
                  obtain rfl := Option.some.inj hF
                  exact ih (x_149 + 1) a_on_156 a_many_157 v_moved_158 hY41 _ _ _ hH (lv_sub hl [1, 2, 3, 0] rfl)
                · have hF := itn c_160 hF
                  obtain rfl := Option.some.inj hF
                  exact k41_0 a_on_156 a_many_157 v_moved_158 hY41 _ _ _ hH (lv_sub hl [2] rfl)
          exact l41 nn41 v_yearFrom_125 a_on_130 a_many_131 v_moved_132 en41 _ _ _ hH (lv_sub hl [1, 2, 3, 0] rfl)
        · have hF := itn c_140 hF
          obtain rfl := Option.some.inj hF
          exact k21_0 a_on_130 a_many_131 v_moved_132 a_pile_133 a_lies_134 a_movedThen_135 a_yearTable_136 a_yearMark_137 a_beginTable_122 a_beginMark_123 v_found_138 v_yearFrom_125 v_mark_126 v_begins_127 a_began_128 v_isSpent_139 hY21 _ _ _ hH (lv_sub hl [] rfl)
    exact l21 nn21 1 a_on a_many v_moved a_pile a_lies_48 a_movedThen_49 a_yearTable_50 a_yearMark_51 a_beginTable_52 a_beginMark_53 v_found_54 v_yearFrom_55 v_mark_56 v_begins_58 a_began_59 v_isSpent_60 en21 _ _ _ hH (lv_sub hl [1, 2, 0] rfl)
  · have hF := itn c_47 hF
    refine lv_aload_n hx hb dX8_sought_8 rfl (lv_at hl 0 rfl) ?_
    refine lv_iconst (v := 0) hx hb dX8_sought_9 syi_0 ?_
    refine mp_found hX hK hH dX8_sought_10 (fun H locs hH => ?_)
    refine lv_iconst (v := 0) hx hb dX8_sought_13 syi_0 ?_
    obtain ⟨rfl, rfl, rfl, rfl, rfl, rfl, rfl, rfl, rfl, rfl, rfl, rfl, rfl, rfl, rfl, rfl, rfl, rfl⟩ := re18 hF
    exact hret _ _ _ _ hH dX8_sought_14
abbrev rm_X8_years : Room := { frames := 5, cells := 0, slots := 0, locals := 128 }
set_option maxHeartbeats 4000000 in
theorem met_X8_years {l : Launch} {D : va_G} {ad : Nat → Nat} {cA : Nat → ClassId} {a_all : Nat → Int32} {a_hasImage : Nat → Int32} {a_tape : Nat → Int32} {a_fresh : Nat → Int32} {v_taped : Int32} {v_at : Int32} {v_behind : Int32} {v_size : Int32} {v_kind : Int32} {v_number : Int32} {v_wrong : Int32} {v_wrongAt : Int32} {v_depth : Int32} {v_steps : Int32} {v_faultKind : Int32} {v_faultPlace : Int32} {a_on : Nat → Int32} {a_many : Nat → Int32} {v_moved : Int32} {a_pile : Nat → Int32} {v_aside : Int32} {v_judgedBy : Int32} {v_judgedYear : Int32} {a_leastCost : Nat → Int32} {a_matched : Nat → Int32} {a_order : Nat → Int32} {a_lies : Nat → Int64} {a_movedThen : Nat → Int32} {a_yearTable : Nat → Int32} {a_yearMark : Nat → Int32} {a_beginTable : Nat → Int32} {a_beginMark : Nat → Int32} {v_statesTold : Int32} {v_found : Int32} {v_yearFrom : Int32} {v_mark : Int32} {v_beginsMark : Int32} {v_begins : Int32} {a_began : Nat → Int64} {v_isSpent : Int32} {a_wants : Nat → Int32} {a_rowSort : Nat → Int32} {a_rowMany : Nat → Int32} {a_numbers : Nat → Int64}  {p1 : Int32} {res : Int32} {ra_on : Nat → Int32} {ra_many : Nat → Int32} {rv_moved : Int32} {ra_pile : Nat → Int32} {ra_lies : Nat → Int64} {ra_movedThen : Nat → Int32} {ra_yearTable : Nat → Int32} {ra_yearMark : Nat → Int32} {ra_beginTable : Nat → Int32} {ra_beginMark : Nat → Int32} {rv_statesTold : Int32} {rv_found : Int32} {rv_yearFrom : Int32} {rv_mark : Int32} {rv_beginsMark : Int32} {rv_begins : Int32} {ra_began : Nat → Int64} {rv_isSpent : Int32} {ak av fo : Nat} {E : EvT} (hE : EvM E ak av fo) (hF : FX8_years a_all a_on a_many v_moved a_pile v_aside a_lies a_movedThen a_yearTable a_yearMark a_beginTable a_beginMark v_statesTold v_found v_yearFrom v_mark v_beginsMark v_begins a_began v_isSpent p1 = some (res, ra_on, ra_many, rv_moved, ra_pile, ra_lies, ra_movedThen, ra_yearTable, ra_yearMark, ra_beginTable, ra_beginMark, rv_statesTold, rv_found, rv_yearFrom, rv_mark, rv_beginsMark, rv_begins, ra_began, rv_isSpent)) : MM l yX8_years (ws_ yX8_years cX8_years 3 (Option.some Jvm.ClassFile.FieldType.int)) rm_X8_years D vwA (mT cA) E [.ref (ad 0), .int p1] (mW ad cA a_all a_hasImage a_tape a_fresh v_taped v_at v_behind v_size v_kind v_number v_wrong v_wrongAt v_depth v_steps v_faultKind v_faultPlace a_on a_many v_moved a_pile v_aside v_judgedBy v_judgedYear a_leastCost a_matched a_order a_lies a_movedThen a_yearTable a_yearMark a_beginTable a_beginMark v_statesTold v_found v_yearFrom v_mark v_beginsMark v_begins a_began v_isSpent a_wants a_rowSort a_rowMany a_numbers) (mW ad cA a_all a_hasImage a_tape a_fresh v_taped v_at v_behind v_size v_kind v_number v_wrong v_wrongAt v_depth v_steps v_faultKind v_faultPlace ra_on ra_many rv_moved ra_pile v_aside v_judgedBy v_judgedYear a_leastCost a_matched a_order ra_lies ra_movedThen ra_yearTable ra_yearMark ra_beginTable ra_beginMark rv_statesTold rv_found rv_yearFrom rv_mark rv_beginsMark rv_begins ra_began rv_isSpent a_wants a_rowSort a_rowMany a_numbers) (some (.int res)) := by
  refine MM.ofI (by decide) (Nat.le_of_ble_eq_true rfl) ?_
  intro p e s m args below meth c Q A hX hK hE0 hret H locs ls hH hl
  have hX : CallFix p m c cX8_years 3 s args lw_all RX8 := hX
  have hx := hX.1
  have hb := hX.2.1
  have hown := hX.2.2.2.1
  have hts := hX.2.2.2.2
  have hl : lv_has ls 3 [(0, .ref (ad 0)), (1, .int p1)] := hl
  have hEv := hE.1
  delta FX8_years at hF
  refine lv_aload_n hx hb dX8_years_0 rfl (lv_at hl 0 rfl) ?_
  refine lv_iconst (v := 0) hx hb dX8_years_1 syi_0 ?_
  refine mp_thrown hX hK hH dX8_years_2 (fun H locs hH => ?_)
  refine lv_iload_n hx hb dX8_years_5 rfl (lv_at hl 1 rfl) ?_
  obtain ⟨b_46, he, hF⟩ := bd1e hF
  refine mcS hX hK hEv hE0 hH (met_X8_isWho hE he) gw_StoneYearModel_296 hd_yX8_isWho ⟨Nat.le_of_ble_eq_true rfl, Nat.le_of_ble_eq_true rfl⟩ rfl rfl hl (Nat.le_of_ble_eq_true rfl) dX8_years_6 ⟨Nat.le_of_ble_eq_true rfl, Nat.le_of_ble_eq_true rfl⟩ (fun H locs hH => ?_)
  refine lv_if_ne (tgt := 15) hx hb dX8_years_9 rfl (fun c_47 => ?_) (fun c_47 => ?_)
  · have hF := itn c_47 hF
    refine lv_aload_n hx hb dX8_years_15 rfl (lv_at hl 0 rfl) ?_
    obtain ⟨a_on_48, a_many_49, v_moved_50, he, hF⟩ := bd3e hF
    refine mcV hX hK hEv hE0 hH (met_X8_looksNow hE he) (mrecv hK hH) gw_StoneYearModel_260 hd_yX8_looksNow ⟨Nat.le_of_ble_eq_true rfl, Nat.le_of_ble_eq_true rfl⟩ rfl rfl hl (Nat.le_of_ble_eq_true rfl) dX8_years_16 ⟨Nat.le_of_ble_eq_true rfl, Nat.le_of_ble_eq_true rfl⟩ (fun H locs hH => ?_)
    refine lv_aload_n hx hb dX8_years_19 rfl (lv_at hl 0 rfl) ?_
    refine lv_iload_n hx hb dX8_years_20 rfl (lv_at hl 1 rfl) ?_
    obtain ⟨x_51, a_on_52, a_many_53, v_moved_54, a_pile_55, a_lies_56, a_movedThen_57, a_yearTable_58, a_yearMark_59, a_beginTable_60, a_beginMark_61, v_found_62, v_yearFrom_63, v_mark_64, v_beginsMark_65, v_begins_66, a_began_67, v_isSpent_68, he, hF⟩ := bd18e hF
    refine mcV hX hK hEv hE0 hH (met_X8_sought hE he) (mrecv hK hH) gw_StoneYearModel_408 hd_yX8_sought ⟨Nat.le_of_ble_eq_true rfl, Nat.le_of_ble_eq_true rfl⟩ rfl rfl hl (Nat.le_of_ble_eq_true rfl) dX8_years_21 ⟨Nat.le_of_ble_eq_true rfl, Nat.le_of_ble_eq_true rfl⟩ (fun H locs hH => ?_)
    refine lv_istore_n (lv' := [(2, .int x_51), (0, .ref (ad 0)), (1, .int p1)]) hx hb dX8_years_24 rfl hl (by decide) rfl (fun ls hl => ?_)
    refine lv_iload_n hx hb dX8_years_25 rfl (lv_at hl 0 rfl) ?_
    refine lv_bipush (v := (-4)) hx hb dX8_years_26 syb_m4 ?_
    refine lv_icmp_eq (tgt := 39) hx hb dX8_years_28 rfl (fun c_69 => ?_) (fun c_69 => ?_)
    · have hF := itp c_69 hF
      refine lv_iload_n hx hb dX8_years_39 rfl (lv_at hl 0 rfl) ?_
      obtain ⟨rfl, rfl, rfl, rfl, rfl, rfl, rfl, rfl, rfl, rfl, rfl, rfl, rfl, rfl, rfl, rfl, rfl, rfl, rfl⟩ := re19 hF
      exact hret _ _ _ _ hH dX8_years_40
    · have hF := itn c_69 hF
      refine lv_aload_n hx hb dX8_years_31 rfl (lv_at hl 1 rfl) ?_
      refine lv_aload_n hx hb dX8_years_32 rfl (lv_at hl 1 rfl) ?_
      refine mg_found hX hK hH dX8_years_33 ?_
      refine mp_statesTold hX hK hH dX8_years_36 (fun H locs hH => ?_)
      refine lv_iload_n hx hb dX8_years_39 rfl (lv_at hl 0 rfl) ?_
      obtain ⟨rfl, rfl, rfl, rfl, rfl, rfl, rfl, rfl, rfl, rfl, rfl, rfl, rfl, rfl, rfl, rfl, rfl, rfl, rfl⟩ := re19 hF
      exact hret _ _ _ _ hH dX8_years_40
  · have hF := itp c_47 hF
    refine lv_bipush (v := (-2)) hx hb dX8_years_12 syb_m2 ?_
    obtain ⟨rfl, rfl, rfl, rfl, rfl, rfl, rfl, rfl, rfl, rfl, rfl, rfl, rfl, rfl, rfl, rfl, rfl, rfl, rfl⟩ := re19 hF
    exact hret _ _ _ _ hH dX8_years_14
abbrev rm_X8_states : Room := { frames := 0, cells := 0, slots := 0, locals := 0 }
set_option maxHeartbeats 4000000 in
theorem met_X8_states {l : Launch} {D : va_G} {ad : Nat → Nat} {cA : Nat → ClassId} {a_all : Nat → Int32} {a_hasImage : Nat → Int32} {a_tape : Nat → Int32} {a_fresh : Nat → Int32} {v_taped : Int32} {v_at : Int32} {v_behind : Int32} {v_size : Int32} {v_kind : Int32} {v_number : Int32} {v_wrong : Int32} {v_wrongAt : Int32} {v_depth : Int32} {v_steps : Int32} {v_faultKind : Int32} {v_faultPlace : Int32} {a_on : Nat → Int32} {a_many : Nat → Int32} {v_moved : Int32} {a_pile : Nat → Int32} {v_aside : Int32} {v_judgedBy : Int32} {v_judgedYear : Int32} {a_leastCost : Nat → Int32} {a_matched : Nat → Int32} {a_order : Nat → Int32} {a_lies : Nat → Int64} {a_movedThen : Nat → Int32} {a_yearTable : Nat → Int32} {a_yearMark : Nat → Int32} {a_beginTable : Nat → Int32} {a_beginMark : Nat → Int32} {v_statesTold : Int32} {v_found : Int32} {v_yearFrom : Int32} {v_mark : Int32} {v_beginsMark : Int32} {v_begins : Int32} {a_began : Nat → Int64} {v_isSpent : Int32} {a_wants : Nat → Int32} {a_rowSort : Nat → Int32} {a_rowMany : Nat → Int32} {a_numbers : Nat → Int64}   {res : Int32} {ak av fo : Nat} {E : EvT} (hE : EvM E ak av fo) (hF : FX8_states v_statesTold = some res) : MM l yX8_states (ws_ yX8_states cX8_states 1 (Option.some Jvm.ClassFile.FieldType.int)) rm_X8_states D vwA (mT cA) E [.ref (ad 0)] (mW ad cA a_all a_hasImage a_tape a_fresh v_taped v_at v_behind v_size v_kind v_number v_wrong v_wrongAt v_depth v_steps v_faultKind v_faultPlace a_on a_many v_moved a_pile v_aside v_judgedBy v_judgedYear a_leastCost a_matched a_order a_lies a_movedThen a_yearTable a_yearMark a_beginTable a_beginMark v_statesTold v_found v_yearFrom v_mark v_beginsMark v_begins a_began v_isSpent a_wants a_rowSort a_rowMany a_numbers) (mW ad cA a_all a_hasImage a_tape a_fresh v_taped v_at v_behind v_size v_kind v_number v_wrong v_wrongAt v_depth v_steps v_faultKind v_faultPlace a_on a_many v_moved a_pile v_aside v_judgedBy v_judgedYear a_leastCost a_matched a_order a_lies a_movedThen a_yearTable a_yearMark a_beginTable a_beginMark v_statesTold v_found v_yearFrom v_mark v_beginsMark v_begins a_began v_isSpent a_wants a_rowSort a_rowMany a_numbers) (some (.int res)) := by
  refine MM.ofI (by decide) (Nat.le_of_ble_eq_true rfl) ?_
  intro p e s m args below meth c Q A hX hK hE0 hret H locs ls hH hl
  have hX : CallFix p m c cX8_states 1 s args lw_all RX8 := hX
  have hx := hX.1
  have hb := hX.2.1
  have hown := hX.2.2.2.1
  have hts := hX.2.2.2.2
  have hl : lv_has ls 1 [(0, .ref (ad 0))] := hl
  have hEv := hE.1
  delta FX8_states at hF
  refine lv_aload_n hx hb dX8_states_0 rfl (lv_at hl 0 rfl) ?_
  refine lv_iconst (v := 0) hx hb dX8_states_1 syi_0 ?_
  refine mp_thrown hX hK hH dX8_states_2 (fun H locs hH => ?_)
  refine lv_aload_n hx hb dX8_states_5 rfl (lv_at hl 0 rfl) ?_
  refine mg_statesTold hX hK hH dX8_states_6 ?_
  obtain rfl := Option.some.inj hF
  exact hret _ _ _ _ hH dX8_states_9
abbrev rm_X8_after : Room := { frames := 5, cells := 0, slots := 0, locals := 128 }
set_option maxHeartbeats 4000000 in
theorem met_X8_after {l : Launch} {D : va_G} {ad : Nat → Nat} {cA : Nat → ClassId} {a_all : Nat → Int32} {a_hasImage : Nat → Int32} {a_tape : Nat → Int32} {a_fresh : Nat → Int32} {v_taped : Int32} {v_at : Int32} {v_behind : Int32} {v_size : Int32} {v_kind : Int32} {v_number : Int32} {v_wrong : Int32} {v_wrongAt : Int32} {v_depth : Int32} {v_steps : Int32} {v_faultKind : Int32} {v_faultPlace : Int32} {a_on : Nat → Int32} {a_many : Nat → Int32} {v_moved : Int32} {a_pile : Nat → Int32} {v_aside : Int32} {v_judgedBy : Int32} {v_judgedYear : Int32} {a_leastCost : Nat → Int32} {a_matched : Nat → Int32} {a_order : Nat → Int32} {a_lies : Nat → Int64} {a_movedThen : Nat → Int32} {a_yearTable : Nat → Int32} {a_yearMark : Nat → Int32} {a_beginTable : Nat → Int32} {a_beginMark : Nat → Int32} {v_statesTold : Int32} {v_found : Int32} {v_yearFrom : Int32} {v_mark : Int32} {v_beginsMark : Int32} {v_begins : Int32} {a_began : Nat → Int64} {v_isSpent : Int32} {a_wants : Nat → Int32} {a_rowSort : Nat → Int32} {a_rowMany : Nat → Int32} {a_numbers : Nat → Int64}  {p1 : Int32} {p2 : Int32} {res : Int32} {ra_on : Nat → Int32} {ra_many : Nat → Int32} {rv_moved : Int32} {ra_pile : Nat → Int32} {ra_lies : Nat → Int64} {ra_movedThen : Nat → Int32} {ra_yearTable : Nat → Int32} {ra_yearMark : Nat → Int32} {ra_beginTable : Nat → Int32} {ra_beginMark : Nat → Int32} {rv_found : Int32} {rv_yearFrom : Int32} {rv_mark : Int32} {rv_beginsMark : Int32} {rv_begins : Int32} {ra_began : Nat → Int64} {rv_isSpent : Int32} {ak av fo : Nat} {E : EvT} (hE : EvM E ak av fo) (hF : FX8_after a_all a_on a_many a_pile v_aside a_lies a_movedThen a_yearTable a_yearMark a_beginTable a_beginMark v_found v_yearFrom v_mark v_beginsMark v_begins a_began v_isSpent p1 p2 = some (res, ra_on, ra_many, rv_moved, ra_pile, ra_lies, ra_movedThen, ra_yearTable, ra_yearMark, ra_beginTable, ra_beginMark, rv_found, rv_yearFrom, rv_mark, rv_beginsMark, rv_begins, ra_began, rv_isSpent)) : MM l yX8_after (ws_ yX8_after cX8_after 3 (Option.some Jvm.ClassFile.FieldType.int)) rm_X8_after D vwA (mT cA) E [.ref (ad 0), .int p1, .int p2] (mW ad cA a_all a_hasImage a_tape a_fresh v_taped v_at v_behind v_size v_kind v_number v_wrong v_wrongAt v_depth v_steps v_faultKind v_faultPlace a_on a_many v_moved a_pile v_aside v_judgedBy v_judgedYear a_leastCost a_matched a_order a_lies a_movedThen a_yearTable a_yearMark a_beginTable a_beginMark v_statesTold v_found v_yearFrom v_mark v_beginsMark v_begins a_began v_isSpent a_wants a_rowSort a_rowMany a_numbers) (mW ad cA a_all a_hasImage a_tape a_fresh v_taped v_at v_behind v_size v_kind v_number v_wrong v_wrongAt v_depth v_steps v_faultKind v_faultPlace ra_on ra_many rv_moved ra_pile v_aside v_judgedBy v_judgedYear a_leastCost a_matched a_order ra_lies ra_movedThen ra_yearTable ra_yearMark ra_beginTable ra_beginMark v_statesTold rv_found rv_yearFrom rv_mark rv_beginsMark rv_begins ra_began rv_isSpent a_wants a_rowSort a_rowMany a_numbers) (some (.int res)) := by
  refine MM.ofI (by decide) (Nat.le_of_ble_eq_true rfl) ?_
  intro p e s m args below meth c Q A hX hK hE0 hret H locs ls hH hl
  have hX : CallFix p m c cX8_after 3 s args lw_all RX8 := hX
  have hx := hX.1
  have hb := hX.2.1
  have hown := hX.2.2.2.1
  have hts := hX.2.2.2.2
  have hl : lv_has ls 3 [(0, .ref (ad 0)), (1, .int p1), (2, .int p2)] := hl
  have hEv := hE.1
  delta FX8_after at hF
  refine lv_aload_n hx hb dX8_after_0 rfl (lv_at hl 0 rfl) ?_
  refine lv_iconst (v := 0) hx hb dX8_after_1 syi_0 ?_
  refine mp_thrown hX hK hH dX8_after_2 (fun H locs hH => ?_)
  refine lv_aload_n hx hb dX8_after_5 rfl (lv_at hl 0 rfl) ?_
  obtain ⟨a_on_47, a_many_48, v_moved_49, he, hF⟩ := bd3e hF
  refine mcV hX hK hEv hE0 hH (met_X8_looksNow hE he) (mrecv hK hH) gw_StoneYearModel_260 hd_yX8_looksNow ⟨Nat.le_of_ble_eq_true rfl, Nat.le_of_ble_eq_true rfl⟩ rfl rfl hl (Nat.le_of_ble_eq_true rfl) dX8_after_6 ⟨Nat.le_of_ble_eq_true rfl, Nat.le_of_ble_eq_true rfl⟩ (fun H locs hH => ?_)
  refine lv_aload_n hx hb dX8_after_9 rfl (lv_at hl 0 rfl) ?_
  refine lv_iload_n hx hb dX8_after_10 rfl (lv_at hl 1 rfl) ?_
  refine lv_iload_n hx hb dX8_after_11 rfl (lv_at hl 2 rfl) ?_
  obtain ⟨x_50, a_many_51, a_pile_52, he, hF⟩ := bd3e hF
  refine mcV hX hK hEv hE0 hH (met_X8_mayCarry hE he) (mrecv hK hH) gw_StoneYearModel_266 hd_yX8_mayCarry ⟨Nat.le_of_ble_eq_true rfl, Nat.le_of_ble_eq_true rfl⟩ rfl rfl hl (Nat.le_of_ble_eq_true rfl) dX8_after_12 ⟨Nat.le_of_ble_eq_true rfl, Nat.le_of_ble_eq_true rfl⟩ (fun H locs hH => ?_)
  refine lv_if_eq (tgt := 21) hx hb dX8_after_15 rfl (fun c_53 => ?_) (fun c_53 => ?_)
  · have hF := itp c_53 hF
    refine lv_aload_n hx hb dX8_after_21 rfl (lv_at hl 0 rfl) ?_
    refine lv_iload_n hx hb dX8_after_22 rfl (lv_at hl 1 rfl) ?_
    refine lv_iload_n hx hb dX8_after_23 rfl (lv_at hl 2 rfl) ?_
    obtain ⟨a_on_54, a_many_55, v_moved_56, he, hF⟩ := bd3e hF
    refine mcV hX hK hEv hE0 hH (met_X8_carries hE he) (mrecv hK hH) gw_StoneYearModel_272 hd_yX8_carries ⟨Nat.le_of_ble_eq_true rfl, Nat.le_of_ble_eq_true rfl⟩ rfl rfl hl (Nat.le_of_ble_eq_true rfl) dX8_after_24 ⟨Nat.le_of_ble_eq_true rfl, Nat.le_of_ble_eq_true rfl⟩ (fun H locs hH => ?_)
    refine lv_aload_n hx hb dX8_after_27 rfl (lv_at hl 0 rfl) ?_
    refine lv_iconst (v := (-1)) hx hb dX8_after_28 syi_m1 ?_
    obtain ⟨x_57, a_on_58, a_many_59, v_moved_60, a_pile_61, a_lies_62, a_movedThen_63, a_yearTable_64, a_yearMark_65, a_beginTable_66, a_beginMark_67, v_found_68, v_yearFrom_69, v_mark_70, v_beginsMark_71, v_begins_72, a_began_73, v_isSpent_74, he, hF⟩ := bd18e hF
    refine mcV hX hK hEv hE0 hH (met_X8_sought hE he) (mrecv hK hH) gw_StoneYearModel_408 hd_yX8_sought ⟨Nat.le_of_ble_eq_true rfl, Nat.le_of_ble_eq_true rfl⟩ rfl rfl hl (Nat.le_of_ble_eq_true rfl) dX8_after_29 ⟨Nat.le_of_ble_eq_true rfl, Nat.le_of_ble_eq_true rfl⟩ (fun H locs hH => ?_)
    obtain ⟨rfl, rfl, rfl, rfl, rfl, rfl, rfl, rfl, rfl, rfl, rfl, rfl, rfl, rfl, rfl, rfl, rfl, rfl⟩ := re18 hF
    exact hret _ _ _ _ hH dX8_after_32
  · have hF := itn c_53 hF
    refine lv_bipush (v := (-5)) hx hb dX8_after_18 syb_m5 ?_
    obtain ⟨rfl, rfl, rfl, rfl, rfl, rfl, rfl, rfl, rfl, rfl, rfl, rfl, rfl, rfl, rfl, rfl, rfl, rfl⟩ := re18 hF
    exact hret _ _ _ _ hH dX8_after_20
abbrev rm_X8_without : Room := { frames := 5, cells := 0, slots := 0, locals := 128 }
set_option maxHeartbeats 4000000 in
theorem met_X8_without {l : Launch} {D : va_G} {ad : Nat → Nat} {cA : Nat → ClassId} {a_all : Nat → Int32} {a_hasImage : Nat → Int32} {a_tape : Nat → Int32} {a_fresh : Nat → Int32} {v_taped : Int32} {v_at : Int32} {v_behind : Int32} {v_size : Int32} {v_kind : Int32} {v_number : Int32} {v_wrong : Int32} {v_wrongAt : Int32} {v_depth : Int32} {v_steps : Int32} {v_faultKind : Int32} {v_faultPlace : Int32} {a_on : Nat → Int32} {a_many : Nat → Int32} {v_moved : Int32} {a_pile : Nat → Int32} {v_aside : Int32} {v_judgedBy : Int32} {v_judgedYear : Int32} {a_leastCost : Nat → Int32} {a_matched : Nat → Int32} {a_order : Nat → Int32} {a_lies : Nat → Int64} {a_movedThen : Nat → Int32} {a_yearTable : Nat → Int32} {a_yearMark : Nat → Int32} {a_beginTable : Nat → Int32} {a_beginMark : Nat → Int32} {v_statesTold : Int32} {v_found : Int32} {v_yearFrom : Int32} {v_mark : Int32} {v_beginsMark : Int32} {v_begins : Int32} {a_began : Nat → Int64} {v_isSpent : Int32} {a_wants : Nat → Int32} {a_rowSort : Nat → Int32} {a_rowMany : Nat → Int32} {a_numbers : Nat → Int64}  {p1 : Int32} {res : Int32} {ra_on : Nat → Int32} {ra_many : Nat → Int32} {rv_moved : Int32} {ra_pile : Nat → Int32} {rv_aside : Int32} {ra_lies : Nat → Int64} {ra_movedThen : Nat → Int32} {ra_yearTable : Nat → Int32} {ra_yearMark : Nat → Int32} {ra_beginTable : Nat → Int32} {ra_beginMark : Nat → Int32} {rv_found : Int32} {rv_yearFrom : Int32} {rv_mark : Int32} {rv_beginsMark : Int32} {rv_begins : Int32} {ra_began : Nat → Int64} {rv_isSpent : Int32} {ak av fo : Nat} {E : EvT} (hE : EvM E ak av fo) (hF : FX8_without a_all a_on a_many v_moved a_pile v_aside a_lies a_movedThen a_yearTable a_yearMark a_beginTable a_beginMark v_found v_yearFrom v_mark v_beginsMark v_begins a_began v_isSpent p1 = some (res, ra_on, ra_many, rv_moved, ra_pile, rv_aside, ra_lies, ra_movedThen, ra_yearTable, ra_yearMark, ra_beginTable, ra_beginMark, rv_found, rv_yearFrom, rv_mark, rv_beginsMark, rv_begins, ra_began, rv_isSpent)) : MM l yX8_without (ws_ yX8_without cX8_without 3 (Option.some Jvm.ClassFile.FieldType.int)) rm_X8_without D vwA (mT cA) E [.ref (ad 0), .int p1] (mW ad cA a_all a_hasImage a_tape a_fresh v_taped v_at v_behind v_size v_kind v_number v_wrong v_wrongAt v_depth v_steps v_faultKind v_faultPlace a_on a_many v_moved a_pile v_aside v_judgedBy v_judgedYear a_leastCost a_matched a_order a_lies a_movedThen a_yearTable a_yearMark a_beginTable a_beginMark v_statesTold v_found v_yearFrom v_mark v_beginsMark v_begins a_began v_isSpent a_wants a_rowSort a_rowMany a_numbers) (mW ad cA a_all a_hasImage a_tape a_fresh v_taped v_at v_behind v_size v_kind v_number v_wrong v_wrongAt v_depth v_steps v_faultKind v_faultPlace ra_on ra_many rv_moved ra_pile rv_aside v_judgedBy v_judgedYear a_leastCost a_matched a_order ra_lies ra_movedThen ra_yearTable ra_yearMark ra_beginTable ra_beginMark v_statesTold rv_found rv_yearFrom rv_mark rv_beginsMark rv_begins ra_began rv_isSpent a_wants a_rowSort a_rowMany a_numbers) (some (.int res)) := by
  refine MM.ofI (by decide) (Nat.le_of_ble_eq_true rfl) ?_
  intro p e s m args below meth c Q A hX hK hE0 hret H locs ls hH hl
  have hX : CallFix p m c cX8_without 3 s args lw_all RX8 := hX
  have hx := hX.1
  have hb := hX.2.1
  have hown := hX.2.2.2.1
  have hts := hX.2.2.2.2
  have hl : lv_has ls 3 [(0, .ref (ad 0)), (1, .int p1)] := hl
  have hEv := hE.1
  delta FX8_without at hF
  refine lv_aload_n hx hb dX8_without_0 rfl (lv_at hl 0 rfl) ?_
  refine lv_iconst (v := 0) hx hb dX8_without_1 syi_0 ?_
  refine mp_thrown hX hK hH dX8_without_2 (fun H locs hH => ?_)
  refine lv_iload_n hx hb dX8_without_5 rfl (lv_at hl 1 rfl) ?_
  refine lv_i2l (v := (Int32.toInt64 p1)) hx hb dX8_without_6 rfl ?_
  refine lv_lconst (v := 0) hx hb dX8_without_7 rfl ?_
  refine lv_aload_n hx hb dX8_without_8 rfl (lv_at hl 0 rfl) ?_
  refine mg_all hX hK hH dX8_without_9 ?_
  refine lv_bipush (v := 56) hx hb dX8_without_12 syb_56 ?_
  obtain ⟨x_46, he, hF⟩ := bd1e hF
  refine ml_all hX hK hH he dX8_without_14 ?_
  refine lv_iconst (v := 1) hx hb dX8_without_15 syi_1 ?_
  refine lv_isub hx hb dX8_without_16 ?_
  refine lv_i2l (v := (Int32.toInt64 (x_46 - 1))) hx hb dX8_without_17 rfl ?_
  obtain ⟨b_47, he, hF⟩ := bd1e hF
  refine mcS hX hK hEv hE0 hH (met_X8_within hE he) gw_StoneYearModel_153 hd_yX8_within ⟨Nat.le_of_ble_eq_true rfl, Nat.le_of_ble_eq_true rfl⟩ rfl rfl hl (Nat.le_of_ble_eq_true rfl) dX8_without_18 ⟨Nat.le_of_ble_eq_true rfl, Nat.le_of_ble_eq_true rfl⟩ (fun H locs hH => ?_)
  refine lv_if_ne (tgt := 27) hx hb dX8_without_21 rfl (fun c_48 => ?_) (fun c_48 => ?_)
  · have hF := itn c_48 hF
    refine lv_aload_n hx hb dX8_without_27 rfl (lv_at hl 0 rfl) ?_
    refine lv_iload_n hx hb dX8_without_28 rfl (lv_at hl 1 rfl) ?_
    refine mp_aside hX hK hH dX8_without_29 (fun H locs hH => ?_)
    refine lv_aload_n hx hb dX8_without_32 rfl (lv_at hl 0 rfl) ?_
    obtain ⟨a_on_49, a_many_50, v_moved_51, he, hF⟩ := bd3e hF
    refine mcV hX hK hEv hE0 hH (met_X8_looksNow hE he) (mrecv hK hH) gw_StoneYearModel_260 hd_yX8_looksNow ⟨Nat.le_of_ble_eq_true rfl, Nat.le_of_ble_eq_true rfl⟩ rfl rfl hl (Nat.le_of_ble_eq_true rfl) dX8_without_33 ⟨Nat.le_of_ble_eq_true rfl, Nat.le_of_ble_eq_true rfl⟩ (fun H locs hH => ?_)
    refine lv_aload_n hx hb dX8_without_36 rfl (lv_at hl 0 rfl) ?_
    refine lv_iconst (v := (-1)) hx hb dX8_without_37 syi_m1 ?_
    obtain ⟨x_52, a_on_53, a_many_54, v_moved_55, a_pile_56, a_lies_57, a_movedThen_58, a_yearTable_59, a_yearMark_60, a_beginTable_61, a_beginMark_62, v_found_63, v_yearFrom_64, v_mark_65, v_beginsMark_66, v_begins_67, a_began_68, v_isSpent_69, he, hF⟩ := bd18e hF
    refine mcV hX hK hEv hE0 hH (met_X8_sought hE he) (mrecv hK hH) gw_StoneYearModel_408 hd_yX8_sought ⟨Nat.le_of_ble_eq_true rfl, Nat.le_of_ble_eq_true rfl⟩ rfl rfl hl (Nat.le_of_ble_eq_true rfl) dX8_without_38 ⟨Nat.le_of_ble_eq_true rfl, Nat.le_of_ble_eq_true rfl⟩ (fun H locs hH => ?_)
    refine lv_istore_n (lv' := [(2, .int x_52), (0, .ref (ad 0)), (1, .int p1)]) hx hb dX8_without_41 rfl hl (by decide) rfl (fun ls hl => ?_)
    refine lv_aload_n hx hb dX8_without_42 rfl (lv_at hl 1 rfl) ?_
    refine lv_iconst (v := (-1)) hx hb dX8_without_43 syi_m1 ?_
    refine mp_aside hX hK hH dX8_without_44 (fun H locs hH => ?_)
    refine lv_iload_n hx hb dX8_without_47 rfl (lv_at hl 0 rfl) ?_
    obtain ⟨rfl, rfl, rfl, rfl, rfl, rfl, rfl, rfl, rfl, rfl, rfl, rfl, rfl, rfl, rfl, rfl, rfl, rfl, rfl⟩ := re19 hF
    exact hret _ _ _ _ hH dX8_without_48
  · have hF := itp c_48 hF
    refine lv_bipush (v := (-2)) hx hb dX8_without_24 syb_m2 ?_
    obtain ⟨rfl, rfl, rfl, rfl, rfl, rfl, rfl, rfl, rfl, rfl, rfl, rfl, rfl, rfl, rfl, rfl, rfl, rfl, rfl⟩ := re19 hF
    exact hret _ _ _ _ hH dX8_without_26
abbrev rm_X8_missing : Room := { frames := 5, cells := 0, slots := 0, locals := 128 }
set_option maxHeartbeats 4000000 in
theorem met_X8_missing {l : Launch} {D : va_G} {ad : Nat → Nat} {cA : Nat → ClassId} {a_all : Nat → Int32} {a_hasImage : Nat → Int32} {a_tape : Nat → Int32} {a_fresh : Nat → Int32} {v_taped : Int32} {v_at : Int32} {v_behind : Int32} {v_size : Int32} {v_kind : Int32} {v_number : Int32} {v_wrong : Int32} {v_wrongAt : Int32} {v_depth : Int32} {v_steps : Int32} {v_faultKind : Int32} {v_faultPlace : Int32} {a_on : Nat → Int32} {a_many : Nat → Int32} {v_moved : Int32} {a_pile : Nat → Int32} {v_aside : Int32} {v_judgedBy : Int32} {v_judgedYear : Int32} {a_leastCost : Nat → Int32} {a_matched : Nat → Int32} {a_order : Nat → Int32} {a_lies : Nat → Int64} {a_movedThen : Nat → Int32} {a_yearTable : Nat → Int32} {a_yearMark : Nat → Int32} {a_beginTable : Nat → Int32} {a_beginMark : Nat → Int32} {v_statesTold : Int32} {v_found : Int32} {v_yearFrom : Int32} {v_mark : Int32} {v_beginsMark : Int32} {v_begins : Int32} {a_began : Nat → Int64} {v_isSpent : Int32} {a_wants : Nat → Int32} {a_rowSort : Nat → Int32} {a_rowMany : Nat → Int32} {a_numbers : Nat → Int64}  {p1 : Int32} {res : Int32} {ra_on : Nat → Int32} {ra_many : Nat → Int32} {rv_moved : Int32} {ra_pile : Nat → Int32} {ra_lies : Nat → Int64} {ra_movedThen : Nat → Int32} {ra_yearTable : Nat → Int32} {ra_yearMark : Nat → Int32} {ra_beginTable : Nat → Int32} {ra_beginMark : Nat → Int32} {rv_found : Int32} {rv_yearFrom : Int32} {rv_mark : Int32} {rv_beginsMark : Int32} {rv_begins : Int32} {ra_began : Nat → Int64} {rv_isSpent : Int32} {ak av fo : Nat} {E : EvT} (hE : EvM E ak av fo) (hF : FX8_missing a_all a_on a_many v_moved a_pile v_aside a_lies a_movedThen a_yearTable a_yearMark a_beginTable a_beginMark v_found v_yearFrom v_mark v_beginsMark v_begins a_began v_isSpent p1 = some (res, ra_on, ra_many, rv_moved, ra_pile, ra_lies, ra_movedThen, ra_yearTable, ra_yearMark, ra_beginTable, ra_beginMark, rv_found, rv_yearFrom, rv_mark, rv_beginsMark, rv_begins, ra_began, rv_isSpent)) : MM l yX8_missing (ws_ yX8_missing cX8_missing 3 (Option.some Jvm.ClassFile.FieldType.int)) rm_X8_missing D vwA (mT cA) E [.ref (ad 0), .int p1] (mW ad cA a_all a_hasImage a_tape a_fresh v_taped v_at v_behind v_size v_kind v_number v_wrong v_wrongAt v_depth v_steps v_faultKind v_faultPlace a_on a_many v_moved a_pile v_aside v_judgedBy v_judgedYear a_leastCost a_matched a_order a_lies a_movedThen a_yearTable a_yearMark a_beginTable a_beginMark v_statesTold v_found v_yearFrom v_mark v_beginsMark v_begins a_began v_isSpent a_wants a_rowSort a_rowMany a_numbers) (mW ad cA a_all a_hasImage a_tape a_fresh v_taped v_at v_behind v_size v_kind v_number v_wrong v_wrongAt v_depth v_steps v_faultKind v_faultPlace ra_on ra_many rv_moved ra_pile v_aside v_judgedBy v_judgedYear a_leastCost a_matched a_order ra_lies ra_movedThen ra_yearTable ra_yearMark ra_beginTable ra_beginMark v_statesTold rv_found rv_yearFrom rv_mark rv_beginsMark rv_begins ra_began rv_isSpent a_wants a_rowSort a_rowMany a_numbers) (some (.int res)) := by
  refine MM.ofI (by decide) (Nat.le_of_ble_eq_true rfl) ?_
  intro p e s m args below meth c Q A hX hK hE0 hret H locs ls hH hl
  have hX : CallFix p m c cX8_missing 3 s args lw_all RX8 := hX
  have hx := hX.1
  have hb := hX.2.1
  have hown := hX.2.2.2.1
  have hts := hX.2.2.2.2
  have hl : lv_has ls 3 [(0, .ref (ad 0)), (1, .int p1)] := hl
  have hEv := hE.1
  delta FX8_missing at hF
  refine lv_aload_n hx hb dX8_missing_0 rfl (lv_at hl 0 rfl) ?_
  refine lv_iconst (v := 0) hx hb dX8_missing_1 syi_0 ?_
  refine mp_thrown hX hK hH dX8_missing_2 (fun H locs hH => ?_)
  refine lv_aload_n hx hb dX8_missing_5 rfl (lv_at hl 0 rfl) ?_
  refine lv_iload_n hx hb dX8_missing_6 rfl (lv_at hl 1 rfl) ?_
  obtain ⟨b_46, he, hF⟩ := bd1e hF
  refine mcV hX hK hEv hE0 hH (met_X8_isStone hE he) (mrecv hK hH) gw_StoneYearModel_250 hd_yX8_isStone ⟨Nat.le_of_ble_eq_true rfl, Nat.le_of_ble_eq_true rfl⟩ rfl rfl hl (Nat.le_of_ble_eq_true rfl) dX8_missing_7 ⟨Nat.le_of_ble_eq_true rfl, Nat.le_of_ble_eq_true rfl⟩ (fun H locs hH => ?_)
  refine lv_if_eq (tgt := 22) hx hb dX8_missing_10 rfl (fun c_47 => ?_) (fun c_47 => ?_)
  · have hF := itp c_47 hF
    refine lv_bipush (v := (-2)) hx hb dX8_missing_22 syb_m2 ?_
    obtain ⟨rfl, rfl, rfl, rfl, rfl, rfl, rfl, rfl, rfl, rfl, rfl, rfl, rfl, rfl, rfl, rfl, rfl, rfl⟩ := re18 hF
    exact hret _ _ _ _ hH dX8_missing_24
  · have hF := itn c_47 hF
    refine lv_aload_n hx hb dX8_missing_13 rfl (lv_at hl 0 rfl) ?_
    refine lv_iload_n hx hb dX8_missing_14 rfl (lv_at hl 1 rfl) ?_
    obtain ⟨x_48, he, hF⟩ := bd1e hF
    refine mcV hX hK hEv hE0 hH (met_X8_placeOf hE he) (mrecv hK hH) gw_StoneYearModel_255 hd_yX8_placeOf ⟨Nat.le_of_ble_eq_true rfl, Nat.le_of_ble_eq_true rfl⟩ rfl rfl hl (Nat.le_of_ble_eq_true rfl) dX8_missing_15 ⟨Nat.le_of_ble_eq_true rfl, Nat.le_of_ble_eq_true rfl⟩ (fun H locs hH => ?_)
    refine lv_iconst (v := (-1)) hx hb dX8_missing_18 syi_m1 ?_
    refine lv_icmp_ne (tgt := 25) hx hb dX8_missing_19 rfl (fun c_49 => ?_) (fun c_49 => ?_)
    · have hF := itn c_49 hF
      refine lv_aload_n hx hb dX8_missing_25 rfl (lv_at hl 0 rfl) ?_
      refine lv_iload_n hx hb dX8_missing_26 rfl (lv_at hl 1 rfl) ?_
      obtain ⟨x_50, he, hF⟩ := bd1e hF
      refine mcV hX hK hEv hE0 hH (met_X8_topPlace hE he) (mrecv hK hH) gw_StoneYearModel_285 hd_yX8_topPlace ⟨Nat.le_of_ble_eq_true rfl, Nat.le_of_ble_eq_true rfl⟩ rfl rfl hl (Nat.le_of_ble_eq_true rfl) dX8_missing_27 ⟨Nat.le_of_ble_eq_true rfl, Nat.le_of_ble_eq_true rfl⟩ (fun H locs hH => ?_)
      refine lv_istore_n (lv' := [(2, .int x_50), (0, .ref (ad 0)), (1, .int p1)]) hx hb dX8_missing_30 rfl hl (by decide) rfl (fun ls hl => ?_)
      refine lv_iload_n hx hb dX8_missing_31 rfl (lv_at hl 0 rfl) ?_
      refine lv_iconst (v := (-1)) hx hb dX8_missing_32 syi_m1 ?_
      refine lv_icmp_ne (tgt := 39) hx hb dX8_missing_33 rfl (fun c_51 => ?_) (fun c_51 => ?_)
      · have hF := itn c_51 hF
        refine lv_aload_n hx hb dX8_missing_39 rfl (lv_at hl 1 rfl) ?_
        obtain ⟨a_on_52, a_many_53, v_moved_54, he, hF⟩ := bd3e hF
        refine mcV hX hK hEv hE0 hH (met_X8_looksNow hE he) (mrecv hK hH) gw_StoneYearModel_260 hd_yX8_looksNow ⟨Nat.le_of_ble_eq_true rfl, Nat.le_of_ble_eq_true rfl⟩ rfl rfl hl (Nat.le_of_ble_eq_true rfl) dX8_missing_40 ⟨Nat.le_of_ble_eq_true rfl, Nat.le_of_ble_eq_true rfl⟩ (fun H locs hH => ?_)
        refine lv_aload_n hx hb dX8_missing_43 rfl (lv_at hl 1 rfl) ?_
        refine mg_on hX hK hH dX8_missing_44 ?_
        refine lv_iload_n hx hb dX8_missing_47 rfl (lv_at hl 0 rfl) ?_
        refine lv_iconst (v := 0) hx hb dX8_missing_48 syi_0 ?_
        obtain ⟨a_on_55, he, hF⟩ := bd1e hF
        refine ms_on hX hK hH he dX8_missing_49 (fun H locs hH => ?_)
        refine lv_aload_n hx hb dX8_missing_50 rfl (lv_at hl 1 rfl) ?_
        refine lv_dup hx hb dX8_missing_51 rfl ?_
        refine mg_moved hX hK hH dX8_missing_52 ?_
        refine lv_iconst (v := 1) hx hb dX8_missing_55 syi_1 ?_
        refine lv_iload_n hx hb dX8_missing_56 rfl (lv_at hl 2 rfl) ?_
        refine lv_ishl hx hb dX8_missing_57 ?_
        refine lv_iconst (v := (-1)) hx hb dX8_missing_58 syi_m1 ?_
        refine lv_ixor hx hb dX8_missing_59 ?_
        refine lv_iand hx hb dX8_missing_60 ?_
        refine mp_moved hX hK hH dX8_missing_61 (fun H locs hH => ?_)
        refine lv_aload_n hx hb dX8_missing_64 rfl (lv_at hl 1 rfl) ?_
        obtain ⟨a_many_56, he, hF⟩ := bd1e hF
        refine mcV hX hK hEv hE0 hH (met_X8_counts hE he) (mrecv hK hH) gw_StoneYearModel_214 hd_yX8_counts ⟨Nat.le_of_ble_eq_true rfl, Nat.le_of_ble_eq_true rfl⟩ rfl rfl hl (Nat.le_of_ble_eq_true rfl) dX8_missing_65 ⟨Nat.le_of_ble_eq_true rfl, Nat.le_of_ble_eq_true rfl⟩ (fun H locs hH => ?_)
        refine lv_aload_n hx hb dX8_missing_68 rfl (lv_at hl 1 rfl) ?_
        refine lv_iconst (v := (-1)) hx hb dX8_missing_69 syi_m1 ?_
        obtain ⟨x_57, a_on_58, a_many_59, v_moved_60, a_pile_61, a_lies_62, a_movedThen_63, a_yearTable_64, a_yearMark_65, a_beginTable_66, a_beginMark_67, v_found_68, v_yearFrom_69, v_mark_70, v_beginsMark_71, v_begins_72, a_began_73, v_isSpent_74, he, hF⟩ := bd18e hF
        refine mcV hX hK hEv hE0 hH (met_X8_sought hE he) (mrecv hK hH) gw_StoneYearModel_408 hd_yX8_sought ⟨Nat.le_of_ble_eq_true rfl, Nat.le_of_ble_eq_true rfl⟩ rfl rfl hl (Nat.le_of_ble_eq_true rfl) dX8_missing_70 ⟨Nat.le_of_ble_eq_true rfl, Nat.le_of_ble_eq_true rfl⟩ (fun H locs hH => ?_)
        obtain ⟨rfl, rfl, rfl, rfl, rfl, rfl, rfl, rfl, rfl, rfl, rfl, rfl, rfl, rfl, rfl, rfl, rfl, rfl⟩ := re18 hF
        exact hret _ _ _ _ hH dX8_missing_73
      · have hF := itp c_51 hF
        refine lv_bipush (v := (-5)) hx hb dX8_missing_36 syb_m5 ?_
        obtain ⟨rfl, rfl, rfl, rfl, rfl, rfl, rfl, rfl, rfl, rfl, rfl, rfl, rfl, rfl, rfl, rfl, rfl, rfl⟩ := re18 hF
        exact hret _ _ _ _ hH dX8_missing_38
    · have hF := itp c_49 hF
      refine lv_bipush (v := (-2)) hx hb dX8_missing_22 syb_m2 ?_
      obtain ⟨rfl, rfl, rfl, rfl, rfl, rfl, rfl, rfl, rfl, rfl, rfl, rfl, rfl, rfl, rfl, rfl, rfl, rfl⟩ := re18 hF
      exact hret _ _ _ _ hH dX8_missing_24
abbrev rm_X8_winters : Room := { frames := 4, cells := 0, slots := 0, locals := 105 }
set_option maxHeartbeats 4000000 in
theorem met_X8_winters {l : Launch} {D : va_G} {ad : Nat → Nat} {cA : Nat → ClassId} {a_all : Nat → Int32} {a_hasImage : Nat → Int32} {a_tape : Nat → Int32} {a_fresh : Nat → Int32} {v_taped : Int32} {v_at : Int32} {v_behind : Int32} {v_size : Int32} {v_kind : Int32} {v_number : Int32} {v_wrong : Int32} {v_wrongAt : Int32} {v_depth : Int32} {v_steps : Int32} {v_faultKind : Int32} {v_faultPlace : Int32} {a_on : Nat → Int32} {a_many : Nat → Int32} {v_moved : Int32} {a_pile : Nat → Int32} {v_aside : Int32} {v_judgedBy : Int32} {v_judgedYear : Int32} {a_leastCost : Nat → Int32} {a_matched : Nat → Int32} {a_order : Nat → Int32} {a_lies : Nat → Int64} {a_movedThen : Nat → Int32} {a_yearTable : Nat → Int32} {a_yearMark : Nat → Int32} {a_beginTable : Nat → Int32} {a_beginMark : Nat → Int32} {v_statesTold : Int32} {v_found : Int32} {v_yearFrom : Int32} {v_mark : Int32} {v_beginsMark : Int32} {v_begins : Int32} {a_began : Nat → Int64} {v_isSpent : Int32} {a_wants : Nat → Int32} {a_rowSort : Nat → Int32} {a_rowMany : Nat → Int32} {a_numbers : Nat → Int64}  {p1 : Int32} {res : Int32} {ra_on : Nat → Int32} {ra_many : Nat → Int32} {rv_moved : Int32} {ra_pile : Nat → Int32} {ra_lies : Nat → Int64} {ra_movedThen : Nat → Int32} {ra_yearTable : Nat → Int32} {ra_yearMark : Nat → Int32} {ra_beginTable : Nat → Int32} {ra_beginMark : Nat → Int32} {rv_found : Int32} {rv_yearFrom : Int32} {rv_mark : Int32} {rv_beginsMark : Int32} {rv_begins : Int32} {ra_began : Nat → Int64} {rv_isSpent : Int32} {ak av fo : Nat} {E : EvT} (hE : EvM E ak av fo) (hF : FX8_winters a_all a_on a_many v_moved a_pile v_aside a_lies a_movedThen a_yearTable a_yearMark a_beginTable a_beginMark v_found v_yearFrom v_mark v_beginsMark v_begins a_began v_isSpent p1 = some (res, ra_on, ra_many, rv_moved, ra_pile, ra_lies, ra_movedThen, ra_yearTable, ra_yearMark, ra_beginTable, ra_beginMark, rv_found, rv_yearFrom, rv_mark, rv_beginsMark, rv_begins, ra_began, rv_isSpent)) : MM l yX8_winters (ws_ yX8_winters cX8_winters 6 (Option.some Jvm.ClassFile.FieldType.int)) rm_X8_winters D vwA (mT cA) E [.ref (ad 0), .int p1] (mW ad cA a_all a_hasImage a_tape a_fresh v_taped v_at v_behind v_size v_kind v_number v_wrong v_wrongAt v_depth v_steps v_faultKind v_faultPlace a_on a_many v_moved a_pile v_aside v_judgedBy v_judgedYear a_leastCost a_matched a_order a_lies a_movedThen a_yearTable a_yearMark a_beginTable a_beginMark v_statesTold v_found v_yearFrom v_mark v_beginsMark v_begins a_began v_isSpent a_wants a_rowSort a_rowMany a_numbers) (mW ad cA a_all a_hasImage a_tape a_fresh v_taped v_at v_behind v_size v_kind v_number v_wrong v_wrongAt v_depth v_steps v_faultKind v_faultPlace ra_on ra_many rv_moved ra_pile v_aside v_judgedBy v_judgedYear a_leastCost a_matched a_order ra_lies ra_movedThen ra_yearTable ra_yearMark ra_beginTable ra_beginMark v_statesTold rv_found rv_yearFrom rv_mark rv_beginsMark rv_begins ra_began rv_isSpent a_wants a_rowSort a_rowMany a_numbers) (some (.int res)) := by
  refine MM.ofI (by decide) (Nat.le_of_ble_eq_true rfl) ?_
  intro p e s m args below meth c Q A hX hK hE0 hret H locs ls hH hl
  have hX : CallFix p m c cX8_winters 6 s args lw_all RX8 := hX
  have hx := hX.1
  have hb := hX.2.1
  have hown := hX.2.2.2.1
  have hts := hX.2.2.2.2
  have hl : lv_has ls 6 [(0, .ref (ad 0)), (1, .int p1)] := hl
  have hEv := hE.1
  delta FX8_winters at hF
  refine lv_aload_n hx hb dX8_winters_0 rfl (lv_at hl 0 rfl) ?_
  refine lv_iconst (v := 0) hx hb dX8_winters_1 syi_0 ?_
  refine mp_thrown hX hK hH dX8_winters_2 (fun H locs hH => ?_)
  refine lv_iload_n hx hb dX8_winters_5 rfl (lv_at hl 1 rfl) ?_
  refine lv_i2l (v := (Int32.toInt64 p1)) hx hb dX8_winters_6 rfl ?_
  refine lv_lconst (v := 1) hx hb dX8_winters_7 rfl ?_
  refine lv_ldc2 (v := 3) hx hb hown (hts _ q2028) dX8_winters_8 ?_
  obtain ⟨b_46, he, hF⟩ := bd1e hF
  refine mcS hX hK hEv hE0 hH (met_X8_within hE he) gw_StoneYearModel_153 hd_yX8_within ⟨Nat.le_of_ble_eq_true rfl, Nat.le_of_ble_eq_true rfl⟩ rfl rfl hl (Nat.le_of_ble_eq_true rfl) dX8_winters_11 ⟨Nat.le_of_ble_eq_true rfl, Nat.le_of_ble_eq_true rfl⟩ (fun H locs hH => ?_)
  refine lv_if_ne (tgt := 20) hx hb dX8_winters_14 rfl (fun c_47 => ?_) (fun c_47 => ?_)
  · have hF := itn c_47 hF
    refine lv_aload_n hx hb dX8_winters_20 rfl (lv_at hl 0 rfl) ?_
    obtain ⟨a_on_48, a_many_49, v_moved_50, he, hF⟩ := bd3e hF
    refine mcV hX hK hEv hE0 hH (met_X8_looksNow hE he) (mrecv hK hH) gw_StoneYearModel_260 hd_yX8_looksNow ⟨Nat.le_of_ble_eq_true rfl, Nat.le_of_ble_eq_true rfl⟩ rfl rfl hl (Nat.le_of_ble_eq_true rfl) dX8_winters_21 ⟨Nat.le_of_ble_eq_true rfl, Nat.le_of_ble_eq_true rfl⟩ (fun H locs hH => ?_)
    refine lv_aload_n hx hb dX8_winters_24 rfl (lv_at hl 0 rfl) ?_
    obtain ⟨a_lies_51, a_movedThen_52, a_yearTable_53, a_yearMark_54, a_beginTable_55, a_beginMark_56, v_found_57, v_yearFrom_58, v_mark_59, v_beginsMark_60, v_begins_61, a_began_62, v_isSpent_63, he, hF⟩ := bd13e hF
    refine mcV hX hK hEv hE0 hH (met_X8_startsYears hE he) (mrecv hK hH) gw_StoneYearModel_397 hd_yX8_startsYears ⟨Nat.le_of_ble_eq_true rfl, Nat.le_of_ble_eq_true rfl⟩ rfl rfl hl (Nat.le_of_ble_eq_true rfl) dX8_winters_25 ⟨Nat.le_of_ble_eq_true rfl, Nat.le_of_ble_eq_true rfl⟩ (fun H locs hH => ?_)
    refine lv_iconst (v := 1) hx hb dX8_winters_28 syi_1 ?_
    refine lv_istore_n (lv' := [(2, .int 1), (0, .ref (ad 0)), (1, .int p1)]) hx hb dX8_winters_29 rfl hl (by decide) rfl (fun ls hl => ?_)
    refine lv_iconst (v := 1) hx hb dX8_winters_30 syi_1 ?_
    refine lv_istore_n (lv' := [(3, .int 1), (2, .int 1), (0, .ref (ad 0)), (1, .int p1)]) hx hb dX8_winters_31 rfl hl (by decide) rfl (fun ls hl => ?_)
    obtain ⟨xx32, ee32, kk32_0, kk32_1, kk32_2⟩ := bdS3e hF
    have k32_0 : ∀ (a_on_190 : Nat → Int32) (a_many_191 : Nat → Int32) (v_moved_192 : Int32) (a_pile_193 : Nat → Int32) (a_lies_194 : Nat → Int64) (a_movedThen_195 : Nat → Int32) (a_yearTable_196 : Nat → Int32) (a_yearMark_197 : Nat → Int32) (a_beginTable_198 : Nat → Int32) (a_beginMark_199 : Nat → Int32) (v_found_200 : Int32) (v_yearFrom_201 : Int32) (v_mark_202 : Int32) (v_begins_203 : Int32) (a_began_204 : Nat → Int64) (v_isSpent_205 : Int32), xx32 = (.inl (a_on_190, a_many_191, v_moved_192, a_pile_193, a_lies_194, a_movedThen_195, a_yearTable_196, a_yearMark_197, a_beginTable_198, a_beginMark_199, v_found_200, v_yearFrom_201, v_mark_202, v_begins_203, a_began_204, v_isSpent_205)) → ∀ (H : Heap) (locs : List Loc) (ls : Array Slot), MH D vwA A s.heap (mW ad cA a_all a_hasImage a_tape a_fresh v_taped v_at v_behind v_size v_kind v_number v_wrong v_wrongAt v_depth v_steps v_faultKind v_faultPlace a_on_190 a_many_191 v_moved_192 a_pile_193 v_aside v_judgedBy v_judgedYear a_leastCost a_matched a_order a_lies_194 a_movedThen_195 a_yearTable_196 a_yearMark_197 a_beginTable_198 a_beginMark_199 v_statesTold v_found_200 v_yearFrom_201 v_mark_202 v_beginsMark_60 v_begins_203 a_began_204 v_isSpent_205 a_wants a_rowSort a_rowMany a_numbers) H locs → lv_has ls 6 [] → W p l e rm_X8_winters s m args below meth c H locs 0 0 Q (F0 m 53 ls []) := by
      intro a_on_190 a_many_191 v_moved_192 a_pile_193 a_lies_194 a_movedThen_195 a_yearTable_196 a_yearMark_197 a_beginTable_198 a_beginMark_199 v_found_200 v_yearFrom_201 v_mark_202 v_begins_203 a_began_204 v_isSpent_205 hxx H locs ls hH hl
      have hF := un16e (kk32_0 (a_on_190, a_many_191, v_moved_192, a_pile_193, a_lies_194, a_movedThen_195, a_yearTable_196, a_yearMark_197, a_beginTable_198, a_beginMark_199, v_found_200, v_yearFrom_201, v_mark_202, v_begins_203, a_began_204, v_isSpent_205) hxx)
      refine lv_bipush (v := (-4)) hx hb dX8_winters_53 syb_m4 ?_
      obtain ⟨rfl, rfl, rfl, rfl, rfl, rfl, rfl, rfl, rfl, rfl, rfl, rfl, rfl, rfl, rfl, rfl, rfl, rfl⟩ := re18 hF
      exact hret _ _ _ _ hH dX8_winters_55
    have k32_1 : ∀ (a_on_206 : Nat → Int32) (a_many_207 : Nat → Int32) (v_moved_208 : Int32) (a_pile_209 : Nat → Int32) (a_lies_210 : Nat → Int64) (a_movedThen_211 : Nat → Int32) (a_yearTable_212 : Nat → Int32) (a_yearMark_213 : Nat → Int32) (a_beginTable_214 : Nat → Int32) (a_beginMark_215 : Nat → Int32) (v_found_216 : Int32) (v_yearFrom_217 : Int32) (v_mark_218 : Int32) (v_begins_219 : Int32) (a_began_220 : Nat → Int64) (v_isSpent_221 : Int32), xx32 = (.inr (.inl (a_on_206, a_many_207, v_moved_208, a_pile_209, a_lies_210, a_movedThen_211, a_yearTable_212, a_yearMark_213, a_beginTable_214, a_beginMark_215, v_found_216, v_yearFrom_217, v_mark_218, v_begins_219, a_began_220, v_isSpent_221))) → ∀ (H : Heap) (locs : List Loc) (ls : Array Slot), MH D vwA A s.heap (mW ad cA a_all a_hasImage a_tape a_fresh v_taped v_at v_behind v_size v_kind v_number v_wrong v_wrongAt v_depth v_steps v_faultKind v_faultPlace a_on_206 a_many_207 v_moved_208 a_pile_209 v_aside v_judgedBy v_judgedYear a_leastCost a_matched a_order a_lies_210 a_movedThen_211 a_yearTable_212 a_yearMark_213 a_beginTable_214 a_beginMark_215 v_statesTold v_found_216 v_yearFrom_217 v_mark_218 v_beginsMark_60 v_begins_219 a_began_220 v_isSpent_221 a_wants a_rowSort a_rowMany a_numbers) H locs → lv_has ls 6 [] → W p l e rm_X8_winters s m args below meth c H locs 0 0 Q (F0 m 81 ls []) := by
      intro a_on_206 a_many_207 v_moved_208 a_pile_209 a_lies_210 a_movedThen_211 a_yearTable_212 a_yearMark_213 a_beginTable_214 a_beginMark_215 v_found_216 v_yearFrom_217 v_mark_218 v_begins_219 a_began_220 v_isSpent_221 hxx H locs ls hH hl
      have hF := un16e (kk32_1 (a_on_206, a_many_207, v_moved_208, a_pile_209, a_lies_210, a_movedThen_211, a_yearTable_212, a_yearMark_213, a_beginTable_214, a_beginMark_215, v_found_216, v_yearFrom_217, v_mark_218, v_begins_219, a_began_220, v_isSpent_221) hxx)
      refine lv_bipush (v := (-4)) hx hb dX8_winters_81 syb_m4 ?_
      obtain ⟨rfl, rfl, rfl, rfl, rfl, rfl, rfl, rfl, rfl, rfl, rfl, rfl, rfl, rfl, rfl, rfl, rfl, rfl⟩ := re18 hF
      exact hret _ _ _ _ hH dX8_winters_83
    have k32_2 : ∀ (a_on_222 : Nat → Int32) (a_many_223 : Nat → Int32) (v_moved_224 : Int32) (a_pile_225 : Nat → Int32) (a_lies_226 : Nat → Int64) (a_movedThen_227 : Nat → Int32) (a_yearTable_228 : Nat → Int32) (a_yearMark_229 : Nat → Int32) (a_beginTable_230 : Nat → Int32) (a_beginMark_231 : Nat → Int32) (v_found_232 : Int32) (v_yearFrom_233 : Int32) (v_mark_234 : Int32) (v_begins_235 : Int32) (a_began_236 : Nat → Int64) (v_isSpent_237 : Int32), xx32 = (.inr (.inr (a_on_222, a_many_223, v_moved_224, a_pile_225, a_lies_226, a_movedThen_227, a_yearTable_228, a_yearMark_229, a_beginTable_230, a_beginMark_231, v_found_232, v_yearFrom_233, v_mark_234, v_begins_235, a_began_236, v_isSpent_237))) → ∀ (H : Heap) (locs : List Loc) (ls : Array Slot), MH D vwA A s.heap (mW ad cA a_all a_hasImage a_tape a_fresh v_taped v_at v_behind v_size v_kind v_number v_wrong v_wrongAt v_depth v_steps v_faultKind v_faultPlace a_on_222 a_many_223 v_moved_224 a_pile_225 v_aside v_judgedBy v_judgedYear a_leastCost a_matched a_order a_lies_226 a_movedThen_227 a_yearTable_228 a_yearMark_229 a_beginTable_230 a_beginMark_231 v_statesTold v_found_232 v_yearFrom_233 v_mark_234 v_beginsMark_60 v_begins_235 a_began_236 v_isSpent_237 a_wants a_rowSort a_rowMany a_numbers) H locs → lv_has ls 6 [(0, .ref (ad 0))] → W p l e rm_X8_winters s m args below meth c H locs 0 0 Q (F0 m 90 ls []) := by
      intro a_on_222 a_many_223 v_moved_224 a_pile_225 a_lies_226 a_movedThen_227 a_yearTable_228 a_yearMark_229 a_beginTable_230 a_beginMark_231 v_found_232 v_yearFrom_233 v_mark_234 v_begins_235 a_began_236 v_isSpent_237 hxx H locs ls hH hl
      have hF := un16e (kk32_2 (a_on_222, a_many_223, v_moved_224, a_pile_225, a_lies_226, a_movedThen_227, a_yearTable_228, a_yearMark_229, a_beginTable_230, a_beginMark_231, v_found_232, v_yearFrom_233, v_mark_234, v_begins_235, a_began_236, v_isSpent_237) hxx)
      refine lv_iconst (v := 0) hx hb dX8_winters_90 syi_0 ?_
      refine lv_istore_n (lv' := [(3, .int 0), (0, .ref (ad 0))]) hx hb dX8_winters_91 rfl hl (by decide) rfl (fun ls hl => ?_)
      refine lv_iconst (v := 0) hx hb dX8_winters_92 syi_0 ?_
      refine lv_istore (lv' := [(4, .int 0), (3, .int 0), (0, .ref (ad 0))]) hx hb dX8_winters_93 hl (by decide) rfl (fun ls hl => ?_)
      obtain ⟨xx95, ee95, kk95_0⟩ := bd4L hF
      have k95_0 : ∀ (x_261 : Int32) (a_on_262 : Nat → Int32) (a_many_263 : Nat → Int32) (v_moved_264 : Int32), xx95 = (x_261, a_on_262, a_many_263, v_moved_264) → ∀ (H : Heap) (locs : List Loc) (ls : Array Slot), MH D vwA A s.heap (mW ad cA a_all a_hasImage a_tape a_fresh v_taped v_at v_behind v_size v_kind v_number v_wrong v_wrongAt v_depth v_steps v_faultKind v_faultPlace a_on_262 a_many_263 v_moved_264 a_pile_225 v_aside v_judgedBy v_judgedYear a_leastCost a_matched a_order a_lies_226 a_movedThen_227 a_yearTable_228 a_yearMark_229 a_beginTable_230 a_beginMark_231 v_statesTold v_found_232 v_yearFrom_233 v_mark_234 v_beginsMark_60 v_begins_235 a_began_236 v_isSpent_237 a_wants a_rowSort a_rowMany a_numbers) H locs → lv_has ls 6 [(3, .int x_261)] → W p l e rm_X8_winters s m args below meth c H locs 0 0 Q (F0 m 148 ls []) := by
        intro x_261 a_on_262 a_many_263 v_moved_264 hxx H locs ls hH hl
        have hF := un4e (kk95_0 (x_261, a_on_262, a_many_263, v_moved_264) hxx)
        refine lv_iload_n hx hb dX8_winters_148 rfl (lv_at hl 0 rfl) ?_
        obtain ⟨rfl, rfl, rfl, rfl, rfl, rfl, rfl, rfl, rfl, rfl, rfl, rfl, rfl, rfl, rfl, rfl, rfl, rfl⟩ := re18 hF
        exact hret _ _ _ _ hH dX8_winters_149
      obtain ⟨nn95, en95⟩ := loopC_some ee95
      have l95 : ∀ (n : Nat) (x_247 : Int32) (x_248 : Int32) (a_on_249 : Nat → Int32) (a_many_250 : Nat → Int32) (v_moved_251 : Int32), loopN (fun s => FX8_winters_b95 a_all a_lies_226 a_movedThen_227 v_found_232 s.1 s.2.1 s.2.2.1 s.2.2.2.1 s.2.2.2.2) n (x_247, x_248, a_on_249, a_many_250, v_moved_251) = some xx95 → ∀ (H : Heap) (locs : List Loc) (ls : Array Slot), MH D vwA A s.heap (mW ad cA a_all a_hasImage a_tape a_fresh v_taped v_at v_behind v_size v_kind v_number v_wrong v_wrongAt v_depth v_steps v_faultKind v_faultPlace a_on_249 a_many_250 v_moved_251 a_pile_225 v_aside v_judgedBy v_judgedYear a_leastCost a_matched a_order a_lies_226 a_movedThen_227 a_yearTable_228 a_yearMark_229 a_beginTable_230 a_beginMark_231 v_statesTold v_found_232 v_yearFrom_233 v_mark_234 v_beginsMark_60 v_begins_235 a_began_236 v_isSpent_237 a_wants a_rowSort a_rowMany a_numbers) H locs → lv_has ls 6 [(0, .ref (ad 0)), (3, .int x_247), (4, .int x_248)] → W p l e rm_X8_winters s m args below meth c H locs 0 0 Q (F0 m 95 ls []) := by
        intro n
        induction n with
        | zero =>
          intro x_247 x_248 a_on_249 a_many_250 v_moved_251 hN
          exact absurd hN loopN_zero
        | succ n ih =>
          intro x_247 x_248 a_on_249 a_many_250 v_moved_251 hN H locs ls hH hl
          obtain ⟨yy95, hB95, hY95⟩ := loopN_succ hN
          have hF : FX8_winters_b95 a_all a_lies_226 a_movedThen_227 v_found_232 x_247 x_248 a_on_249 a_many_250 v_moved_251 = some yy95 := hB95
          delta FX8_winters_b95 at hF
          refine lv_iload hx hb dX8_winters_95 (lv_at hl 2 rfl) ?_
          refine lv_aload_n hx hb dX8_winters_97 rfl (lv_at hl 0 rfl) ?_
          refine mg_found hX hK hH dX8_winters_98 ?_
          refine lv_icmp_ge (tgt := 148) hx hb dX8_winters_101 rfl (fun c_252 => ?_) (fun c_252 => ?_)
          · have hF := itp c_252 hF
            obtain rfl := Option.some.inj hF
            exact k95_0 x_247 a_on_249 a_many_250 v_moved_251 hY95 _ _ _ hH (lv_sub hl [1] rfl)
          · have hF := itn c_252 hF
            refine lv_aload_n hx hb dX8_winters_104 rfl (lv_at hl 0 rfl) ?_
            refine lv_aload_n hx hb dX8_winters_105 rfl (lv_at hl 0 rfl) ?_
            refine mg_lies hX hK hH dX8_winters_106 ?_
            refine lv_iload hx hb dX8_winters_109 (lv_at hl 2 rfl) ?_
            obtain ⟨y_253, he, hF⟩ := bd1e hF
            refine ml_lies hX hK hH he dX8_winters_111 ?_
            refine lv_aload_n hx hb dX8_winters_112 rfl (lv_at hl 0 rfl) ?_
            refine mg_movedThen hX hK hH dX8_winters_113 ?_
            refine lv_iload hx hb dX8_winters_116 (lv_at hl 2 rfl) ?_
            obtain ⟨x_254, he, hF⟩ := bd1e hF
            refine ml_movedThen hX hK hH he dX8_winters_118 ?_
            obtain ⟨a_on_255, a_many_256, v_moved_257, he, hF⟩ := bd3e hF
            refine mcV hX hK hEv hE0 hH (met_X8_looksAt hE he) (mrecv hK hH) gw_StoneYearModel_353 hd_yX8_looksAt ⟨Nat.le_of_ble_eq_true rfl, Nat.le_of_ble_eq_true rfl⟩ rfl rfl hl (Nat.le_of_ble_eq_true rfl) dX8_winters_119 ⟨Nat.le_of_ble_eq_true rfl, Nat.le_of_ble_eq_true rfl⟩ (fun H locs hH => ?_)
            refine lv_aload_n hx hb dX8_winters_122 rfl (lv_at hl 0 rfl) ?_
            refine lv_iconst (v := (-1)) hx hb dX8_winters_123 syi_m1 ?_
            obtain ⟨x_258, he, hF⟩ := bd1e hF
            refine mcV hX hK hEv hE0 hH (met_X8_rights hE he) (mrecv hK hH) gw_StoneYearModel_302 hd_yX8_rights ⟨Nat.le_of_ble_eq_true rfl, Nat.le_of_ble_eq_true rfl⟩ rfl rfl hl (Nat.le_of_ble_eq_true rfl) dX8_winters_124 ⟨Nat.le_of_ble_eq_true rfl, Nat.le_of_ble_eq_true rfl⟩ (fun H locs hH => ?_)
            refine lv_istore (lv' := [(5, .int x_258), (0, .ref (ad 0)), (3, .int x_247), (4, .int x_248)]) hx hb dX8_winters_127 hl (by decide) rfl (fun ls hl => ?_)
            refine lv_iload hx hb dX8_winters_129 (lv_at hl 0 rfl) ?_
            refine lv_iload_n hx hb dX8_winters_131 rfl (lv_at hl 2 rfl) ?_
            have j141 : ∀ (x_260 : Int32), FX8_winters_j141 x_248 a_on_255 a_many_256 v_moved_257 x_260 = some yy95 → ∀ (H : Heap) (locs : List Loc) (ls : Array Slot), MH D vwA A s.heap (mW ad cA a_all a_hasImage a_tape a_fresh v_taped v_at v_behind v_size v_kind v_number v_wrong v_wrongAt v_depth v_steps v_faultKind v_faultPlace a_on_255 a_many_256 v_moved_257 a_pile_225 v_aside v_judgedBy v_judgedYear a_leastCost a_matched a_order a_lies_226 a_movedThen_227 a_yearTable_228 a_yearMark_229 a_beginTable_230 a_beginMark_231 v_statesTold v_found_232 v_yearFrom_233 v_mark_234 v_beginsMark_60 v_begins_235 a_began_236 v_isSpent_237 a_wants a_rowSort a_rowMany a_numbers) H locs → lv_has ls 6 [(0, .ref (ad 0)), (4, .int x_248)] → W p l e rm_X8_winters s m args below meth c H locs 0 0 Q (F0 m 141 ls [.int x_260]) := by
              intro x_260 hF H locs ls hH hl
              delta FX8_winters_j141 at hF
              refine lv_istore_n (lv' := [(3, .int x_260), (0, .ref (ad 0)), (4, .int x_248)]) hx hb dX8_winters_141 rfl hl (by decide) rfl (fun ls hl => ?_)
              refine lv_iinc (v := (x_248 + 1)) (lv' := [(4, .int (x_248 + 1)), (3, .int x_260), (0, .ref (ad 0))]) hx hb dX8_winters_142 hl (k := 2) rfl (syc syi_1) (by decide) rfl (fun ls hl => ?_)
              refine lv_goto (tgt := 95) hx hb dX8_winters_145 rfl ?_
              obtain rfl := Option.some.inj hF
              exact ih x_260 (x_248 + 1) a_on_255 a_many_256 v_moved_257 hY95 _ _ _ hH (lv_sub hl [2, 1, 0] rfl)
            refine lv_icmp_le (tgt := 140) hx hb dX8_winters_132 rfl (fun c_259 => ?_) (fun c_259 => ?_)
            · have hF := itp c_259 hF
              refine lv_iload_n hx hb dX8_winters_140 rfl (lv_at hl 2 rfl) ?_
              exact j141 x_247 hF _ _ _ hH (lv_sub hl [1, 3] rfl)
            · have hF := itn c_259 hF
              refine lv_iload hx hb dX8_winters_135 (lv_at hl 0 rfl) ?_
              refine lv_goto (tgt := 141) hx hb dX8_winters_137 rfl ?_
              exact j141 x_258 hF _ _ _ hH (lv_sub hl [1, 3] rfl)
      exact l95 nn95 0 0 a_on_222 a_many_223 v_moved_224 en95 _ _ _ hH (lv_sub hl [2, 1, 0] rfl)
    obtain ⟨nn32, en32⟩ := loopC_some ee32
    have l32 : ∀ (n : Nat) (x_118 : Int32) (x_119 : Int32) (a_on_120 : Nat → Int32) (a_many_121 : Nat → Int32) (v_moved_122 : Int32) (a_pile_123 : Nat → Int32) (a_lies_124 : Nat → Int64) (a_movedThen_125 : Nat → Int32) (a_yearTable_126 : Nat → Int32) (a_yearMark_127 : Nat → Int32) (a_beginTable_128 : Nat → Int32) (a_beginMark_129 : Nat → Int32) (v_found_130 : Int32) (v_yearFrom_131 : Int32) (v_mark_132 : Int32) (v_begins_133 : Int32) (a_began_134 : Nat → Int64) (v_isSpent_135 : Int32), loopN (fun s => FX8_winters_b32 a_all v_aside p1 v_beginsMark_60 s.1 s.2.1 s.2.2.1 s.2.2.2.1 s.2.2.2.2.1 s.2.2.2.2.2.1 s.2.2.2.2.2.2.1 s.2.2.2.2.2.2.2.1 s.2.2.2.2.2.2.2.2.1 s.2.2.2.2.2.2.2.2.2.1 s.2.2.2.2.2.2.2.2.2.2.1 s.2.2.2.2.2.2.2.2.2.2.2.1 s.2.2.2.2.2.2.2.2.2.2.2.2.1 s.2.2.2.2.2.2.2.2.2.2.2.2.2.1 s.2.2.2.2.2.2.2.2.2.2.2.2.2.2.1 s.2.2.2.2.2.2.2.2.2.2.2.2.2.2.2.1 s.2.2.2.2.2.2.2.2.2.2.2.2.2.2.2.2.1 s.2.2.2.2.2.2.2.2.2.2.2.2.2.2.2.2.2) n (x_118, x_119, a_on_120, a_many_121, v_moved_122, a_pile_123, a_lies_124, a_movedThen_125, a_yearTable_126, a_yearMark_127, a_beginTable_128, a_beginMark_129, v_found_130, v_yearFrom_131, v_mark_132, v_begins_133, a_began_134, v_isSpent_135) = some xx32 → ∀ (H : Heap) (locs : List Loc) (ls : Array Slot), MH D vwA A s.heap (mW ad cA a_all a_hasImage a_tape a_fresh v_taped v_at v_behind v_size v_kind v_number v_wrong v_wrongAt v_depth v_steps v_faultKind v_faultPlace a_on_120 a_many_121 v_moved_122 a_pile_123 v_aside v_judgedBy v_judgedYear a_leastCost a_matched a_order a_lies_124 a_movedThen_125 a_yearTable_126 a_yearMark_127 a_beginTable_128 a_beginMark_129 v_statesTold v_found_130 v_yearFrom_131 v_mark_132 v_beginsMark_60 v_begins_133 a_began_134 v_isSpent_135 a_wants a_rowSort a_rowMany a_numbers) H locs → lv_has ls 6 [(0, .ref (ad 0)), (1, .int p1), (2, .int x_118), (3, .int x_119)] → W p l e rm_X8_winters s m args below meth c H locs 0 0 Q (F0 m 32 ls []) := by
      intro n
      induction n with
      | zero =>
        intro x_118 x_119 a_on_120 a_many_121 v_moved_122 a_pile_123 a_lies_124 a_movedThen_125 a_yearTable_126 a_yearMark_127 a_beginTable_128 a_beginMark_129 v_found_130 v_yearFrom_131 v_mark_132 v_begins_133 a_began_134 v_isSpent_135 hN
        exact absurd hN loopN_zero
      | succ n ih =>
        intro x_118 x_119 a_on_120 a_many_121 v_moved_122 a_pile_123 a_lies_124 a_movedThen_125 a_yearTable_126 a_yearMark_127 a_beginTable_128 a_beginMark_129 v_found_130 v_yearFrom_131 v_mark_132 v_begins_133 a_began_134 v_isSpent_135 hN H locs ls hH hl
        obtain ⟨yy32, hB32, hY32⟩ := loopN_succ hN
        have hF : FX8_winters_b32 a_all v_aside p1 v_beginsMark_60 x_118 x_119 a_on_120 a_many_121 v_moved_122 a_pile_123 a_lies_124 a_movedThen_125 a_yearTable_126 a_yearMark_127 a_beginTable_128 a_beginMark_129 v_found_130 v_yearFrom_131 v_mark_132 v_begins_133 a_began_134 v_isSpent_135 = some yy32 := hB32
        delta FX8_winters_b32 at hF
        refine lv_iload_n hx hb dX8_winters_32 rfl (lv_at hl 3 rfl) ?_
        refine lv_iload_n hx hb dX8_winters_33 rfl (lv_at hl 1 rfl) ?_
        refine lv_icmp_gt (tgt := 90) hx hb dX8_winters_34 rfl (fun c_136 => ?_) (fun c_136 => ?_)
        · have hF := itp c_136 hF
          obtain rfl := Option.some.inj hF
          exact k32_2 a_on_120 a_many_121 v_moved_122 a_pile_123 a_lies_124 a_movedThen_125 a_yearTable_126 a_yearMark_127 a_beginTable_128 a_beginMark_129 v_found_130 v_yearFrom_131 v_mark_132 v_begins_133 a_began_134 v_isSpent_135 hY32 _ _ _ hH (lv_sub hl [0] rfl)
        · have hF := itn c_136 hF
          refine lv_iload_n hx hb dX8_winters_37 rfl (lv_at hl 2 rfl) ?_
          refine lv_if_eq (tgt := 90) hx hb dX8_winters_38 rfl (fun c_137 => ?_) (fun c_137 => ?_)
          · have hF := itp c_137 hF
            obtain rfl := Option.some.inj hF
            exact k32_2 a_on_120 a_many_121 v_moved_122 a_pile_123 a_lies_124 a_movedThen_125 a_yearTable_126 a_yearMark_127 a_beginTable_128 a_beginMark_129 v_found_130 v_yearFrom_131 v_mark_132 v_begins_133 a_began_134 v_isSpent_135 hY32 _ _ _ hH (lv_sub hl [0] rfl)
          · have hF := itn c_137 hF
            refine lv_aload_n hx hb dX8_winters_41 rfl (lv_at hl 0 rfl) ?_
            refine lv_iconst (v := 0) hx hb dX8_winters_42 syi_0 ?_
            obtain ⟨a_on_138, a_many_139, v_moved_140, a_pile_141, a_lies_142, a_movedThen_143, a_yearTable_144, a_yearMark_145, v_found_146, v_isSpent_147, he, hF⟩ := bd10e hF
            refine mcV hX hK hEv hE0 hH (met_X8_spreads hE he) (mrecv hK hH) gw_StoneYearModel_400 hd_yX8_spreads ⟨Nat.le_of_ble_eq_true rfl, Nat.le_of_ble_eq_true rfl⟩ rfl rfl hl (Nat.le_of_ble_eq_true rfl) dX8_winters_43 ⟨Nat.le_of_ble_eq_true rfl, Nat.le_of_ble_eq_true rfl⟩ (fun H locs hH => ?_)
            refine lv_aload_n hx hb dX8_winters_46 rfl (lv_at hl 0 rfl) ?_
            refine mg_isSpent hX hK hH dX8_winters_47 ?_
            refine lv_if_eq (tgt := 56) hx hb dX8_winters_50 rfl (fun c_148 => ?_) (fun c_148 => ?_)
            · have hF := itp c_148 hF
              refine lv_iload_n hx hb dX8_winters_56 rfl (lv_at hl 3 rfl) ?_
              refine lv_iload_n hx hb dX8_winters_57 rfl (lv_at hl 1 rfl) ?_
              have j73 : ∀ (x_176 : Int32) (a_lies_177 : Nat → Int64) (a_movedThen_178 : Nat → Int32) (a_yearTable_179 : Nat → Int32) (a_yearMark_180 : Nat → Int32) (a_beginTable_181 : Nat → Int32) (a_beginMark_182 : Nat → Int32) (v_found_183 : Int32) (v_yearFrom_184 : Int32) (v_mark_185 : Int32) (v_begins_186 : Int32) (a_began_187 : Nat → Int64) (v_isSpent_188 : Int32), FX8_winters_j73 x_119 a_on_138 a_many_139 v_moved_140 a_pile_141 x_176 a_lies_177 a_movedThen_178 a_yearTable_179 a_yearMark_180 a_beginTable_181 a_beginMark_182 v_found_183 v_yearFrom_184 v_mark_185 v_begins_186 a_began_187 v_isSpent_188 = some yy32 → ∀ (H : Heap) (locs : List Loc) (ls : Array Slot), MH D vwA A s.heap (mW ad cA a_all a_hasImage a_tape a_fresh v_taped v_at v_behind v_size v_kind v_number v_wrong v_wrongAt v_depth v_steps v_faultKind v_faultPlace a_on_138 a_many_139 v_moved_140 a_pile_141 v_aside v_judgedBy v_judgedYear a_leastCost a_matched a_order a_lies_177 a_movedThen_178 a_yearTable_179 a_yearMark_180 a_beginTable_181 a_beginMark_182 v_statesTold v_found_183 v_yearFrom_184 v_mark_185 v_beginsMark_60 v_begins_186 a_began_187 v_isSpent_188 a_wants a_rowSort a_rowMany a_numbers) H locs → lv_has ls 6 [(0, .ref (ad 0)), (1, .int p1), (3, .int x_119)] → W p l e rm_X8_winters s m args below meth c H locs 0 0 Q (F0 m 73 ls [.int x_176]) := by
                intro x_176 a_lies_177 a_movedThen_178 a_yearTable_179 a_yearMark_180 a_beginTable_181 a_beginMark_182 v_found_183 v_yearFrom_184 v_mark_185 v_begins_186 a_began_187 v_isSpent_188 hF H locs ls hH hl
                delta FX8_winters_j73 at hF
                refine lv_istore_n (lv' := [(2, .int x_176), (0, .ref (ad 0)), (1, .int p1), (3, .int x_119)]) hx hb dX8_winters_73 rfl hl (by decide) rfl (fun ls hl => ?_)
                refine lv_aload_n hx hb dX8_winters_74 rfl (lv_at hl 1 rfl) ?_
                refine mg_isSpent hX hK hH dX8_winters_75 ?_
                refine lv_if_eq (tgt := 84) hx hb dX8_winters_78 rfl (fun c_189 => ?_) (fun c_189 => ?_)
                · have hF := itp c_189 hF
                  refine lv_iinc (v := (x_119 + 1)) (lv' := [(3, .int (x_119 + 1)), (2, .int x_176), (0, .ref (ad 0)), (1, .int p1)]) hx hb dX8_winters_84 hl (k := 3) rfl (syc syi_1) (by decide) rfl (fun ls hl => ?_)
                  refine lv_goto (tgt := 32) hx hb dX8_winters_87 rfl ?_
                  obtain rfl := Option.some.inj hF
                  exact ih x_176 (x_119 + 1) a_on_138 a_many_139 v_moved_140 a_pile_141 a_lies_177 a_movedThen_178 a_yearTable_179 a_yearMark_180 a_beginTable_181 a_beginMark_182 v_found_183 v_yearFrom_184 v_mark_185 v_begins_186 a_began_187 v_isSpent_188 hY32 _ _ _ hH (lv_sub hl [2, 3, 1, 0] rfl)
                · have hF := itn c_189 hF
                  obtain rfl := Option.some.inj hF
                  exact k32_1 a_on_138 a_many_139 v_moved_140 a_pile_141 a_lies_177 a_movedThen_178 a_yearTable_179 a_yearMark_180 a_beginTable_181 a_beginMark_182 v_found_183 v_yearFrom_184 v_mark_185 v_begins_186 a_began_187 v_isSpent_188 hY32 _ _ _ hH (lv_sub hl [] rfl)
              have j72 : ∀ (a_lies_164 : Nat → Int64) (a_movedThen_165 : Nat → Int32) (a_yearTable_166 : Nat → Int32) (a_yearMark_167 : Nat → Int32) (a_beginTable_168 : Nat → Int32) (a_beginMark_169 : Nat → Int32) (v_found_170 : Int32) (v_yearFrom_171 : Int32) (v_mark_172 : Int32) (v_begins_173 : Int32) (a_began_174 : Nat → Int64) (v_isSpent_175 : Int32), FX8_winters_j72 x_119 a_on_138 a_many_139 v_moved_140 a_pile_141 a_lies_164 a_movedThen_165 a_yearTable_166 a_yearMark_167 a_beginTable_168 a_beginMark_169 v_found_170 v_yearFrom_171 v_mark_172 v_begins_173 a_began_174 v_isSpent_175 = some yy32 → ∀ (H : Heap) (locs : List Loc) (ls : Array Slot), MH D vwA A s.heap (mW ad cA a_all a_hasImage a_tape a_fresh v_taped v_at v_behind v_size v_kind v_number v_wrong v_wrongAt v_depth v_steps v_faultKind v_faultPlace a_on_138 a_many_139 v_moved_140 a_pile_141 v_aside v_judgedBy v_judgedYear a_leastCost a_matched a_order a_lies_164 a_movedThen_165 a_yearTable_166 a_yearMark_167 a_beginTable_168 a_beginMark_169 v_statesTold v_found_170 v_yearFrom_171 v_mark_172 v_beginsMark_60 v_begins_173 a_began_174 v_isSpent_175 a_wants a_rowSort a_rowMany a_numbers) H locs → lv_has ls 6 [(0, .ref (ad 0)), (1, .int p1), (3, .int x_119)] → W p l e rm_X8_winters s m args below meth c H locs 0 0 Q (F0 m 72 ls []) := by
                intro a_lies_164 a_movedThen_165 a_yearTable_166 a_yearMark_167 a_beginTable_168 a_beginMark_169 v_found_170 v_yearFrom_171 v_mark_172 v_begins_173 a_began_174 v_isSpent_175 hF H locs ls hH hl
                delta FX8_winters_j72 at hF
                refine lv_iconst (v := 0) hx hb dX8_winters_72 syi_0 ?_
                exact j73 0 a_lies_164 a_movedThen_165 a_yearTable_166 a_yearMark_167 a_beginTable_168 a_beginMark_169 v_found_170 v_yearFrom_171 v_mark_172 v_begins_173 a_began_174 v_isSpent_175 hF _ _ _ hH (lv_sub hl [0, 1, 2] rfl)
              refine lv_icmp_ge (tgt := 72) hx hb dX8_winters_58 rfl (fun c_149 => ?_) (fun c_149 => ?_)
              · have hF := itp c_149 hF
                exact j72 a_lies_142 a_movedThen_143 a_yearTable_144 a_yearMark_145 a_beginTable_128 a_beginMark_129 v_found_146 v_yearFrom_131 v_mark_132 v_begins_133 a_began_134 v_isSpent_147 hF _ _ _ hH (lv_sub hl [0, 1, 3] rfl)
              · have hF := itn c_149 hF
                refine lv_aload_n hx hb dX8_winters_61 rfl (lv_at hl 0 rfl) ?_
                obtain ⟨b_150, a_lies_151, a_movedThen_152, a_yearTable_153, a_yearMark_154, a_beginTable_155, a_beginMark_156, v_found_157, v_yearFrom_158, v_mark_159, v_begins_160, a_began_161, v_isSpent_162, he, hF⟩ := bd13e hF
                refine mcV hX hK hEv hE0 hH (met_X8_nextYear hE he) (mrecv hK hH) gw_StoneYearModel_404 hd_yX8_nextYear ⟨Nat.le_of_ble_eq_true rfl, Nat.le_of_ble_eq_true rfl⟩ rfl rfl hl (Nat.le_of_ble_eq_true rfl) dX8_winters_62 ⟨Nat.le_of_ble_eq_true rfl, Nat.le_of_ble_eq_true rfl⟩ (fun H locs hH => ?_)
                refine lv_if_eq (tgt := 72) hx hb dX8_winters_65 rfl (fun c_163 => ?_) (fun c_163 => ?_)
                · have hF := itp c_163 hF
                  exact j72 a_lies_151 a_movedThen_152 a_yearTable_153 a_yearMark_154 a_beginTable_155 a_beginMark_156 v_found_157 v_yearFrom_158 v_mark_159 v_begins_160 a_began_161 v_isSpent_162 hF _ _ _ hH (lv_sub hl [0, 1, 3] rfl)
                · have hF := itn c_163 hF
                  refine lv_iconst (v := 1) hx hb dX8_winters_68 syi_1 ?_
                  refine lv_goto (tgt := 73) hx hb dX8_winters_69 rfl ?_
                  exact j73 1 a_lies_151 a_movedThen_152 a_yearTable_153 a_yearMark_154 a_beginTable_155 a_beginMark_156 v_found_157 v_yearFrom_158 v_mark_159 v_begins_160 a_began_161 v_isSpent_162 hF _ _ _ hH (lv_sub hl [0, 1, 3] rfl)
            · have hF := itn c_148 hF
              obtain rfl := Option.some.inj hF
              exact k32_0 a_on_138 a_many_139 v_moved_140 a_pile_141 a_lies_142 a_movedThen_143 a_yearTable_144 a_yearMark_145 a_beginTable_128 a_beginMark_129 v_found_146 v_yearFrom_131 v_mark_132 v_begins_133 a_began_134 v_isSpent_147 hY32 _ _ _ hH (lv_sub hl [] rfl)
    exact l32 nn32 1 1 a_on_48 a_many_49 v_moved_50 a_pile a_lies_51 a_movedThen_52 a_yearTable_53 a_yearMark_54 a_beginTable_55 a_beginMark_56 v_found_57 v_yearFrom_58 v_mark_59 v_begins_61 a_began_62 v_isSpent_63 en32 _ _ _ hH (lv_sub hl [2, 3, 1, 0] rfl)
  · have hF := itp c_47 hF
    refine lv_bipush (v := (-3)) hx hb dX8_winters_17 syb_m3 ?_
    obtain ⟨rfl, rfl, rfl, rfl, rfl, rfl, rfl, rfl, rfl, rfl, rfl, rfl, rfl, rfl, rfl, rfl, rfl, rfl⟩ := re18 hF
    exact hret _ _ _ _ hH dX8_winters_19
abbrev rm_X8_canBe : Room := { frames := 4, cells := 0, slots := 0, locals := 105 }
set_option maxHeartbeats 4000000 in
theorem met_X8_canBe {l : Launch} {D : va_G} {ad : Nat → Nat} {cA : Nat → ClassId} {a_all : Nat → Int32} {a_hasImage : Nat → Int32} {a_tape : Nat → Int32} {a_fresh : Nat → Int32} {v_taped : Int32} {v_at : Int32} {v_behind : Int32} {v_size : Int32} {v_kind : Int32} {v_number : Int32} {v_wrong : Int32} {v_wrongAt : Int32} {v_depth : Int32} {v_steps : Int32} {v_faultKind : Int32} {v_faultPlace : Int32} {a_on : Nat → Int32} {a_many : Nat → Int32} {v_moved : Int32} {a_pile : Nat → Int32} {v_aside : Int32} {v_judgedBy : Int32} {v_judgedYear : Int32} {a_leastCost : Nat → Int32} {a_matched : Nat → Int32} {a_order : Nat → Int32} {a_lies : Nat → Int64} {a_movedThen : Nat → Int32} {a_yearTable : Nat → Int32} {a_yearMark : Nat → Int32} {a_beginTable : Nat → Int32} {a_beginMark : Nat → Int32} {v_statesTold : Int32} {v_found : Int32} {v_yearFrom : Int32} {v_mark : Int32} {v_beginsMark : Int32} {v_begins : Int32} {a_began : Nat → Int64} {v_isSpent : Int32} {a_wants : Nat → Int32} {a_rowSort : Nat → Int32} {a_rowMany : Nat → Int32} {a_numbers : Nat → Int64}  {p1 : Int32} {res : Int32} {ra_on : Nat → Int32} {ra_many : Nat → Int32} {rv_moved : Int32} {ra_pile : Nat → Int32} {ra_lies : Nat → Int64} {ra_movedThen : Nat → Int32} {ra_yearTable : Nat → Int32} {ra_yearMark : Nat → Int32} {ra_beginTable : Nat → Int32} {ra_beginMark : Nat → Int32} {rv_found : Int32} {rv_yearFrom : Int32} {rv_mark : Int32} {rv_beginsMark : Int32} {rv_begins : Int32} {ra_began : Nat → Int64} {rv_isSpent : Int32} {ak av fo : Nat} {E : EvT} (hE : EvM E ak av fo) (hF : FX8_canBe a_all a_on a_many a_pile v_aside a_lies a_movedThen a_yearTable a_yearMark a_beginTable a_beginMark v_mark v_beginsMark a_began p1 = some (res, ra_on, ra_many, rv_moved, ra_pile, ra_lies, ra_movedThen, ra_yearTable, ra_yearMark, ra_beginTable, ra_beginMark, rv_found, rv_yearFrom, rv_mark, rv_beginsMark, rv_begins, ra_began, rv_isSpent)) : MM l yX8_canBe (ws_ yX8_canBe cX8_canBe 3 (Option.some Jvm.ClassFile.FieldType.int)) rm_X8_canBe D vwA (mT cA) E [.ref (ad 0), .int p1] (mW ad cA a_all a_hasImage a_tape a_fresh v_taped v_at v_behind v_size v_kind v_number v_wrong v_wrongAt v_depth v_steps v_faultKind v_faultPlace a_on a_many v_moved a_pile v_aside v_judgedBy v_judgedYear a_leastCost a_matched a_order a_lies a_movedThen a_yearTable a_yearMark a_beginTable a_beginMark v_statesTold v_found v_yearFrom v_mark v_beginsMark v_begins a_began v_isSpent a_wants a_rowSort a_rowMany a_numbers) (mW ad cA a_all a_hasImage a_tape a_fresh v_taped v_at v_behind v_size v_kind v_number v_wrong v_wrongAt v_depth v_steps v_faultKind v_faultPlace ra_on ra_many rv_moved ra_pile v_aside v_judgedBy v_judgedYear a_leastCost a_matched a_order ra_lies ra_movedThen ra_yearTable ra_yearMark ra_beginTable ra_beginMark v_statesTold rv_found rv_yearFrom rv_mark rv_beginsMark rv_begins ra_began rv_isSpent a_wants a_rowSort a_rowMany a_numbers) (some (.int res)) := by
  refine MM.ofI (by decide) (Nat.le_of_ble_eq_true rfl) ?_
  intro p e s m args below meth c Q A hX hK hE0 hret H locs ls hH hl
  have hX : CallFix p m c cX8_canBe 3 s args lw_all RX8 := hX
  have hx := hX.1
  have hb := hX.2.1
  have hown := hX.2.2.2.1
  have hts := hX.2.2.2.2
  have hl : lv_has ls 3 [(0, .ref (ad 0)), (1, .int p1)] := hl
  have hEv := hE.1
  delta FX8_canBe at hF
  refine lv_aload_n hx hb dX8_canBe_0 rfl (lv_at hl 0 rfl) ?_
  obtain ⟨a_on_46, a_many_47, v_moved_48, he, hF⟩ := bd3e hF
  refine mcV hX hK hEv hE0 hH (met_X8_looksNow hE he) (mrecv hK hH) gw_StoneYearModel_260 hd_yX8_looksNow ⟨Nat.le_of_ble_eq_true rfl, Nat.le_of_ble_eq_true rfl⟩ rfl rfl hl (Nat.le_of_ble_eq_true rfl) dX8_canBe_1 ⟨Nat.le_of_ble_eq_true rfl, Nat.le_of_ble_eq_true rfl⟩ (fun H locs hH => ?_)
  refine lv_aload_n hx hb dX8_canBe_4 rfl (lv_at hl 0 rfl) ?_
  refine lv_iconst (v := 0) hx hb dX8_canBe_5 syi_0 ?_
  refine mp_moved hX hK hH dX8_canBe_6 (fun H locs hH => ?_)
  refine lv_aload_n hx hb dX8_canBe_9 rfl (lv_at hl 0 rfl) ?_
  obtain ⟨a_lies_49, a_movedThen_50, a_yearTable_51, a_yearMark_52, a_beginTable_53, a_beginMark_54, v_found_55, v_yearFrom_56, v_mark_57, v_beginsMark_58, v_begins_59, a_began_60, v_isSpent_61, he, hF⟩ := bd13e hF
  refine mcV hX hK hEv hE0 hH (met_X8_startsYears hE he) (mrecv hK hH) gw_StoneYearModel_397 hd_yX8_startsYears ⟨Nat.le_of_ble_eq_true rfl, Nat.le_of_ble_eq_true rfl⟩ rfl rfl hl (Nat.le_of_ble_eq_true rfl) dX8_canBe_10 ⟨Nat.le_of_ble_eq_true rfl, Nat.le_of_ble_eq_true rfl⟩ (fun H locs hH => ?_)
  refine lv_aload_n hx hb dX8_canBe_13 rfl (lv_at hl 0 rfl) ?_
  refine lv_iconst (v := 1) hx hb dX8_canBe_14 syi_1 ?_
  obtain ⟨a_on_62, a_many_63, v_moved_64, a_pile_65, a_lies_66, a_movedThen_67, a_yearTable_68, a_yearMark_69, v_found_70, v_isSpent_71, he, hF⟩ := bd10e hF
  refine mcV hX hK hEv hE0 hH (met_X8_spreads hE he) (mrecv hK hH) gw_StoneYearModel_400 hd_yX8_spreads ⟨Nat.le_of_ble_eq_true rfl, Nat.le_of_ble_eq_true rfl⟩ rfl rfl hl (Nat.le_of_ble_eq_true rfl) dX8_canBe_15 ⟨Nat.le_of_ble_eq_true rfl, Nat.le_of_ble_eq_true rfl⟩ (fun H locs hH => ?_)
  refine lv_aload_n hx hb dX8_canBe_18 rfl (lv_at hl 0 rfl) ?_
  refine mg_isSpent hX hK hH dX8_canBe_19 ?_
  refine lv_if_eq (tgt := 28) hx hb dX8_canBe_22 rfl (fun c_72 => ?_) (fun c_72 => ?_)
  · have hF := itp c_72 hF
    refine lv_iconst (v := 0) hx hb dX8_canBe_28 syi_0 ?_
    refine lv_istore_n (lv' := [(2, .int 0), (0, .ref (ad 0)), (1, .int p1)]) hx hb dX8_canBe_29 rfl hl (by decide) rfl (fun ls hl => ?_)
    obtain ⟨xx30, ee30, kk30_0, kk30_1⟩ := bdS2e hF
    have k30_0 : ∀ (a_on_91 : Nat → Int32) (a_many_92 : Nat → Int32) (v_moved_93 : Int32), xx30 = (.inl (a_on_91, a_many_92, v_moved_93)) → ∀ (H : Heap) (locs : List Loc) (ls : Array Slot), MH D vwA A s.heap (mW ad cA a_all a_hasImage a_tape a_fresh v_taped v_at v_behind v_size v_kind v_number v_wrong v_wrongAt v_depth v_steps v_faultKind v_faultPlace a_on_91 a_many_92 v_moved_93 a_pile_65 v_aside v_judgedBy v_judgedYear a_leastCost a_matched a_order a_lies_66 a_movedThen_67 a_yearTable_68 a_yearMark_69 a_beginTable_53 a_beginMark_54 v_statesTold v_found_70 v_yearFrom_56 v_mark_57 v_beginsMark_58 v_begins_59 a_began_60 v_isSpent_71 a_wants a_rowSort a_rowMany a_numbers) H locs → lv_has ls 3 [] → W p l e rm_X8_canBe s m args below meth c H locs 0 0 Q (F0 m 57 ls []) := by
      intro a_on_91 a_many_92 v_moved_93 hxx H locs ls hH hl
      have hF := un3e (kk30_0 (a_on_91, a_many_92, v_moved_93) hxx)
      refine lv_iconst (v := 1) hx hb dX8_canBe_57 syi_1 ?_
      obtain ⟨rfl, rfl, rfl, rfl, rfl, rfl, rfl, rfl, rfl, rfl, rfl, rfl, rfl, rfl, rfl, rfl, rfl, rfl⟩ := re18 hF
      exact hret _ _ _ _ hH dX8_canBe_58
    have k30_1 : ∀ (a_on_94 : Nat → Int32) (a_many_95 : Nat → Int32) (v_moved_96 : Int32), xx30 = (.inr (a_on_94, a_many_95, v_moved_96)) → ∀ (H : Heap) (locs : List Loc) (ls : Array Slot), MH D vwA A s.heap (mW ad cA a_all a_hasImage a_tape a_fresh v_taped v_at v_behind v_size v_kind v_number v_wrong v_wrongAt v_depth v_steps v_faultKind v_faultPlace a_on_94 a_many_95 v_moved_96 a_pile_65 v_aside v_judgedBy v_judgedYear a_leastCost a_matched a_order a_lies_66 a_movedThen_67 a_yearTable_68 a_yearMark_69 a_beginTable_53 a_beginMark_54 v_statesTold v_found_70 v_yearFrom_56 v_mark_57 v_beginsMark_58 v_begins_59 a_began_60 v_isSpent_71 a_wants a_rowSort a_rowMany a_numbers) H locs → lv_has ls 3 [] → W p l e rm_X8_canBe s m args below meth c H locs 0 0 Q (F0 m 65 ls []) := by
      intro a_on_94 a_many_95 v_moved_96 hxx H locs ls hH hl
      have hF := un3e (kk30_1 (a_on_94, a_many_95, v_moved_96) hxx)
      refine lv_iconst (v := 0) hx hb dX8_canBe_65 syi_0 ?_
      obtain ⟨rfl, rfl, rfl, rfl, rfl, rfl, rfl, rfl, rfl, rfl, rfl, rfl, rfl, rfl, rfl, rfl, rfl, rfl⟩ := re18 hF
      exact hret _ _ _ _ hH dX8_canBe_66
    obtain ⟨nn30, en30⟩ := loopC_some ee30
    have l30 : ∀ (n : Nat) (x_80 : Int32) (a_on_81 : Nat → Int32) (a_many_82 : Nat → Int32) (v_moved_83 : Int32), loopN (fun s => FX8_canBe_b30 a_all p1 a_lies_66 v_found_70 s.1 s.2.1 s.2.2.1 s.2.2.2) n (x_80, a_on_81, a_many_82, v_moved_83) = some xx30 → ∀ (H : Heap) (locs : List Loc) (ls : Array Slot), MH D vwA A s.heap (mW ad cA a_all a_hasImage a_tape a_fresh v_taped v_at v_behind v_size v_kind v_number v_wrong v_wrongAt v_depth v_steps v_faultKind v_faultPlace a_on_81 a_many_82 v_moved_83 a_pile_65 v_aside v_judgedBy v_judgedYear a_leastCost a_matched a_order a_lies_66 a_movedThen_67 a_yearTable_68 a_yearMark_69 a_beginTable_53 a_beginMark_54 v_statesTold v_found_70 v_yearFrom_56 v_mark_57 v_beginsMark_58 v_begins_59 a_began_60 v_isSpent_71 a_wants a_rowSort a_rowMany a_numbers) H locs → lv_has ls 3 [(0, .ref (ad 0)), (1, .int p1), (2, .int x_80)] → W p l e rm_X8_canBe s m args below meth c H locs 0 0 Q (F0 m 30 ls []) := by
      intro n
      induction n with
      | zero =>
        intro x_80 a_on_81 a_many_82 v_moved_83 hN
        exact absurd hN loopN_zero
      | succ n ih =>
        intro x_80 a_on_81 a_many_82 v_moved_83 hN H locs ls hH hl
        obtain ⟨yy30, hB30, hY30⟩ := loopN_succ hN
        have hF : FX8_canBe_b30 a_all p1 a_lies_66 v_found_70 x_80 a_on_81 a_many_82 v_moved_83 = some yy30 := hB30
        delta FX8_canBe_b30 at hF
        refine lv_iload_n hx hb dX8_canBe_30 rfl (lv_at hl 2 rfl) ?_
        refine lv_aload_n hx hb dX8_canBe_31 rfl (lv_at hl 0 rfl) ?_
        refine mg_found hX hK hH dX8_canBe_32 ?_
        refine lv_icmp_ge (tgt := 65) hx hb dX8_canBe_35 rfl (fun c_84 => ?_) (fun c_84 => ?_)
        · have hF := itp c_84 hF
          obtain rfl := Option.some.inj hF
          exact k30_1 a_on_81 a_many_82 v_moved_83 hY30 _ _ _ hH (lv_sub hl [] rfl)
        · have hF := itn c_84 hF
          refine lv_aload_n hx hb dX8_canBe_38 rfl (lv_at hl 0 rfl) ?_
          refine lv_aload_n hx hb dX8_canBe_39 rfl (lv_at hl 0 rfl) ?_
          refine mg_lies hX hK hH dX8_canBe_40 ?_
          refine lv_iload_n hx hb dX8_canBe_43 rfl (lv_at hl 2 rfl) ?_
          obtain ⟨y_85, he, hF⟩ := bd1e hF
          refine ml_lies hX hK hH he dX8_canBe_44 ?_
          refine lv_iconst (v := 0) hx hb dX8_canBe_45 syi_0 ?_
          obtain ⟨a_on_86, a_many_87, v_moved_88, he, hF⟩ := bd3e hF
          refine mcV hX hK hEv hE0 hH (met_X8_looksAt hE he) (mrecv hK hH) gw_StoneYearModel_353 hd_yX8_looksAt ⟨Nat.le_of_ble_eq_true rfl, Nat.le_of_ble_eq_true rfl⟩ rfl rfl hl (Nat.le_of_ble_eq_true rfl) dX8_canBe_46 ⟨Nat.le_of_ble_eq_true rfl, Nat.le_of_ble_eq_true rfl⟩ (fun H locs hH => ?_)
          refine lv_aload_n hx hb dX8_canBe_49 rfl (lv_at hl 0 rfl) ?_
          refine lv_iload_n hx hb dX8_canBe_50 rfl (lv_at hl 1 rfl) ?_
          obtain ⟨b_89, he, hF⟩ := bd1e hF
          refine mcV hX hK hEv hE0 hH (met_X8_isDone hE he) (mrecv hK hH) gw_StoneYearModel_299 hd_yX8_isDone ⟨Nat.le_of_ble_eq_true rfl, Nat.le_of_ble_eq_true rfl⟩ rfl rfl hl (Nat.le_of_ble_eq_true rfl) dX8_canBe_51 ⟨Nat.le_of_ble_eq_true rfl, Nat.le_of_ble_eq_true rfl⟩ (fun H locs hH => ?_)
          refine lv_if_eq (tgt := 59) hx hb dX8_canBe_54 rfl (fun c_90 => ?_) (fun c_90 => ?_)
          · have hF := itp c_90 hF
            refine lv_iinc (v := (x_80 + 1)) (lv' := [(2, .int (x_80 + 1)), (0, .ref (ad 0)), (1, .int p1)]) hx hb dX8_canBe_59 hl (k := 2) rfl (syc syi_1) (by decide) rfl (fun ls hl => ?_)
            refine lv_goto (tgt := 30) hx hb dX8_canBe_62 rfl ?_
            obtain rfl := Option.some.inj hF
            exact ih (x_80 + 1) a_on_86 a_many_87 v_moved_88 hY30 _ _ _ hH (lv_sub hl [1, 2, 0] rfl)
          · have hF := itn c_90 hF
            obtain rfl := Option.some.inj hF
            exact k30_0 a_on_86 a_many_87 v_moved_88 hY30 _ _ _ hH (lv_sub hl [] rfl)
    exact l30 nn30 0 a_on_62 a_many_63 v_moved_64 en30 _ _ _ hH (lv_sub hl [1, 2, 0] rfl)
  · have hF := itn c_72 hF
    refine lv_bipush (v := (-4)) hx hb dX8_canBe_25 syb_m4 ?_
    obtain ⟨rfl, rfl, rfl, rfl, rfl, rfl, rfl, rfl, rfl, rfl, rfl, rfl, rfl, rfl, rfl, rfl, rfl, rfl⟩ := re18 hF
    exact hret _ _ _ _ hH dX8_canBe_27
abbrev rm_X8_can : Room := { frames := 5, cells := 0, slots := 0, locals := 127 }
set_option maxHeartbeats 4000000 in
theorem met_X8_can {l : Launch} {D : va_G} {ad : Nat → Nat} {cA : Nat → ClassId} {a_all : Nat → Int32} {a_hasImage : Nat → Int32} {a_tape : Nat → Int32} {a_fresh : Nat → Int32} {v_taped : Int32} {v_at : Int32} {v_behind : Int32} {v_size : Int32} {v_kind : Int32} {v_number : Int32} {v_wrong : Int32} {v_wrongAt : Int32} {v_depth : Int32} {v_steps : Int32} {v_faultKind : Int32} {v_faultPlace : Int32} {a_on : Nat → Int32} {a_many : Nat → Int32} {v_moved : Int32} {a_pile : Nat → Int32} {v_aside : Int32} {v_judgedBy : Int32} {v_judgedYear : Int32} {a_leastCost : Nat → Int32} {a_matched : Nat → Int32} {a_order : Nat → Int32} {a_lies : Nat → Int64} {a_movedThen : Nat → Int32} {a_yearTable : Nat → Int32} {a_yearMark : Nat → Int32} {a_beginTable : Nat → Int32} {a_beginMark : Nat → Int32} {v_statesTold : Int32} {v_found : Int32} {v_yearFrom : Int32} {v_mark : Int32} {v_beginsMark : Int32} {v_begins : Int32} {a_began : Nat → Int64} {v_isSpent : Int32} {a_wants : Nat → Int32} {a_rowSort : Nat → Int32} {a_rowMany : Nat → Int32} {a_numbers : Nat → Int64}  {p1 : Int32} {res : Int32} {ra_on : Nat → Int32} {ra_many : Nat → Int32} {rv_moved : Int32} {ra_pile : Nat → Int32} {ra_lies : Nat → Int64} {ra_movedThen : Nat → Int32} {ra_yearTable : Nat → Int32} {ra_yearMark : Nat → Int32} {ra_beginTable : Nat → Int32} {ra_beginMark : Nat → Int32} {rv_found : Int32} {rv_yearFrom : Int32} {rv_mark : Int32} {rv_beginsMark : Int32} {rv_begins : Int32} {ra_began : Nat → Int64} {rv_isSpent : Int32} {ak av fo : Nat} {E : EvT} (hE : EvM E ak av fo) (hF : FX8_can a_all a_on a_many v_moved a_pile v_aside a_lies a_movedThen a_yearTable a_yearMark a_beginTable a_beginMark v_found v_yearFrom v_mark v_beginsMark v_begins a_began v_isSpent p1 = some (res, ra_on, ra_many, rv_moved, ra_pile, ra_lies, ra_movedThen, ra_yearTable, ra_yearMark, ra_beginTable, ra_beginMark, rv_found, rv_yearFrom, rv_mark, rv_beginsMark, rv_begins, ra_began, rv_isSpent)) : MM l yX8_can (ws_ yX8_can cX8_can 2 (Option.some Jvm.ClassFile.FieldType.int)) rm_X8_can D vwA (mT cA) E [.ref (ad 0), .int p1] (mW ad cA a_all a_hasImage a_tape a_fresh v_taped v_at v_behind v_size v_kind v_number v_wrong v_wrongAt v_depth v_steps v_faultKind v_faultPlace a_on a_many v_moved a_pile v_aside v_judgedBy v_judgedYear a_leastCost a_matched a_order a_lies a_movedThen a_yearTable a_yearMark a_beginTable a_beginMark v_statesTold v_found v_yearFrom v_mark v_beginsMark v_begins a_began v_isSpent a_wants a_rowSort a_rowMany a_numbers) (mW ad cA a_all a_hasImage a_tape a_fresh v_taped v_at v_behind v_size v_kind v_number v_wrong v_wrongAt v_depth v_steps v_faultKind v_faultPlace ra_on ra_many rv_moved ra_pile v_aside v_judgedBy v_judgedYear a_leastCost a_matched a_order ra_lies ra_movedThen ra_yearTable ra_yearMark ra_beginTable ra_beginMark v_statesTold rv_found rv_yearFrom rv_mark rv_beginsMark rv_begins ra_began rv_isSpent a_wants a_rowSort a_rowMany a_numbers) (some (.int res)) := by
  refine MM.ofI (by decide) (Nat.le_of_ble_eq_true rfl) ?_
  intro p e s m args below meth c Q A hX hK hE0 hret H locs ls hH hl
  have hX : CallFix p m c cX8_can 2 s args lw_all RX8 := hX
  have hx := hX.1
  have hb := hX.2.1
  have hown := hX.2.2.2.1
  have hts := hX.2.2.2.2
  have hl : lv_has ls 2 [(0, .ref (ad 0)), (1, .int p1)] := hl
  have hEv := hE.1
  delta FX8_can at hF
  refine lv_aload_n hx hb dX8_can_0 rfl (lv_at hl 0 rfl) ?_
  refine lv_iconst (v := 0) hx hb dX8_can_1 syi_0 ?_
  refine mp_thrown hX hK hH dX8_can_2 (fun H locs hH => ?_)
  refine lv_iload_n hx hb dX8_can_5 rfl (lv_at hl 1 rfl) ?_
  obtain ⟨b_46, he, hF⟩ := bd1e hF
  refine mcS hX hK hEv hE0 hH (met_X8_isWho hE he) gw_StoneYearModel_296 hd_yX8_isWho ⟨Nat.le_of_ble_eq_true rfl, Nat.le_of_ble_eq_true rfl⟩ rfl rfl hl (Nat.le_of_ble_eq_true rfl) dX8_can_6 ⟨Nat.le_of_ble_eq_true rfl, Nat.le_of_ble_eq_true rfl⟩ (fun H locs hH => ?_)
  refine lv_if_eq (tgt := 20) hx hb dX8_can_9 rfl (fun c_47 => ?_) (fun c_47 => ?_)
  · have hF := itp c_47 hF
    refine lv_bipush (v := (-2)) hx hb dX8_can_20 syb_m2 ?_
    obtain ⟨rfl, rfl, rfl, rfl, rfl, rfl, rfl, rfl, rfl, rfl, rfl, rfl, rfl, rfl, rfl, rfl, rfl, rfl⟩ := re18 hF
    exact hret _ _ _ _ hH dX8_can_22
  · have hF := itn c_47 hF
    refine lv_aload_n hx hb dX8_can_12 rfl (lv_at hl 0 rfl) ?_
    refine lv_iload_n hx hb dX8_can_13 rfl (lv_at hl 1 rfl) ?_
    obtain ⟨x_48, a_on_49, a_many_50, v_moved_51, a_pile_52, a_lies_53, a_movedThen_54, a_yearTable_55, a_yearMark_56, a_beginTable_57, a_beginMark_58, v_found_59, v_yearFrom_60, v_mark_61, v_beginsMark_62, v_begins_63, a_began_64, v_isSpent_65, he, hF⟩ := bd18e hF
    refine mcV hX hK hEv hE0 hH (met_X8_canBe hE he) (mrecv hK hH) gw_StoneYearModel_414 hd_yX8_canBe ⟨Nat.le_of_ble_eq_true rfl, Nat.le_of_ble_eq_true rfl⟩ rfl rfl hl (Nat.le_of_ble_eq_true rfl) dX8_can_14 ⟨Nat.le_of_ble_eq_true rfl, Nat.le_of_ble_eq_true rfl⟩ (fun H locs hH => ?_)
    refine lv_goto (tgt := 22) hx hb dX8_can_17 rfl ?_
    obtain ⟨rfl, rfl, rfl, rfl, rfl, rfl, rfl, rfl, rfl, rfl, rfl, rfl, rfl, rfl, rfl, rfl, rfl, rfl⟩ := re18 hF
    exact hret _ _ _ _ hH dX8_can_22
abbrev rm_X8_areTooFew : Room := { frames := 1, cells := 0, slots := 0, locals := 22 }
set_option maxHeartbeats 4000000 in
theorem met_X8_areTooFew {l : Launch} {D : va_G} {ad : Nat → Nat} {cA : Nat → ClassId} {a_all : Nat → Int32} {a_hasImage : Nat → Int32} {a_tape : Nat → Int32} {a_fresh : Nat → Int32} {v_taped : Int32} {v_at : Int32} {v_behind : Int32} {v_size : Int32} {v_kind : Int32} {v_number : Int32} {v_wrong : Int32} {v_wrongAt : Int32} {v_depth : Int32} {v_steps : Int32} {v_faultKind : Int32} {v_faultPlace : Int32} {a_on : Nat → Int32} {a_many : Nat → Int32} {v_moved : Int32} {a_pile : Nat → Int32} {v_aside : Int32} {v_judgedBy : Int32} {v_judgedYear : Int32} {a_leastCost : Nat → Int32} {a_matched : Nat → Int32} {a_order : Nat → Int32} {a_lies : Nat → Int64} {a_movedThen : Nat → Int32} {a_yearTable : Nat → Int32} {a_yearMark : Nat → Int32} {a_beginTable : Nat → Int32} {a_beginMark : Nat → Int32} {v_statesTold : Int32} {v_found : Int32} {v_yearFrom : Int32} {v_mark : Int32} {v_beginsMark : Int32} {v_begins : Int32} {a_began : Nat → Int64} {v_isSpent : Int32} {a_wants : Nat → Int32} {a_rowSort : Nat → Int32} {a_rowMany : Nat → Int32} {a_numbers : Nat → Int64}  {p1 : Int32} {res : Bool} {ak av fo : Nat} {E : EvT} (hE : EvM E ak av fo) (hF : FX8_areTooFew a_all p1 = some res) : MM l yX8_areTooFew (ws_ yX8_areTooFew cX8_areTooFew 5 (Option.some Jvm.ClassFile.FieldType.boolean)) rm_X8_areTooFew D vwA (mT cA) E [.ref (ad 0), .int p1] (mW ad cA a_all a_hasImage a_tape a_fresh v_taped v_at v_behind v_size v_kind v_number v_wrong v_wrongAt v_depth v_steps v_faultKind v_faultPlace a_on a_many v_moved a_pile v_aside v_judgedBy v_judgedYear a_leastCost a_matched a_order a_lies a_movedThen a_yearTable a_yearMark a_beginTable a_beginMark v_statesTold v_found v_yearFrom v_mark v_beginsMark v_begins a_began v_isSpent a_wants a_rowSort a_rowMany a_numbers) (mW ad cA a_all a_hasImage a_tape a_fresh v_taped v_at v_behind v_size v_kind v_number v_wrong v_wrongAt v_depth v_steps v_faultKind v_faultPlace a_on a_many v_moved a_pile v_aside v_judgedBy v_judgedYear a_leastCost a_matched a_order a_lies a_movedThen a_yearTable a_yearMark a_beginTable a_beginMark v_statesTold v_found v_yearFrom v_mark v_beginsMark v_begins a_began v_isSpent a_wants a_rowSort a_rowMany a_numbers) (some (.int (b2i res))) := by
  refine MM.ofZ (by decide) (Nat.le_of_ble_eq_true rfl) ?_
  intro p e s m args below meth c Q A hX hK hE0 hret H locs ls hH hl
  have hX : CallFix p m c cX8_areTooFew 5 s args lw_all RX8 := hX
  have hx := hX.1
  have hb := hX.2.1
  have hown := hX.2.2.2.1
  have hts := hX.2.2.2.2
  have hl : lv_has ls 5 [(0, .ref (ad 0)), (1, .int p1)] := hl
  have hEv := hE.1
  delta FX8_areTooFew at hF
  refine lv_iconst (v := 0) hx hb dX8_areTooFew_0 syi_0 ?_
  refine lv_istore_n (lv' := [(2, .int 0), (0, .ref (ad 0)), (1, .int p1)]) hx hb dX8_areTooFew_1 rfl hl (by decide) rfl (fun ls hl => ?_)
  obtain ⟨xx2, ee2, kk2_0, kk2_1⟩ := bdS2e hF
  have k2_0 : xx2 = (.inl ()) → ∀ (H : Heap) (locs : List Loc) (ls : Array Slot), MH D vwA A s.heap (mW ad cA a_all a_hasImage a_tape a_fresh v_taped v_at v_behind v_size v_kind v_number v_wrong v_wrongAt v_depth v_steps v_faultKind v_faultPlace a_on a_many v_moved a_pile v_aside v_judgedBy v_judgedYear a_leastCost a_matched a_order a_lies a_movedThen a_yearTable a_yearMark a_beginTable a_beginMark v_statesTold v_found v_yearFrom v_mark v_beginsMark v_begins a_began v_isSpent a_wants a_rowSort a_rowMany a_numbers) H locs → lv_has ls 5 [] → W p l e rm_X8_areTooFew s m args below meth c H locs 0 0 Q (F0 m 117 ls []) := by
    intro hxx H locs ls hH hl
    have hF := un0e (kk2_0 () hxx)
    refine lv_iconst (v := 1) hx hb dX8_areTooFew_117 syi_1 ?_
    obtain rfl := Option.some.inj hF
    exact hret _ _ _ _ hH dX8_areTooFew_118
  have k2_1 : xx2 = (.inr ()) → ∀ (H : Heap) (locs : List Loc) (ls : Array Slot), MH D vwA A s.heap (mW ad cA a_all a_hasImage a_tape a_fresh v_taped v_at v_behind v_size v_kind v_number v_wrong v_wrongAt v_depth v_steps v_faultKind v_faultPlace a_on a_many v_moved a_pile v_aside v_judgedBy v_judgedYear a_leastCost a_matched a_order a_lies a_movedThen a_yearTable a_yearMark a_beginTable a_beginMark v_statesTold v_found v_yearFrom v_mark v_beginsMark v_begins a_began v_isSpent a_wants a_rowSort a_rowMany a_numbers) H locs → lv_has ls 5 [] → W p l e rm_X8_areTooFew s m args below meth c H locs 0 0 Q (F0 m 125 ls []) := by
    intro hxx H locs ls hH hl
    have hF := un0e (kk2_1 () hxx)
    refine lv_iconst (v := 0) hx hb dX8_areTooFew_125 syi_0 ?_
    obtain rfl := Option.some.inj hF
    exact hret _ _ _ _ hH dX8_areTooFew_126
  obtain ⟨nn2, en2⟩ := loopC_some ee2
  have l2 : ∀ (n : Nat) (x_80 : Int32), loopN (fun s => FX8_areTooFew_b2 a_all p1 s) n x_80 = some xx2 → ∀ (H : Heap) (locs : List Loc) (ls : Array Slot), MH D vwA A s.heap (mW ad cA a_all a_hasImage a_tape a_fresh v_taped v_at v_behind v_size v_kind v_number v_wrong v_wrongAt v_depth v_steps v_faultKind v_faultPlace a_on a_many v_moved a_pile v_aside v_judgedBy v_judgedYear a_leastCost a_matched a_order a_lies a_movedThen a_yearTable a_yearMark a_beginTable a_beginMark v_statesTold v_found v_yearFrom v_mark v_beginsMark v_begins a_began v_isSpent a_wants a_rowSort a_rowMany a_numbers) H locs → lv_has ls 5 [(0, .ref (ad 0)), (1, .int p1), (2, .int x_80)] → W p l e rm_X8_areTooFew s m args below meth c H locs 0 0 Q (F0 m 2 ls []) := by
    intro n
    induction n with
    | zero =>
      intro x_80 hN
      exact absurd hN loopN_zero
    | succ n ih =>
      intro x_80 hN H locs ls hH hl
      obtain ⟨yy2, hB2, hY2⟩ := loopN_succ hN
      have hF : FX8_areTooFew_b2 a_all p1 x_80 = some yy2 := hB2
      delta FX8_areTooFew_b2 at hF
      refine lv_iload_n hx hb dX8_areTooFew_2 rfl (lv_at hl 2 rfl) ?_
      refine lv_bipush (v := 8) hx hb dX8_areTooFew_3 syb_8 ?_
      refine lv_icmp_ge (tgt := 125) hx hb dX8_areTooFew_5 rfl (fun c_81 => ?_) (fun c_81 => ?_)
      · have hF := itp c_81 hF
        obtain rfl := Option.some.inj hF
        exact k2_1 hY2 _ _ _ hH (lv_sub hl [] rfl)
      · have hF := itn c_81 hF
        refine lv_iconst (v := 0) hx hb dX8_areTooFew_8 syi_0 ?_
        refine lv_istore_n (lv' := [(3, .int 0), (0, .ref (ad 0)), (1, .int p1), (2, .int x_80)]) hx hb dX8_areTooFew_9 rfl hl (by decide) rfl (fun ls hl => ?_)
        refine lv_iconst (v := 0) hx hb dX8_areTooFew_10 syi_0 ?_
        refine lv_istore (lv' := [(4, .int 0), (3, .int 0), (0, .ref (ad 0)), (1, .int p1), (2, .int x_80)]) hx hb dX8_areTooFew_11 hl (by decide) rfl (fun ls hl => ?_)
        obtain ⟨xx13, ee13, kk13_0⟩ := bd1L hF
        have k13_0 : ∀ (x_98 : Int32), xx13 = x_98 → ∀ (H : Heap) (locs : List Loc) (ls : Array Slot), MH D vwA A s.heap (mW ad cA a_all a_hasImage a_tape a_fresh v_taped v_at v_behind v_size v_kind v_number v_wrong v_wrongAt v_depth v_steps v_faultKind v_faultPlace a_on a_many v_moved a_pile v_aside v_judgedBy v_judgedYear a_leastCost a_matched a_order a_lies a_movedThen a_yearTable a_yearMark a_beginTable a_beginMark v_statesTold v_found v_yearFrom v_mark v_beginsMark v_begins a_began v_isSpent a_wants a_rowSort a_rowMany a_numbers) H locs → lv_has ls 5 [(0, .ref (ad 0)), (1, .int p1), (2, .int x_80), (3, .int x_98)] → W p l e rm_X8_areTooFew s m args below meth c H locs 0 0 Q (F0 m 63 ls []) := by
          intro x_98 hxx H locs ls hH hl
          have hF := un1e (kk13_0 x_98 hxx)
          refine lv_iconst (v := 0) hx hb dX8_areTooFew_63 syi_0 ?_
          refine lv_istore (lv' := [(4, .int 0), (0, .ref (ad 0)), (1, .int p1), (2, .int x_80), (3, .int x_98)]) hx hb dX8_areTooFew_64 hl (by decide) rfl (fun ls hl => ?_)
          obtain ⟨xx66, ee66, kk66_0⟩ := bd1L hF
          have k66_0 : ∀ (x_113 : Int32), xx66 = x_113 → ∀ (H : Heap) (locs : List Loc) (ls : Array Slot), MH D vwA A s.heap (mW ad cA a_all a_hasImage a_tape a_fresh v_taped v_at v_behind v_size v_kind v_number v_wrong v_wrongAt v_depth v_steps v_faultKind v_faultPlace a_on a_many v_moved a_pile v_aside v_judgedBy v_judgedYear a_leastCost a_matched a_order a_lies a_movedThen a_yearTable a_yearMark a_beginTable a_beginMark v_statesTold v_found v_yearFrom v_mark v_beginsMark v_begins a_began v_isSpent a_wants a_rowSort a_rowMany a_numbers) H locs → lv_has ls 5 [(0, .ref (ad 0)), (1, .int p1), (2, .int x_80), (3, .int x_113)] → W p l e rm_X8_areTooFew s m args below meth c H locs 0 0 Q (F0 m 113 ls []) := by
            intro x_113 hxx H locs ls hH hl
            have hF := un1e (kk66_0 x_113 hxx)
            refine lv_iload_n hx hb dX8_areTooFew_113 rfl (lv_at hl 3 rfl) ?_
            refine lv_if_ge (tgt := 119) hx hb dX8_areTooFew_114 rfl (fun c_114 => ?_) (fun c_114 => ?_)
            · have hF := itp c_114 hF
              refine lv_iinc (v := (x_80 + 1)) (lv' := [(2, .int (x_80 + 1)), (0, .ref (ad 0)), (1, .int p1), (3, .int x_113)]) hx hb dX8_areTooFew_119 hl (k := 2) rfl (syc syi_1) (by decide) rfl (fun ls hl => ?_)
              refine lv_goto (tgt := 2) hx hb dX8_areTooFew_122 rfl ?_
              obtain rfl := Option.some.inj hF
              exact ih (x_80 + 1) hY2 _ _ _ hH (lv_sub hl [1, 2, 0] rfl)
            · have hF := itn c_114 hF
              obtain rfl := Option.some.inj hF
              exact k2_0 hY2 _ _ _ hH (lv_sub hl [] rfl)
          obtain ⟨nn66, en66⟩ := loopC_some ee66
          have l66 : ∀ (n : Nat) (x_105 : Int32) (x_106 : Int32), loopN (fun s => FX8_areTooFew_b66 a_all p1 x_80 s.1 s.2) n (x_105, x_106) = some xx66 → ∀ (H : Heap) (locs : List Loc) (ls : Array Slot), MH D vwA A s.heap (mW ad cA a_all a_hasImage a_tape a_fresh v_taped v_at v_behind v_size v_kind v_number v_wrong v_wrongAt v_depth v_steps v_faultKind v_faultPlace a_on a_many v_moved a_pile v_aside v_judgedBy v_judgedYear a_leastCost a_matched a_order a_lies a_movedThen a_yearTable a_yearMark a_beginTable a_beginMark v_statesTold v_found v_yearFrom v_mark v_beginsMark v_begins a_began v_isSpent a_wants a_rowSort a_rowMany a_numbers) H locs → lv_has ls 5 [(0, .ref (ad 0)), (1, .int p1), (2, .int x_80), (3, .int x_105), (4, .int x_106)] → W p l e rm_X8_areTooFew s m args below meth c H locs 0 0 Q (F0 m 66 ls []) := by
            intro n
            induction n with
            | zero =>
              intro x_105 x_106 hN
              exact absurd hN loopN_zero
            | succ n ih =>
              intro x_105 x_106 hN H locs ls hH hl
              obtain ⟨yy66, hB66, hY66⟩ := loopN_succ hN
              have hF : FX8_areTooFew_b66 a_all p1 x_80 x_105 x_106 = some yy66 := hB66
              delta FX8_areTooFew_b66 at hF
              refine lv_iload hx hb dX8_areTooFew_66 (lv_at hl 4 rfl) ?_
              refine lv_bipush (v := 15) hx hb dX8_areTooFew_68 syb_15 ?_
              refine lv_icmp_ge (tgt := 113) hx hb dX8_areTooFew_70 rfl (fun c_107 => ?_) (fun c_107 => ?_)
              · have hF := itp c_107 hF
                obtain rfl := Option.some.inj hF
                exact k66_0 x_105 hY66 _ _ _ hH (lv_sub hl [0, 1, 2, 3] rfl)
              · have hF := itn c_107 hF
                refine lv_iload_n hx hb dX8_areTooFew_73 rfl (lv_at hl 3 rfl) ?_
                refine lv_aload_n hx hb dX8_areTooFew_74 rfl (lv_at hl 0 rfl) ?_
                refine lv_iload hx hb dX8_areTooFew_75 (lv_at hl 4 rfl) ?_
                refine lv_iconst (v := 3) hx hb dX8_areTooFew_77 syi_3 ?_
                refine lv_idiv hx hb dX8_areTooFew_78 (by decide) ?_
                refine lv_iload_n hx hb dX8_areTooFew_79 rfl (lv_at hl 1 rfl) ?_
                obtain ⟨b_108, he, hF⟩ := bd1e hF
                refine mcV hX hK hEv hE0 hH (met_X8_isWished hE he) (mrecv hK hH) gw_StoneYearModel_290 hd_yX8_isWished ⟨Nat.le_of_ble_eq_true rfl, Nat.le_of_ble_eq_true rfl⟩ rfl rfl hl (Nat.le_of_ble_eq_true rfl) dX8_areTooFew_80 ⟨Nat.le_of_ble_eq_true rfl, Nat.le_of_ble_eq_true rfl⟩ (fun H locs hH => ?_)
                have j105 : ∀ (x_112 : Int32), FX8_areTooFew_j105 x_105 x_106 x_112 = some yy66 → ∀ (H : Heap) (locs : List Loc) (ls : Array Slot), MH D vwA A s.heap (mW ad cA a_all a_hasImage a_tape a_fresh v_taped v_at v_behind v_size v_kind v_number v_wrong v_wrongAt v_depth v_steps v_faultKind v_faultPlace a_on a_many v_moved a_pile v_aside v_judgedBy v_judgedYear a_leastCost a_matched a_order a_lies a_movedThen a_yearTable a_yearMark a_beginTable a_beginMark v_statesTold v_found v_yearFrom v_mark v_beginsMark v_begins a_began v_isSpent a_wants a_rowSort a_rowMany a_numbers) H locs → lv_has ls 5 [(0, .ref (ad 0)), (1, .int p1), (2, .int x_80), (4, .int x_106)] → W p l e rm_X8_areTooFew s m args below meth c H locs 0 0 Q (F0 m 105 ls [.int x_112, .int x_105]) := by
                  intro x_112 hF H locs ls hH hl
                  delta FX8_areTooFew_j105 at hF
                  refine lv_isub hx hb dX8_areTooFew_105 ?_
                  refine lv_istore_n (lv' := [(3, .int (x_105 - x_112)), (0, .ref (ad 0)), (1, .int p1), (2, .int x_80), (4, .int x_106)]) hx hb dX8_areTooFew_106 rfl hl (by decide) rfl (fun ls hl => ?_)
                  refine lv_iinc (v := (x_106 + 1)) (lv' := [(4, .int (x_106 + 1)), (3, .int (x_105 - x_112)), (0, .ref (ad 0)), (1, .int p1), (2, .int x_80)]) hx hb dX8_areTooFew_107 hl (k := 4) rfl (syc syi_1) (by decide) rfl (fun ls hl => ?_)
                  refine lv_goto (tgt := 66) hx hb dX8_areTooFew_110 rfl ?_
                  obtain rfl := Option.some.inj hF
                  exact ih (x_105 - x_112) (x_106 + 1) hY66 _ _ _ hH (lv_sub hl [2, 3, 4, 1, 0] rfl)
                have j104 : FX8_areTooFew_j104 x_105 x_106 = some yy66 → ∀ (H : Heap) (locs : List Loc) (ls : Array Slot), MH D vwA A s.heap (mW ad cA a_all a_hasImage a_tape a_fresh v_taped v_at v_behind v_size v_kind v_number v_wrong v_wrongAt v_depth v_steps v_faultKind v_faultPlace a_on a_many v_moved a_pile v_aside v_judgedBy v_judgedYear a_leastCost a_matched a_order a_lies a_movedThen a_yearTable a_yearMark a_beginTable a_beginMark v_statesTold v_found v_yearFrom v_mark v_beginsMark v_begins a_began v_isSpent a_wants a_rowSort a_rowMany a_numbers) H locs → lv_has ls 5 [(0, .ref (ad 0)), (1, .int p1), (2, .int x_80), (4, .int x_106)] → W p l e rm_X8_areTooFew s m args below meth c H locs 0 0 Q (F0 m 104 ls [.int x_105]) := by
                  intro hF H locs ls hH hl
                  delta FX8_areTooFew_j104 at hF
                  refine lv_iconst (v := 0) hx hb dX8_areTooFew_104 syi_0 ?_
                  exact j105 0 hF _ _ _ hH (lv_sub hl [0, 1, 2, 3] rfl)
                refine lv_if_eq (tgt := 104) hx hb dX8_areTooFew_83 rfl (fun c_109 => ?_) (fun c_109 => ?_)
                · have hF := itp c_109 hF
                  exact j104 hF _ _ _ hH (lv_sub hl [0, 1, 2, 4] rfl)
                · have hF := itn c_109 hF
                  refine lv_aload_n hx hb dX8_areTooFew_86 rfl (lv_at hl 0 rfl) ?_
                  refine mg_all hX hK hH dX8_areTooFew_87 ?_
                  refine lv_bipush (v := 41) hx hb dX8_areTooFew_90 syb_41 ?_
                  refine lv_iload hx hb dX8_areTooFew_92 (lv_at hl 4 rfl) ?_
                  refine lv_iadd hx hb dX8_areTooFew_94 ?_
                  obtain ⟨x_110, he, hF⟩ := bd1e hF
                  refine ml_all hX hK hH he dX8_areTooFew_95 ?_
                  refine lv_iload_n hx hb dX8_areTooFew_96 rfl (lv_at hl 2 rfl) ?_
                  refine lv_icmp_ne (tgt := 104) hx hb dX8_areTooFew_97 rfl (fun c_111 => ?_) (fun c_111 => ?_)
                  · have hF := itn c_111 hF
                    exact j104 hF _ _ _ hH (lv_sub hl [0, 1, 2, 4] rfl)
                  · have hF := itp c_111 hF
                    refine lv_iconst (v := 1) hx hb dX8_areTooFew_100 syi_1 ?_
                    refine lv_goto (tgt := 105) hx hb dX8_areTooFew_101 rfl ?_
                    exact j105 1 hF _ _ _ hH (lv_sub hl [0, 1, 2, 4] rfl)
          exact l66 nn66 x_98 0 en66 _ _ _ hH (lv_sub hl [1, 2, 3, 4, 0] rfl)
        obtain ⟨nn13, en13⟩ := loopC_some ee13
        have l13 : ∀ (n : Nat) (x_89 : Int32) (x_90 : Int32), loopN (fun s => FX8_areTooFew_b13 a_all x_80 s.1 s.2) n (x_89, x_90) = some xx13 → ∀ (H : Heap) (locs : List Loc) (ls : Array Slot), MH D vwA A s.heap (mW ad cA a_all a_hasImage a_tape a_fresh v_taped v_at v_behind v_size v_kind v_number v_wrong v_wrongAt v_depth v_steps v_faultKind v_faultPlace a_on a_many v_moved a_pile v_aside v_judgedBy v_judgedYear a_leastCost a_matched a_order a_lies a_movedThen a_yearTable a_yearMark a_beginTable a_beginMark v_statesTold v_found v_yearFrom v_mark v_beginsMark v_begins a_began v_isSpent a_wants a_rowSort a_rowMany a_numbers) H locs → lv_has ls 5 [(0, .ref (ad 0)), (1, .int p1), (2, .int x_80), (3, .int x_89), (4, .int x_90)] → W p l e rm_X8_areTooFew s m args below meth c H locs 0 0 Q (F0 m 13 ls []) := by
          intro n
          induction n with
          | zero =>
            intro x_89 x_90 hN
            exact absurd hN loopN_zero
          | succ n ih =>
            intro x_89 x_90 hN H locs ls hH hl
            obtain ⟨yy13, hB13, hY13⟩ := loopN_succ hN
            have hF : FX8_areTooFew_b13 a_all x_80 x_89 x_90 = some yy13 := hB13
            delta FX8_areTooFew_b13 at hF
            refine lv_iload hx hb dX8_areTooFew_13 (lv_at hl 4 rfl) ?_
            refine lv_aload_n hx hb dX8_areTooFew_15 rfl (lv_at hl 0 rfl) ?_
            refine mg_all hX hK hH dX8_areTooFew_16 ?_
            refine lv_bipush (v := 6) hx hb dX8_areTooFew_19 syb_6 ?_
            obtain ⟨x_91, he, hF⟩ := bd1e hF
            refine ml_all hX hK hH he dX8_areTooFew_21 ?_
            refine lv_icmp_ge (tgt := 63) hx hb dX8_areTooFew_22 rfl (fun c_92 => ?_) (fun c_92 => ?_)
            · have hF := itp c_92 hF
              obtain rfl := Option.some.inj hF
              exact k13_0 x_89 hY13 _ _ _ hH (lv_sub hl [0, 1, 2, 3] rfl)
            · have hF := itn c_92 hF
              refine lv_iload_n hx hb dX8_areTooFew_25 rfl (lv_at hl 3 rfl) ?_
              refine lv_aload_n hx hb dX8_areTooFew_26 rfl (lv_at hl 0 rfl) ?_
              refine mg_all hX hK hH dX8_areTooFew_27 ?_
              refine lv_bipush (v := 7) hx hb dX8_areTooFew_30 syb_7 ?_
              refine lv_iload hx hb dX8_areTooFew_32 (lv_at hl 4 rfl) ?_
              refine lv_iadd hx hb dX8_areTooFew_34 ?_
              obtain ⟨x_93, he, hF⟩ := bd1e hF
              refine ml_all hX hK hH he dX8_areTooFew_35 ?_
              refine lv_iload_n hx hb dX8_areTooFew_36 rfl (lv_at hl 2 rfl) ?_
              have j55 : ∀ (x_97 : Int32), FX8_areTooFew_j55 x_89 x_90 x_97 = some yy13 → ∀ (H : Heap) (locs : List Loc) (ls : Array Slot), MH D vwA A s.heap (mW ad cA a_all a_hasImage a_tape a_fresh v_taped v_at v_behind v_size v_kind v_number v_wrong v_wrongAt v_depth v_steps v_faultKind v_faultPlace a_on a_many v_moved a_pile v_aside v_judgedBy v_judgedYear a_leastCost a_matched a_order a_lies a_movedThen a_yearTable a_yearMark a_beginTable a_beginMark v_statesTold v_found v_yearFrom v_mark v_beginsMark v_begins a_began v_isSpent a_wants a_rowSort a_rowMany a_numbers) H locs → lv_has ls 5 [(0, .ref (ad 0)), (1, .int p1), (2, .int x_80), (4, .int x_90)] → W p l e rm_X8_areTooFew s m args below meth c H locs 0 0 Q (F0 m 55 ls [.int x_97, .int x_89]) := by
                intro x_97 hF H locs ls hH hl
                delta FX8_areTooFew_j55 at hF
                refine lv_iadd hx hb dX8_areTooFew_55 ?_
                refine lv_istore_n (lv' := [(3, .int (x_89 + x_97)), (0, .ref (ad 0)), (1, .int p1), (2, .int x_80), (4, .int x_90)]) hx hb dX8_areTooFew_56 rfl hl (by decide) rfl (fun ls hl => ?_)
                refine lv_iinc (v := (x_90 + 1)) (lv' := [(4, .int (x_90 + 1)), (3, .int (x_89 + x_97)), (0, .ref (ad 0)), (1, .int p1), (2, .int x_80)]) hx hb dX8_areTooFew_57 hl (k := 4) rfl (syc syi_1) (by decide) rfl (fun ls hl => ?_)
                refine lv_goto (tgt := 13) hx hb dX8_areTooFew_60 rfl ?_
                obtain rfl := Option.some.inj hF
                exact ih (x_89 + x_97) (x_90 + 1) hY13 _ _ _ hH (lv_sub hl [2, 3, 4, 1, 0] rfl)
              have j54 : FX8_areTooFew_j54 x_89 x_90 = some yy13 → ∀ (H : Heap) (locs : List Loc) (ls : Array Slot), MH D vwA A s.heap (mW ad cA a_all a_hasImage a_tape a_fresh v_taped v_at v_behind v_size v_kind v_number v_wrong v_wrongAt v_depth v_steps v_faultKind v_faultPlace a_on a_many v_moved a_pile v_aside v_judgedBy v_judgedYear a_leastCost a_matched a_order a_lies a_movedThen a_yearTable a_yearMark a_beginTable a_beginMark v_statesTold v_found v_yearFrom v_mark v_beginsMark v_begins a_began v_isSpent a_wants a_rowSort a_rowMany a_numbers) H locs → lv_has ls 5 [(0, .ref (ad 0)), (1, .int p1), (2, .int x_80), (4, .int x_90)] → W p l e rm_X8_areTooFew s m args below meth c H locs 0 0 Q (F0 m 54 ls [.int x_89]) := by
                intro hF H locs ls hH hl
                delta FX8_areTooFew_j54 at hF
                refine lv_iconst (v := 0) hx hb dX8_areTooFew_54 syi_0 ?_
                exact j55 0 hF _ _ _ hH (lv_sub hl [0, 1, 2, 3] rfl)
              refine lv_icmp_ne (tgt := 54) hx hb dX8_areTooFew_37 rfl (fun c_94 => ?_) (fun c_94 => ?_)
              · have hF := itn c_94 hF
                exact j54 hF _ _ _ hH (lv_sub hl [0, 1, 2, 4] rfl)
              · have hF := itp c_94 hF
                refine lv_aload_n hx hb dX8_areTooFew_40 rfl (lv_at hl 0 rfl) ?_
                refine lv_iload hx hb dX8_areTooFew_41 (lv_at hl 4 rfl) ?_
                obtain ⟨x_95, he, hF⟩ := bd1e hF
                refine mcV hX hK hEv hE0 hH (met_X8_placeOf hE he) (mrecv hK hH) gw_StoneYearModel_255 hd_yX8_placeOf ⟨Nat.le_of_ble_eq_true rfl, Nat.le_of_ble_eq_true rfl⟩ rfl rfl hl (Nat.le_of_ble_eq_true rfl) dX8_areTooFew_43 ⟨Nat.le_of_ble_eq_true rfl, Nat.le_of_ble_eq_true rfl⟩ (fun H locs hH => ?_)
                refine lv_iconst (v := (-1)) hx hb dX8_areTooFew_46 syi_m1 ?_
                refine lv_icmp_eq (tgt := 54) hx hb dX8_areTooFew_47 rfl (fun c_96 => ?_) (fun c_96 => ?_)
                · have hF := itp c_96 hF
                  exact j54 hF _ _ _ hH (lv_sub hl [0, 1, 2, 4] rfl)
                · have hF := itn c_96 hF
                  refine lv_iconst (v := 1) hx hb dX8_areTooFew_50 syi_1 ?_
                  refine lv_goto (tgt := 55) hx hb dX8_areTooFew_51 rfl ?_
                  exact j55 1 hF _ _ _ hH (lv_sub hl [0, 1, 2, 4] rfl)
        exact l13 nn13 0 0 en13 _ _ _ hH (lv_sub hl [2, 3, 4, 1, 0] rfl)
  exact l2 nn2 0 en2 _ _ _ hH (lv_sub hl [1, 2, 0] rfl)
abbrev rm_X8_breaksMust : Room := { frames := 1, cells := 0, slots := 0, locals := 22 }
set_option maxHeartbeats 4000000 in
theorem met_X8_breaksMust {l : Launch} {D : va_G} {ad : Nat → Nat} {cA : Nat → ClassId} {a_all : Nat → Int32} {a_hasImage : Nat → Int32} {a_tape : Nat → Int32} {a_fresh : Nat → Int32} {v_taped : Int32} {v_at : Int32} {v_behind : Int32} {v_size : Int32} {v_kind : Int32} {v_number : Int32} {v_wrong : Int32} {v_wrongAt : Int32} {v_depth : Int32} {v_steps : Int32} {v_faultKind : Int32} {v_faultPlace : Int32} {a_on : Nat → Int32} {a_many : Nat → Int32} {v_moved : Int32} {a_pile : Nat → Int32} {v_aside : Int32} {v_judgedBy : Int32} {v_judgedYear : Int32} {a_leastCost : Nat → Int32} {a_matched : Nat → Int32} {a_order : Nat → Int32} {a_lies : Nat → Int64} {a_movedThen : Nat → Int32} {a_yearTable : Nat → Int32} {a_yearMark : Nat → Int32} {a_beginTable : Nat → Int32} {a_beginMark : Nat → Int32} {v_statesTold : Int32} {v_found : Int32} {v_yearFrom : Int32} {v_mark : Int32} {v_beginsMark : Int32} {v_begins : Int32} {a_began : Nat → Int64} {v_isSpent : Int32} {a_wants : Nat → Int32} {a_rowSort : Nat → Int32} {a_rowMany : Nat → Int32} {a_numbers : Nat → Int64}  {p1 : Int32} {res : Bool} {ak av fo : Nat} {E : EvT} (hE : EvM E ak av fo) (hF : FX8_breaksMust a_all p1 = some res) : MM l yX8_breaksMust (ws_ yX8_breaksMust cX8_breaksMust 4 (Option.some Jvm.ClassFile.FieldType.boolean)) rm_X8_breaksMust D vwA (mT cA) E [.ref (ad 0), .int p1] (mW ad cA a_all a_hasImage a_tape a_fresh v_taped v_at v_behind v_size v_kind v_number v_wrong v_wrongAt v_depth v_steps v_faultKind v_faultPlace a_on a_many v_moved a_pile v_aside v_judgedBy v_judgedYear a_leastCost a_matched a_order a_lies a_movedThen a_yearTable a_yearMark a_beginTable a_beginMark v_statesTold v_found v_yearFrom v_mark v_beginsMark v_begins a_began v_isSpent a_wants a_rowSort a_rowMany a_numbers) (mW ad cA a_all a_hasImage a_tape a_fresh v_taped v_at v_behind v_size v_kind v_number v_wrong v_wrongAt v_depth v_steps v_faultKind v_faultPlace a_on a_many v_moved a_pile v_aside v_judgedBy v_judgedYear a_leastCost a_matched a_order a_lies a_movedThen a_yearTable a_yearMark a_beginTable a_beginMark v_statesTold v_found v_yearFrom v_mark v_beginsMark v_begins a_began v_isSpent a_wants a_rowSort a_rowMany a_numbers) (some (.int (b2i res))) := by
  refine MM.ofZ (by decide) (Nat.le_of_ble_eq_true rfl) ?_
  intro p e s m args below meth c Q A hX hK hE0 hret H locs ls hH hl
  have hX : CallFix p m c cX8_breaksMust 4 s args lw_all RX8 := hX
  have hx := hX.1
  have hb := hX.2.1
  have hown := hX.2.2.2.1
  have hts := hX.2.2.2.2
  have hl : lv_has ls 4 [(0, .ref (ad 0)), (1, .int p1)] := hl
  have hEv := hE.1
  delta FX8_breaksMust at hF
  refine lv_iconst (v := 0) hx hb dX8_breaksMust_0 syi_0 ?_
  refine lv_istore_n (lv' := [(2, .int 0), (0, .ref (ad 0)), (1, .int p1)]) hx hb dX8_breaksMust_1 rfl hl (by decide) rfl (fun ls hl => ?_)
  obtain ⟨xx2, ee2, kk2_0, kk2_1, kk2_2⟩ := bdS3e hF
  have k2_0 : xx2 = (.inl ()) → ∀ (H : Heap) (locs : List Loc) (ls : Array Slot), MH D vwA A s.heap (mW ad cA a_all a_hasImage a_tape a_fresh v_taped v_at v_behind v_size v_kind v_number v_wrong v_wrongAt v_depth v_steps v_faultKind v_faultPlace a_on a_many v_moved a_pile v_aside v_judgedBy v_judgedYear a_leastCost a_matched a_order a_lies a_movedThen a_yearTable a_yearMark a_beginTable a_beginMark v_statesTold v_found v_yearFrom v_mark v_beginsMark v_begins a_began v_isSpent a_wants a_rowSort a_rowMany a_numbers) H locs → lv_has ls 4 [] → W p l e rm_X8_breaksMust s m args below meth c H locs 0 0 Q (F0 m 68 ls []) := by
    intro hxx H locs ls hH hl
    have hF := un0e (kk2_0 () hxx)
    refine lv_goto (tgt := 92) hx hb dX8_breaksMust_68 rfl ?_
    refine lv_iconst (v := 1) hx hb dX8_breaksMust_92 syi_1 ?_
    obtain rfl := Option.some.inj hF
    exact hret _ _ _ _ hH dX8_breaksMust_93
  have k2_1 : xx2 = (.inr (.inl ())) → ∀ (H : Heap) (locs : List Loc) (ls : Array Slot), MH D vwA A s.heap (mW ad cA a_all a_hasImage a_tape a_fresh v_taped v_at v_behind v_size v_kind v_number v_wrong v_wrongAt v_depth v_steps v_faultKind v_faultPlace a_on a_many v_moved a_pile v_aside v_judgedBy v_judgedYear a_leastCost a_matched a_order a_lies a_movedThen a_yearTable a_yearMark a_beginTable a_beginMark v_statesTold v_found v_yearFrom v_mark v_beginsMark v_begins a_began v_isSpent a_wants a_rowSort a_rowMany a_numbers) H locs → lv_has ls 4 [] → W p l e rm_X8_breaksMust s m args below meth c H locs 0 0 Q (F0 m 92 ls []) := by
    intro hxx H locs ls hH hl
    have hF := un0e (kk2_1 () hxx)
    refine lv_iconst (v := 1) hx hb dX8_breaksMust_92 syi_1 ?_
    obtain rfl := Option.some.inj hF
    exact hret _ _ _ _ hH dX8_breaksMust_93
  have k2_2 : xx2 = (.inr (.inr ())) → ∀ (H : Heap) (locs : List Loc) (ls : Array Slot), MH D vwA A s.heap (mW ad cA a_all a_hasImage a_tape a_fresh v_taped v_at v_behind v_size v_kind v_number v_wrong v_wrongAt v_depth v_steps v_faultKind v_faultPlace a_on a_many v_moved a_pile v_aside v_judgedBy v_judgedYear a_leastCost a_matched a_order a_lies a_movedThen a_yearTable a_yearMark a_beginTable a_beginMark v_statesTold v_found v_yearFrom v_mark v_beginsMark v_begins a_began v_isSpent a_wants a_rowSort a_rowMany a_numbers) H locs → lv_has ls 4 [] → W p l e rm_X8_breaksMust s m args below meth c H locs 0 0 Q (F0 m 100 ls []) := by
    intro hxx H locs ls hH hl
    have hF := un0e (kk2_2 () hxx)
    refine lv_iconst (v := 0) hx hb dX8_breaksMust_100 syi_0 ?_
    obtain rfl := Option.some.inj hF
    exact hret _ _ _ _ hH dX8_breaksMust_101
  obtain ⟨nn2, en2⟩ := loopC_some ee2
  have l2 : ∀ (n : Nat) (x_59 : Int32), loopN (fun s => FX8_breaksMust_b2 a_all p1 s) n x_59 = some xx2 → ∀ (H : Heap) (locs : List Loc) (ls : Array Slot), MH D vwA A s.heap (mW ad cA a_all a_hasImage a_tape a_fresh v_taped v_at v_behind v_size v_kind v_number v_wrong v_wrongAt v_depth v_steps v_faultKind v_faultPlace a_on a_many v_moved a_pile v_aside v_judgedBy v_judgedYear a_leastCost a_matched a_order a_lies a_movedThen a_yearTable a_yearMark a_beginTable a_beginMark v_statesTold v_found v_yearFrom v_mark v_beginsMark v_begins a_began v_isSpent a_wants a_rowSort a_rowMany a_numbers) H locs → lv_has ls 4 [(0, .ref (ad 0)), (1, .int p1), (2, .int x_59)] → W p l e rm_X8_breaksMust s m args below meth c H locs 0 0 Q (F0 m 2 ls []) := by
    intro n
    induction n with
    | zero =>
      intro x_59 hN
      exact absurd hN loopN_zero
    | succ n ih =>
      intro x_59 hN H locs ls hH hl
      obtain ⟨yy2, hB2, hY2⟩ := loopN_succ hN
      have hF : FX8_breaksMust_b2 a_all p1 x_59 = some yy2 := hB2
      delta FX8_breaksMust_b2 at hF
      refine lv_iload_n hx hb dX8_breaksMust_2 rfl (lv_at hl 2 rfl) ?_
      refine lv_aload_n hx hb dX8_breaksMust_3 rfl (lv_at hl 0 rfl) ?_
      refine mg_all hX hK hH dX8_breaksMust_4 ?_
      refine lv_bipush (v := 56) hx hb dX8_breaksMust_7 syb_56 ?_
      obtain ⟨x_60, he, hF⟩ := bd1e hF
      refine ml_all hX hK hH he dX8_breaksMust_9 ?_
      refine lv_icmp_ge (tgt := 100) hx hb dX8_breaksMust_10 rfl (fun c_61 => ?_) (fun c_61 => ?_)
      · have hF := itp c_61 hF
        obtain rfl := Option.some.inj hF
        exact k2_2 hY2 _ _ _ hH (lv_sub hl [] rfl)
      · have hF := itn c_61 hF
        refine lv_aload_n hx hb dX8_breaksMust_13 rfl (lv_at hl 0 rfl) ?_
        refine mg_all hX hK hH dX8_breaksMust_14 ?_
        refine lv_bipush (v := 63) hx hb dX8_breaksMust_17 syb_63 ?_
        refine lv_iload_n hx hb dX8_breaksMust_19 rfl (lv_at hl 2 rfl) ?_
        refine lv_iadd hx hb dX8_breaksMust_20 ?_
        obtain ⟨x_62, he, hF⟩ := bd1e hF
        refine ml_all hX hK hH he dX8_breaksMust_21 ?_
        refine lv_istore_n (lv' := [(3, .int x_62), (0, .ref (ad 0)), (1, .int p1), (2, .int x_59)]) hx hb dX8_breaksMust_22 rfl hl (by decide) rfl (fun ls hl => ?_)
        refine lv_aload_n hx hb dX8_breaksMust_23 rfl (lv_at hl 1 rfl) ?_
        refine lv_iload_n hx hb dX8_breaksMust_24 rfl (lv_at hl 0 rfl) ?_
        refine lv_iload_n hx hb dX8_breaksMust_25 rfl (lv_at hl 2 rfl) ?_
        obtain ⟨b_63, he, hF⟩ := bd1e hF
        refine mcV hX hK hEv hE0 hH (met_X8_isWished hE he) (mrecv hK hH) gw_StoneYearModel_290 hd_yX8_isWished ⟨Nat.le_of_ble_eq_true rfl, Nat.le_of_ble_eq_true rfl⟩ rfl rfl hl (Nat.le_of_ble_eq_true rfl) dX8_breaksMust_26 ⟨Nat.le_of_ble_eq_true rfl, Nat.le_of_ble_eq_true rfl⟩ (fun H locs hH => ?_)
        have j94 : FX8_breaksMust_j94 x_59 = some yy2 → ∀ (H : Heap) (locs : List Loc) (ls : Array Slot), MH D vwA A s.heap (mW ad cA a_all a_hasImage a_tape a_fresh v_taped v_at v_behind v_size v_kind v_number v_wrong v_wrongAt v_depth v_steps v_faultKind v_faultPlace a_on a_many v_moved a_pile v_aside v_judgedBy v_judgedYear a_leastCost a_matched a_order a_lies a_movedThen a_yearTable a_yearMark a_beginTable a_beginMark v_statesTold v_found v_yearFrom v_mark v_beginsMark v_begins a_began v_isSpent a_wants a_rowSort a_rowMany a_numbers) H locs → lv_has ls 4 [(0, .ref (ad 0)), (1, .int p1), (2, .int x_59)] → W p l e rm_X8_breaksMust s m args below meth c H locs 0 0 Q (F0 m 94 ls []) := by
          intro hF H locs ls hH hl
          delta FX8_breaksMust_j94 at hF
          refine lv_iinc (v := (x_59 + 1)) (lv' := [(2, .int (x_59 + 1)), (0, .ref (ad 0)), (1, .int p1)]) hx hb dX8_breaksMust_94 hl (k := 2) rfl (syc syi_1) (by decide) rfl (fun ls hl => ?_)
          refine lv_goto (tgt := 2) hx hb dX8_breaksMust_97 rfl ?_
          obtain rfl := Option.some.inj hF
          exact ih (x_59 + 1) hY2 _ _ _ hH (lv_sub hl [1, 2, 0] rfl)
        refine lv_if_ne (tgt := 35) hx hb dX8_breaksMust_29 rfl (fun c_64 => ?_) (fun c_64 => ?_)
        · have hF := itn c_64 hF
          refine lv_aload_n hx hb dX8_breaksMust_35 rfl (lv_at hl 1 rfl) ?_
          refine mg_all hX hK hH dX8_breaksMust_36 ?_
          refine lv_bipush (v := 57) hx hb dX8_breaksMust_39 syb_57 ?_
          refine lv_iload_n hx hb dX8_breaksMust_41 rfl (lv_at hl 3 rfl) ?_
          refine lv_iadd hx hb dX8_breaksMust_42 ?_
          obtain ⟨x_65, he, hF⟩ := bd1e hF
          refine ml_all hX hK hH he dX8_breaksMust_43 ?_
          refine lv_if_ne (tgt := 71) hx hb dX8_breaksMust_44 rfl (fun c_66 => ?_) (fun c_66 => ?_)
          · have hF := itn c_66 hF
            refine lv_aload_n hx hb dX8_breaksMust_71 rfl (lv_at hl 1 rfl) ?_
            refine mg_all hX hK hH dX8_breaksMust_72 ?_
            refine lv_bipush (v := 31) hx hb dX8_breaksMust_75 syb_31 ?_
            refine lv_iload_n hx hb dX8_breaksMust_77 rfl (lv_at hl 0 rfl) ?_
            refine lv_iadd hx hb dX8_breaksMust_78 ?_
            obtain ⟨x_70, he, hF⟩ := bd1e hF
            refine ml_all hX hK hH he dX8_breaksMust_79 ?_
            refine lv_aload_n hx hb dX8_breaksMust_80 rfl (lv_at hl 1 rfl) ?_
            refine mg_all hX hK hH dX8_breaksMust_81 ?_
            refine lv_bipush (v := 69) hx hb dX8_breaksMust_84 syb_69 ?_
            refine lv_iload_n hx hb dX8_breaksMust_86 rfl (lv_at hl 3 rfl) ?_
            refine lv_iadd hx hb dX8_breaksMust_87 ?_
            obtain ⟨x_71, he, hF⟩ := bd1e hF
            refine ml_all hX hK hH he dX8_breaksMust_88 ?_
            refine lv_icmp_le (tgt := 94) hx hb dX8_breaksMust_89 rfl (fun c_72 => ?_) (fun c_72 => ?_)
            · have hF := itp c_72 hF
              exact j94 hF _ _ _ hH (lv_sub hl [1, 2, 3] rfl)
            · have hF := itn c_72 hF
              obtain rfl := Option.some.inj hF
              exact k2_1 hY2 _ _ _ hH (lv_sub hl [] rfl)
          · have hF := itp c_66 hF
            refine lv_aload_n hx hb dX8_breaksMust_47 rfl (lv_at hl 1 rfl) ?_
            refine mg_all hX hK hH dX8_breaksMust_48 ?_
            refine lv_bipush (v := 31) hx hb dX8_breaksMust_51 syb_31 ?_
            refine lv_iload_n hx hb dX8_breaksMust_53 rfl (lv_at hl 0 rfl) ?_
            refine lv_iadd hx hb dX8_breaksMust_54 ?_
            obtain ⟨x_67, he, hF⟩ := bd1e hF
            refine ml_all hX hK hH he dX8_breaksMust_55 ?_
            refine lv_aload_n hx hb dX8_breaksMust_56 rfl (lv_at hl 1 rfl) ?_
            refine mg_all hX hK hH dX8_breaksMust_57 ?_
            refine lv_bipush (v := 69) hx hb dX8_breaksMust_60 syb_69 ?_
            refine lv_iload_n hx hb dX8_breaksMust_62 rfl (lv_at hl 3 rfl) ?_
            refine lv_iadd hx hb dX8_breaksMust_63 ?_
            obtain ⟨x_68, he, hF⟩ := bd1e hF
            refine ml_all hX hK hH he dX8_breaksMust_64 ?_
            refine lv_icmp_ge (tgt := 94) hx hb dX8_breaksMust_65 rfl (fun c_69 => ?_) (fun c_69 => ?_)
            · have hF := itp c_69 hF
              exact j94 hF _ _ _ hH (lv_sub hl [1, 2, 3] rfl)
            · have hF := itn c_69 hF
              obtain rfl := Option.some.inj hF
              exact k2_0 hY2 _ _ _ hH (lv_sub hl [] rfl)
        · have hF := itp c_64 hF
          refine lv_goto (tgt := 94) hx hb dX8_breaksMust_32 rfl ?_
          exact j94 hF _ _ _ hH (lv_sub hl [1, 2, 3] rfl)
  exact l2 nn2 0 en2 _ _ _ hH (lv_sub hl [1, 2, 0] rfl)
abbrev rm_X8_why : Room := { frames := 5, cells := 0, slots := 0, locals := 127 }
set_option maxHeartbeats 4000000 in
theorem met_X8_why {l : Launch} {D : va_G} {ad : Nat → Nat} {cA : Nat → ClassId} {a_all : Nat → Int32} {a_hasImage : Nat → Int32} {a_tape : Nat → Int32} {a_fresh : Nat → Int32} {v_taped : Int32} {v_at : Int32} {v_behind : Int32} {v_size : Int32} {v_kind : Int32} {v_number : Int32} {v_wrong : Int32} {v_wrongAt : Int32} {v_depth : Int32} {v_steps : Int32} {v_faultKind : Int32} {v_faultPlace : Int32} {a_on : Nat → Int32} {a_many : Nat → Int32} {v_moved : Int32} {a_pile : Nat → Int32} {v_aside : Int32} {v_judgedBy : Int32} {v_judgedYear : Int32} {a_leastCost : Nat → Int32} {a_matched : Nat → Int32} {a_order : Nat → Int32} {a_lies : Nat → Int64} {a_movedThen : Nat → Int32} {a_yearTable : Nat → Int32} {a_yearMark : Nat → Int32} {a_beginTable : Nat → Int32} {a_beginMark : Nat → Int32} {v_statesTold : Int32} {v_found : Int32} {v_yearFrom : Int32} {v_mark : Int32} {v_beginsMark : Int32} {v_begins : Int32} {a_began : Nat → Int64} {v_isSpent : Int32} {a_wants : Nat → Int32} {a_rowSort : Nat → Int32} {a_rowMany : Nat → Int32} {a_numbers : Nat → Int64}  {p1 : Int32} {res : Int32} {ra_on : Nat → Int32} {ra_many : Nat → Int32} {rv_moved : Int32} {ra_pile : Nat → Int32} {ra_lies : Nat → Int64} {ra_movedThen : Nat → Int32} {ra_yearTable : Nat → Int32} {ra_yearMark : Nat → Int32} {ra_beginTable : Nat → Int32} {ra_beginMark : Nat → Int32} {rv_found : Int32} {rv_yearFrom : Int32} {rv_mark : Int32} {rv_beginsMark : Int32} {rv_begins : Int32} {ra_began : Nat → Int64} {rv_isSpent : Int32} {ak av fo : Nat} {E : EvT} (hE : EvM E ak av fo) (hF : FX8_why a_all a_on a_many v_moved a_pile v_aside a_lies a_movedThen a_yearTable a_yearMark a_beginTable a_beginMark v_found v_yearFrom v_mark v_beginsMark v_begins a_began v_isSpent p1 = some (res, ra_on, ra_many, rv_moved, ra_pile, ra_lies, ra_movedThen, ra_yearTable, ra_yearMark, ra_beginTable, ra_beginMark, rv_found, rv_yearFrom, rv_mark, rv_beginsMark, rv_begins, ra_began, rv_isSpent)) : MM l yX8_why (ws_ yX8_why cX8_why 3 (Option.some Jvm.ClassFile.FieldType.int)) rm_X8_why D vwA (mT cA) E [.ref (ad 0), .int p1] (mW ad cA a_all a_hasImage a_tape a_fresh v_taped v_at v_behind v_size v_kind v_number v_wrong v_wrongAt v_depth v_steps v_faultKind v_faultPlace a_on a_many v_moved a_pile v_aside v_judgedBy v_judgedYear a_leastCost a_matched a_order a_lies a_movedThen a_yearTable a_yearMark a_beginTable a_beginMark v_statesTold v_found v_yearFrom v_mark v_beginsMark v_begins a_began v_isSpent a_wants a_rowSort a_rowMany a_numbers) (mW ad cA a_all a_hasImage a_tape a_fresh v_taped v_at v_behind v_size v_kind v_number v_wrong v_wrongAt v_depth v_steps v_faultKind v_faultPlace ra_on ra_many rv_moved ra_pile v_aside v_judgedBy v_judgedYear a_leastCost a_matched a_order ra_lies ra_movedThen ra_yearTable ra_yearMark ra_beginTable ra_beginMark v_statesTold rv_found rv_yearFrom rv_mark rv_beginsMark rv_begins ra_began rv_isSpent a_wants a_rowSort a_rowMany a_numbers) (some (.int res)) := by
  refine MM.ofI (by decide) (Nat.le_of_ble_eq_true rfl) ?_
  intro p e s m args below meth c Q A hX hK hE0 hret H locs ls hH hl
  have hX : CallFix p m c cX8_why 3 s args lw_all RX8 := hX
  have hx := hX.1
  have hb := hX.2.1
  have hown := hX.2.2.2.1
  have hts := hX.2.2.2.2
  have hl : lv_has ls 3 [(0, .ref (ad 0)), (1, .int p1)] := hl
  have hEv := hE.1
  delta FX8_why at hF
  refine lv_aload_n hx hb dX8_why_0 rfl (lv_at hl 0 rfl) ?_
  refine lv_iconst (v := 0) hx hb dX8_why_1 syi_0 ?_
  refine mp_thrown hX hK hH dX8_why_2 (fun H locs hH => ?_)
  refine lv_iload_n hx hb dX8_why_5 rfl (lv_at hl 1 rfl) ?_
  obtain ⟨b_46, he, hF⟩ := bd1e hF
  refine mcS hX hK hEv hE0 hH (met_X8_isWho hE he) gw_StoneYearModel_296 hd_yX8_isWho ⟨Nat.le_of_ble_eq_true rfl, Nat.le_of_ble_eq_true rfl⟩ rfl rfl hl (Nat.le_of_ble_eq_true rfl) dX8_why_6 ⟨Nat.le_of_ble_eq_true rfl, Nat.le_of_ble_eq_true rfl⟩ (fun H locs hH => ?_)
  refine lv_if_ne (tgt := 15) hx hb dX8_why_9 rfl (fun c_47 => ?_) (fun c_47 => ?_)
  · have hF := itn c_47 hF
    refine lv_aload_n hx hb dX8_why_15 rfl (lv_at hl 0 rfl) ?_
    refine lv_iload_n hx hb dX8_why_16 rfl (lv_at hl 1 rfl) ?_
    obtain ⟨x_48, a_on_49, a_many_50, v_moved_51, a_pile_52, a_lies_53, a_movedThen_54, a_yearTable_55, a_yearMark_56, a_beginTable_57, a_beginMark_58, v_found_59, v_yearFrom_60, v_mark_61, v_beginsMark_62, v_begins_63, a_began_64, v_isSpent_65, he, hF⟩ := bd18e hF
    refine mcV hX hK hEv hE0 hH (met_X8_canBe hE he) (mrecv hK hH) gw_StoneYearModel_414 hd_yX8_canBe ⟨Nat.le_of_ble_eq_true rfl, Nat.le_of_ble_eq_true rfl⟩ rfl rfl hl (Nat.le_of_ble_eq_true rfl) dX8_why_17 ⟨Nat.le_of_ble_eq_true rfl, Nat.le_of_ble_eq_true rfl⟩ (fun H locs hH => ?_)
    refine lv_istore_n (lv' := [(2, .int x_48), (0, .ref (ad 0)), (1, .int p1)]) hx hb dX8_why_20 rfl hl (by decide) rfl (fun ls hl => ?_)
    refine lv_iload_n hx hb dX8_why_21 rfl (lv_at hl 0 rfl) ?_
    refine lv_iconst (v := 1) hx hb dX8_why_22 syi_1 ?_
    refine lv_icmp_ne (tgt := 28) hx hb dX8_why_23 rfl (fun c_66 => ?_) (fun c_66 => ?_)
    · have hF := itn c_66 hF
      refine lv_aload_n hx hb dX8_why_28 rfl (lv_at hl 1 rfl) ?_
      refine lv_iload_n hx hb dX8_why_29 rfl (lv_at hl 2 rfl) ?_
      obtain ⟨b_67, he, hF⟩ := bd1e hF
      refine mcV hX hK hEv hE0 hH (met_X8_areTooFew hE he) (mrecv hK hH) gw_StoneYearModel_417 hd_yX8_areTooFew ⟨Nat.le_of_ble_eq_true rfl, Nat.le_of_ble_eq_true rfl⟩ rfl rfl hl (Nat.le_of_ble_eq_true rfl) dX8_why_30 ⟨Nat.le_of_ble_eq_true rfl, Nat.le_of_ble_eq_true rfl⟩ (fun H locs hH => ?_)
      refine lv_if_eq (tgt := 40) hx hb dX8_why_33 rfl (fun c_68 => ?_) (fun c_68 => ?_)
      · have hF := itp c_68 hF
        refine lv_aload_n hx hb dX8_why_40 rfl (lv_at hl 1 rfl) ?_
        refine lv_iload_n hx hb dX8_why_41 rfl (lv_at hl 2 rfl) ?_
        obtain ⟨b_69, he, hF⟩ := bd1e hF
        refine mcV hX hK hEv hE0 hH (met_X8_breaksMust hE he) (mrecv hK hH) gw_StoneYearModel_420 hd_yX8_breaksMust ⟨Nat.le_of_ble_eq_true rfl, Nat.le_of_ble_eq_true rfl⟩ rfl rfl hl (Nat.le_of_ble_eq_true rfl) dX8_why_42 ⟨Nat.le_of_ble_eq_true rfl, Nat.le_of_ble_eq_true rfl⟩ (fun H locs hH => ?_)
        refine lv_if_eq (tgt := 52) hx hb dX8_why_45 rfl (fun c_70 => ?_) (fun c_70 => ?_)
        · have hF := itp c_70 hF
          refine lv_iload_n hx hb dX8_why_52 rfl (lv_at hl 0 rfl) ?_
          refine lv_bipush (v := (-4)) hx hb dX8_why_53 syb_m4 ?_
          refine lv_icmp_ne (tgt := 63) hx hb dX8_why_55 rfl (fun c_71 => ?_) (fun c_71 => ?_)
          · have hF := itn c_71 hF
            refine lv_iconst (v := 3) hx hb dX8_why_63 syi_3 ?_
            obtain ⟨rfl, rfl, rfl, rfl, rfl, rfl, rfl, rfl, rfl, rfl, rfl, rfl, rfl, rfl, rfl, rfl, rfl, rfl⟩ := re18 hF
            exact hret _ _ _ _ hH dX8_why_64
          · have hF := itp c_71 hF
            refine lv_bipush (v := (-4)) hx hb dX8_why_58 syb_m4 ?_
            refine lv_goto (tgt := 64) hx hb dX8_why_60 rfl ?_
            obtain ⟨rfl, rfl, rfl, rfl, rfl, rfl, rfl, rfl, rfl, rfl, rfl, rfl, rfl, rfl, rfl, rfl, rfl, rfl⟩ := re18 hF
            exact hret _ _ _ _ hH dX8_why_64
        · have hF := itn c_70 hF
          refine lv_iconst (v := 2) hx hb dX8_why_48 syi_2 ?_
          refine lv_goto (tgt := 64) hx hb dX8_why_49 rfl ?_
          obtain ⟨rfl, rfl, rfl, rfl, rfl, rfl, rfl, rfl, rfl, rfl, rfl, rfl, rfl, rfl, rfl, rfl, rfl, rfl⟩ := re18 hF
          exact hret _ _ _ _ hH dX8_why_64
      · have hF := itn c_68 hF
        refine lv_iconst (v := 1) hx hb dX8_why_36 syi_1 ?_
        refine lv_goto (tgt := 64) hx hb dX8_why_37 rfl ?_
        obtain ⟨rfl, rfl, rfl, rfl, rfl, rfl, rfl, rfl, rfl, rfl, rfl, rfl, rfl, rfl, rfl, rfl, rfl, rfl⟩ := re18 hF
        exact hret _ _ _ _ hH dX8_why_64
    · have hF := itp c_66 hF
      refine lv_iconst (v := 0) hx hb dX8_why_26 syi_0 ?_
      obtain ⟨rfl, rfl, rfl, rfl, rfl, rfl, rfl, rfl, rfl, rfl, rfl, rfl, rfl, rfl, rfl, rfl, rfl, rfl⟩ := re18 hF
      exact hret _ _ _ _ hH dX8_why_27
  · have hF := itp c_47 hF
    refine lv_bipush (v := (-2)) hx hb dX8_why_12 syb_m2 ?_
    obtain ⟨rfl, rfl, rfl, rfl, rfl, rfl, rfl, rfl, rfl, rfl, rfl, rfl, rfl, rfl, rfl, rfl, rfl, rfl⟩ := re18 hF
    exact hret _ _ _ _ hH dX8_why_14
abbrev rm_X8_swaps : Room := { frames := 0, cells := 0, slots := 0, locals := 0 }
set_option maxHeartbeats 4000000 in
theorem met_X8_swaps {l : Launch} {D : va_G} {ad : Nat → Nat} {cA : Nat → ClassId} {a_all : Nat → Int32} {a_hasImage : Nat → Int32} {a_tape : Nat → Int32} {a_fresh : Nat → Int32} {v_taped : Int32} {v_at : Int32} {v_behind : Int32} {v_size : Int32} {v_kind : Int32} {v_number : Int32} {v_wrong : Int32} {v_wrongAt : Int32} {v_depth : Int32} {v_steps : Int32} {v_faultKind : Int32} {v_faultPlace : Int32} {a_on : Nat → Int32} {a_many : Nat → Int32} {v_moved : Int32} {a_pile : Nat → Int32} {v_aside : Int32} {v_judgedBy : Int32} {v_judgedYear : Int32} {a_leastCost : Nat → Int32} {a_matched : Nat → Int32} {a_order : Nat → Int32} {a_lies : Nat → Int64} {a_movedThen : Nat → Int32} {a_yearTable : Nat → Int32} {a_yearMark : Nat → Int32} {a_beginTable : Nat → Int32} {a_beginMark : Nat → Int32} {v_statesTold : Int32} {v_found : Int32} {v_yearFrom : Int32} {v_mark : Int32} {v_beginsMark : Int32} {v_begins : Int32} {a_began : Nat → Int64} {v_isSpent : Int32} {a_wants : Nat → Int32} {a_rowSort : Nat → Int32} {a_rowMany : Nat → Int32} {a_numbers : Nat → Int64}  {p1 : Int32} {p2 : Int32} {ra_all : Nat → Int32} {ak av fo : Nat} {E : EvT} (hE : EvM E ak av fo) (hF : FX8_swaps a_all p1 p2 = some ra_all) : MM l yX8_swaps (ws_ yX8_swaps cX8_swaps 4 (Option.none : Option Jvm.ClassFile.FieldType)) rm_X8_swaps D vwA (mT cA) E [.ref (ad 0), .int p1, .int p2] (mW ad cA a_all a_hasImage a_tape a_fresh v_taped v_at v_behind v_size v_kind v_number v_wrong v_wrongAt v_depth v_steps v_faultKind v_faultPlace a_on a_many v_moved a_pile v_aside v_judgedBy v_judgedYear a_leastCost a_matched a_order a_lies a_movedThen a_yearTable a_yearMark a_beginTable a_beginMark v_statesTold v_found v_yearFrom v_mark v_beginsMark v_begins a_began v_isSpent a_wants a_rowSort a_rowMany a_numbers) (mW ad cA ra_all a_hasImage a_tape a_fresh v_taped v_at v_behind v_size v_kind v_number v_wrong v_wrongAt v_depth v_steps v_faultKind v_faultPlace a_on a_many v_moved a_pile v_aside v_judgedBy v_judgedYear a_leastCost a_matched a_order a_lies a_movedThen a_yearTable a_yearMark a_beginTable a_beginMark v_statesTold v_found v_yearFrom v_mark v_beginsMark v_begins a_began v_isSpent a_wants a_rowSort a_rowMany a_numbers) none := by
  refine MM.ofV (by decide) (Nat.le_of_ble_eq_true rfl) ?_
  intro p e s m args below meth c Q A hX hK hE0 hret H locs ls hH hl
  have hX : CallFix p m c cX8_swaps 4 s args lw_all RX8 := hX
  have hx := hX.1
  have hb := hX.2.1
  have hown := hX.2.2.2.1
  have hts := hX.2.2.2.2
  have hl : lv_has ls 4 [(0, .ref (ad 0)), (1, .int p1), (2, .int p2)] := hl
  have hEv := hE.1
  delta FX8_swaps at hF
  refine lv_aload_n hx hb dX8_swaps_0 rfl (lv_at hl 0 rfl) ?_
  refine mg_all hX hK hH dX8_swaps_1 ?_
  refine lv_bipush (v := 41) hx hb dX8_swaps_4 syb_41 ?_
  refine lv_iload_n hx hb dX8_swaps_6 rfl (lv_at hl 1 rfl) ?_
  refine lv_iadd hx hb dX8_swaps_7 ?_
  obtain ⟨x_47, he, hF⟩ := bd1e hF
  refine ml_all hX hK hH he dX8_swaps_8 ?_
  refine lv_istore_n (lv' := [(3, .int x_47), (0, .ref (ad 0)), (1, .int p1), (2, .int p2)]) hx hb dX8_swaps_9 rfl hl (by decide) rfl (fun ls hl => ?_)
  refine lv_aload_n hx hb dX8_swaps_10 rfl (lv_at hl 1 rfl) ?_
  refine mg_all hX hK hH dX8_swaps_11 ?_
  refine lv_bipush (v := 41) hx hb dX8_swaps_14 syb_41 ?_
  refine lv_iload_n hx hb dX8_swaps_16 rfl (lv_at hl 2 rfl) ?_
  refine lv_iadd hx hb dX8_swaps_17 ?_
  refine lv_aload_n hx hb dX8_swaps_18 rfl (lv_at hl 1 rfl) ?_
  refine mg_all hX hK hH dX8_swaps_19 ?_
  refine lv_bipush (v := 41) hx hb dX8_swaps_22 syb_41 ?_
  refine lv_iload_n hx hb dX8_swaps_24 rfl (lv_at hl 3 rfl) ?_
  refine lv_iadd hx hb dX8_swaps_25 ?_
  obtain ⟨x_48, he, hF⟩ := bd1e hF
  refine ml_all hX hK hH he dX8_swaps_26 ?_
  obtain ⟨a_all_49, he, hF⟩ := bd1e hF
  refine ms_all hX hK hH he dX8_swaps_27 (fun H locs hH => ?_)
  refine lv_aload_n hx hb dX8_swaps_28 rfl (lv_at hl 1 rfl) ?_
  refine mg_all hX hK hH dX8_swaps_29 ?_
  refine lv_bipush (v := 41) hx hb dX8_swaps_32 syb_41 ?_
  refine lv_iload_n hx hb dX8_swaps_34 rfl (lv_at hl 3 rfl) ?_
  refine lv_iadd hx hb dX8_swaps_35 ?_
  refine lv_iload_n hx hb dX8_swaps_36 rfl (lv_at hl 0 rfl) ?_
  obtain ⟨a_all_50, he, hF⟩ := bd1e hF
  refine ms_all hX hK hH he dX8_swaps_37 (fun H locs hH => ?_)
  obtain rfl := Option.some.inj hF
  exact hret _ _ _ _ hH dX8_swaps_38
abbrev rm_X8_easier : Room := { frames := 5, cells := 0, slots := 0, locals := 128 }
set_option maxHeartbeats 4000000 in
theorem met_X8_easier {l : Launch} {D : va_G} {ad : Nat → Nat} {cA : Nat → ClassId} {a_all : Nat → Int32} {a_hasImage : Nat → Int32} {a_tape : Nat → Int32} {a_fresh : Nat → Int32} {v_taped : Int32} {v_at : Int32} {v_behind : Int32} {v_size : Int32} {v_kind : Int32} {v_number : Int32} {v_wrong : Int32} {v_wrongAt : Int32} {v_depth : Int32} {v_steps : Int32} {v_faultKind : Int32} {v_faultPlace : Int32} {a_on : Nat → Int32} {a_many : Nat → Int32} {v_moved : Int32} {a_pile : Nat → Int32} {v_aside : Int32} {v_judgedBy : Int32} {v_judgedYear : Int32} {a_leastCost : Nat → Int32} {a_matched : Nat → Int32} {a_order : Nat → Int32} {a_lies : Nat → Int64} {a_movedThen : Nat → Int32} {a_yearTable : Nat → Int32} {a_yearMark : Nat → Int32} {a_beginTable : Nat → Int32} {a_beginMark : Nat → Int32} {v_statesTold : Int32} {v_found : Int32} {v_yearFrom : Int32} {v_mark : Int32} {v_beginsMark : Int32} {v_begins : Int32} {a_began : Nat → Int64} {v_isSpent : Int32} {a_wants : Nat → Int32} {a_rowSort : Nat → Int32} {a_rowMany : Nat → Int32} {a_numbers : Nat → Int64}  {p1 : Int32} {res : Int32} {ra_all : Nat → Int32} {ra_on : Nat → Int32} {ra_many : Nat → Int32} {rv_moved : Int32} {ra_pile : Nat → Int32} {ra_lies : Nat → Int64} {ra_movedThen : Nat → Int32} {ra_yearTable : Nat → Int32} {ra_yearMark : Nat → Int32} {ra_beginTable : Nat → Int32} {ra_beginMark : Nat → Int32} {rv_found : Int32} {rv_yearFrom : Int32} {rv_mark : Int32} {rv_beginsMark : Int32} {rv_begins : Int32} {ra_began : Nat → Int64} {rv_isSpent : Int32} {ak av fo : Nat} {E : EvT} (hE : EvM E ak av fo) (hF : FX8_easier a_all a_on a_many v_moved a_pile v_aside a_lies a_movedThen a_yearTable a_yearMark a_beginTable a_beginMark v_found v_yearFrom v_mark v_beginsMark v_begins a_began v_isSpent p1 = some (res, ra_all, ra_on, ra_many, rv_moved, ra_pile, ra_lies, ra_movedThen, ra_yearTable, ra_yearMark, ra_beginTable, ra_beginMark, rv_found, rv_yearFrom, rv_mark, rv_beginsMark, rv_begins, ra_began, rv_isSpent)) : MM l yX8_easier (ws_ yX8_easier cX8_easier 9 (Option.some Jvm.ClassFile.FieldType.int)) rm_X8_easier D vwA (mT cA) E [.ref (ad 0), .int p1] (mW ad cA a_all a_hasImage a_tape a_fresh v_taped v_at v_behind v_size v_kind v_number v_wrong v_wrongAt v_depth v_steps v_faultKind v_faultPlace a_on a_many v_moved a_pile v_aside v_judgedBy v_judgedYear a_leastCost a_matched a_order a_lies a_movedThen a_yearTable a_yearMark a_beginTable a_beginMark v_statesTold v_found v_yearFrom v_mark v_beginsMark v_begins a_began v_isSpent a_wants a_rowSort a_rowMany a_numbers) (mW ad cA ra_all a_hasImage a_tape a_fresh v_taped v_at v_behind v_size v_kind v_number v_wrong v_wrongAt v_depth v_steps v_faultKind v_faultPlace ra_on ra_many rv_moved ra_pile v_aside v_judgedBy v_judgedYear a_leastCost a_matched a_order ra_lies ra_movedThen ra_yearTable ra_yearMark ra_beginTable ra_beginMark v_statesTold rv_found rv_yearFrom rv_mark rv_beginsMark rv_begins ra_began rv_isSpent a_wants a_rowSort a_rowMany a_numbers) (some (.int res)) := by
  refine MM.ofI (by decide) (Nat.le_of_ble_eq_true rfl) ?_
  intro p e s m args below meth c Q A hX hK hE0 hret H locs ls hH hl
  have hX : CallFix p m c cX8_easier 9 s args lw_all RX8 := hX
  have hx := hX.1
  have hb := hX.2.1
  have hown := hX.2.2.2.1
  have hts := hX.2.2.2.2
  have hl : lv_has ls 9 [(0, .ref (ad 0)), (1, .int p1)] := hl
  have hEv := hE.1
  delta FX8_easier at hF
  refine lv_aload_n hx hb dX8_easier_0 rfl (lv_at hl 0 rfl) ?_
  refine lv_iconst (v := 0) hx hb dX8_easier_1 syi_0 ?_
  refine mp_thrown hX hK hH dX8_easier_2 (fun H locs hH => ?_)
  refine lv_iload_n hx hb dX8_easier_5 rfl (lv_at hl 1 rfl) ?_
  refine lv_i2l (v := (Int32.toInt64 p1)) hx hb dX8_easier_6 rfl ?_
  refine lv_lconst (v := 0) hx hb dX8_easier_7 rfl ?_
  refine lv_ldc2 (v := 2) hx hb hown (hts _ q2174) dX8_easier_8 ?_
  obtain ⟨b_46, he, hF⟩ := bd1e hF
  refine mcS hX hK hEv hE0 hH (met_X8_within hE he) gw_StoneYearModel_153 hd_yX8_within ⟨Nat.le_of_ble_eq_true rfl, Nat.le_of_ble_eq_true rfl⟩ rfl rfl hl (Nat.le_of_ble_eq_true rfl) dX8_easier_11 ⟨Nat.le_of_ble_eq_true rfl, Nat.le_of_ble_eq_true rfl⟩ (fun H locs hH => ?_)
  refine lv_if_ne (tgt := 20) hx hb dX8_easier_14 rfl (fun c_47 => ?_) (fun c_47 => ?_)
  · have hF := itn c_47 hF
    refine lv_aload_n hx hb dX8_easier_20 rfl (lv_at hl 0 rfl) ?_
    obtain ⟨a_on_48, a_many_49, v_moved_50, he, hF⟩ := bd3e hF
    refine mcV hX hK hEv hE0 hH (met_X8_looksNow hE he) (mrecv hK hH) gw_StoneYearModel_260 hd_yX8_looksNow ⟨Nat.le_of_ble_eq_true rfl, Nat.le_of_ble_eq_true rfl⟩ rfl rfl hl (Nat.le_of_ble_eq_true rfl) dX8_easier_21 ⟨Nat.le_of_ble_eq_true rfl, Nat.le_of_ble_eq_true rfl⟩ (fun H locs hH => ?_)
    refine lv_aload_n hx hb dX8_easier_24 rfl (lv_at hl 0 rfl) ?_
    refine lv_iconst (v := (-1)) hx hb dX8_easier_25 syi_m1 ?_
    obtain ⟨x_51, a_on_52, a_many_53, v_moved_54, a_pile_55, a_lies_56, a_movedThen_57, a_yearTable_58, a_yearMark_59, a_beginTable_60, a_beginMark_61, v_found_62, v_yearFrom_63, v_mark_64, v_beginsMark_65, v_begins_66, a_began_67, v_isSpent_68, he, hF⟩ := bd18e hF
    refine mcV hX hK hEv hE0 hH (met_X8_sought hE he) (mrecv hK hH) gw_StoneYearModel_408 hd_yX8_sought ⟨Nat.le_of_ble_eq_true rfl, Nat.le_of_ble_eq_true rfl⟩ rfl rfl hl (Nat.le_of_ble_eq_true rfl) dX8_easier_26 ⟨Nat.le_of_ble_eq_true rfl, Nat.le_of_ble_eq_true rfl⟩ (fun H locs hH => ?_)
    refine lv_istore_n (lv' := [(2, .int x_51), (0, .ref (ad 0)), (1, .int p1)]) hx hb dX8_easier_29 rfl hl (by decide) rfl (fun ls hl => ?_)
    refine lv_iload_n hx hb dX8_easier_30 rfl (lv_at hl 0 rfl) ?_
    refine lv_bipush (v := (-4)) hx hb dX8_easier_31 syb_m4 ?_
    refine lv_icmp_ne (tgt := 39) hx hb dX8_easier_33 rfl (fun c_69 => ?_) (fun c_69 => ?_)
    · have hF := itn c_69 hF
      refine lv_iload_n hx hb dX8_easier_39 rfl (lv_at hl 0 rfl) ?_
      refine lv_istore_n (lv' := [(3, .int x_51), (2, .int x_51), (0, .ref (ad 0)), (1, .int p1)]) hx hb dX8_easier_40 rfl hl (by decide) rfl (fun ls hl => ?_)
      refine lv_iconst (v := (-1)) hx hb dX8_easier_41 syi_m1 ?_
      refine lv_istore (lv' := [(4, .int (-1)), (3, .int x_51), (2, .int x_51), (0, .ref (ad 0)), (1, .int p1)]) hx hb dX8_easier_42 hl (by decide) rfl (fun ls hl => ?_)
      refine lv_iconst (v := (-1)) hx hb dX8_easier_44 syi_m1 ?_
      refine lv_istore (lv' := [(5, .int (-1)), (4, .int (-1)), (3, .int x_51), (2, .int x_51), (0, .ref (ad 0)), (1, .int p1)]) hx hb dX8_easier_45 hl (by decide) rfl (fun ls hl => ?_)
      refine lv_iconst (v := 0) hx hb dX8_easier_47 syi_0 ?_
      refine lv_istore (lv' := [(6, .int 0), (5, .int (-1)), (4, .int (-1)), (3, .int x_51), (2, .int x_51), (0, .ref (ad 0)), (1, .int p1)]) hx hb dX8_easier_48 hl (by decide) rfl (fun ls hl => ?_)
      obtain ⟨xx50, ee50, kk50_0⟩ := bd21L hF
      have k50_0 : ∀ (x_400 : Int32) (x_401 : Int32) (x_402 : Int32) (a_all_403 : Nat → Int32) (a_on_404 : Nat → Int32) (a_many_405 : Nat → Int32) (v_moved_406 : Int32) (a_pile_407 : Nat → Int32) (a_lies_408 : Nat → Int64) (a_movedThen_409 : Nat → Int32) (a_yearTable_410 : Nat → Int32) (a_yearMark_411 : Nat → Int32) (a_beginTable_412 : Nat → Int32) (a_beginMark_413 : Nat → Int32) (v_found_414 : Int32) (v_yearFrom_415 : Int32) (v_mark_416 : Int32) (v_beginsMark_417 : Int32) (v_begins_418 : Int32) (a_began_419 : Nat → Int64) (v_isSpent_420 : Int32), xx50 = (x_400, x_401, x_402, a_all_403, a_on_404, a_many_405, v_moved_406, a_pile_407, a_lies_408, a_movedThen_409, a_yearTable_410, a_yearMark_411, a_beginTable_412, a_beginMark_413, v_found_414, v_yearFrom_415, v_mark_416, v_beginsMark_417, v_begins_418, a_began_419, v_isSpent_420) → ∀ (H : Heap) (locs : List Loc) (ls : Array Slot), MH D vwA A s.heap (mW ad cA a_all_403 a_hasImage a_tape a_fresh v_taped v_at v_behind v_size v_kind v_number v_wrong v_wrongAt v_depth v_steps v_faultKind v_faultPlace a_on_404 a_many_405 v_moved_406 a_pile_407 v_aside v_judgedBy v_judgedYear a_leastCost a_matched a_order a_lies_408 a_movedThen_409 a_yearTable_410 a_yearMark_411 a_beginTable_412 a_beginMark_413 v_statesTold v_found_414 v_yearFrom_415 v_mark_416 v_beginsMark_417 v_begins_418 a_began_419 v_isSpent_420 a_wants a_rowSort a_rowMany a_numbers) H locs → lv_has ls 9 [(1, .int p1), (3, .int x_400), (4, .int x_401), (5, .int x_402)] → W p l e rm_X8_easier s m args below meth c H locs 0 0 Q (F0 m 193 ls []) := by
        intro x_400 x_401 x_402 a_all_403 a_on_404 a_many_405 v_moved_406 a_pile_407 a_lies_408 a_movedThen_409 a_yearTable_410 a_yearMark_411 a_beginTable_412 a_beginMark_413 v_found_414 v_yearFrom_415 v_mark_416 v_beginsMark_417 v_begins_418 a_began_419 v_isSpent_420 hxx H locs ls hH hl
        have hF := un21e (kk50_0 (x_400, x_401, x_402, a_all_403, a_on_404, a_many_405, v_moved_406, a_pile_407, a_lies_408, a_movedThen_409, a_yearTable_410, a_yearMark_411, a_beginTable_412, a_beginMark_413, v_found_414, v_yearFrom_415, v_mark_416, v_beginsMark_417, v_begins_418, a_began_419, v_isSpent_420) hxx)
        refine lv_iload hx hb dX8_easier_193 (lv_at hl 2 rfl) ?_
        refine lv_iconst (v := (-1)) hx hb dX8_easier_195 syi_m1 ?_
        refine lv_icmp_ne (tgt := 203) hx hb dX8_easier_196 rfl (fun c_421 => ?_) (fun c_421 => ?_)
        · have hF := itn c_421 hF
          refine lv_iload_n hx hb dX8_easier_203 rfl (lv_at hl 0 rfl) ?_
          refine lv_if_ne (tgt := 211) hx hb dX8_easier_204 rfl (fun c_422 => ?_) (fun c_422 => ?_)
          · have hF := itn c_422 hF
            refine lv_iload_n hx hb dX8_easier_211 rfl (lv_at hl 0 rfl) ?_
            refine lv_iconst (v := 1) hx hb dX8_easier_212 syi_1 ?_
            refine lv_icmp_ne (tgt := 221) hx hb dX8_easier_213 rfl (fun c_423 => ?_) (fun c_423 => ?_)
            · have hF := itn c_423 hF
              refine lv_iload hx hb dX8_easier_221 (lv_at hl 3 rfl) ?_
              obtain ⟨rfl, rfl, rfl, rfl, rfl, rfl, rfl, rfl, rfl, rfl, rfl, rfl, rfl, rfl, rfl, rfl, rfl, rfl, rfl⟩ := re19 hF
              exact hret _ _ _ _ hH dX8_easier_223
            · have hF := itp c_423 hF
              refine lv_iload hx hb dX8_easier_216 (lv_at hl 2 rfl) ?_
              refine lv_goto (tgt := 223) hx hb dX8_easier_218 rfl ?_
              obtain ⟨rfl, rfl, rfl, rfl, rfl, rfl, rfl, rfl, rfl, rfl, rfl, rfl, rfl, rfl, rfl, rfl, rfl, rfl, rfl⟩ := re19 hF
              exact hret _ _ _ _ hH dX8_easier_223
          · have hF := itp c_422 hF
            refine lv_iload_n hx hb dX8_easier_207 rfl (lv_at hl 1 rfl) ?_
            refine lv_goto (tgt := 223) hx hb dX8_easier_208 rfl ?_
            obtain ⟨rfl, rfl, rfl, rfl, rfl, rfl, rfl, rfl, rfl, rfl, rfl, rfl, rfl, rfl, rfl, rfl, rfl, rfl, rfl⟩ := re19 hF
            exact hret _ _ _ _ hH dX8_easier_223
        · have hF := itp c_421 hF
          refine lv_iconst (v := (-1)) hx hb dX8_easier_199 syi_m1 ?_
          refine lv_goto (tgt := 223) hx hb dX8_easier_200 rfl ?_
          obtain ⟨rfl, rfl, rfl, rfl, rfl, rfl, rfl, rfl, rfl, rfl, rfl, rfl, rfl, rfl, rfl, rfl, rfl, rfl, rfl⟩ := re19 hF
          exact hret _ _ _ _ hH dX8_easier_223
      obtain ⟨nn50, en50⟩ := loopC_some ee50
      have l50 : ∀ (n : Nat) (x_224 : Int32) (x_225 : Int32) (x_226 : Int32) (x_227 : Int32) (a_all_228 : Nat → Int32) (a_on_229 : Nat → Int32) (a_many_230 : Nat → Int32) (v_moved_231 : Int32) (a_pile_232 : Nat → Int32) (a_lies_233 : Nat → Int64) (a_movedThen_234 : Nat → Int32) (a_yearTable_235 : Nat → Int32) (a_yearMark_236 : Nat → Int32) (a_beginTable_237 : Nat → Int32) (a_beginMark_238 : Nat → Int32) (v_found_239 : Int32) (v_yearFrom_240 : Int32) (v_mark_241 : Int32) (v_beginsMark_242 : Int32) (v_begins_243 : Int32) (a_began_244 : Nat → Int64) (v_isSpent_245 : Int32), loopN (fun s => FX8_easier_b50 v_aside s.1 s.2.1 s.2.2.1 s.2.2.2.1 s.2.2.2.2.1 s.2.2.2.2.2.1 s.2.2.2.2.2.2.1 s.2.2.2.2.2.2.2.1 s.2.2.2.2.2.2.2.2.1 s.2.2.2.2.2.2.2.2.2.1 s.2.2.2.2.2.2.2.2.2.2.1 s.2.2.2.2.2.2.2.2.2.2.2.1 s.2.2.2.2.2.2.2.2.2.2.2.2.1 s.2.2.2.2.2.2.2.2.2.2.2.2.2.1 s.2.2.2.2.2.2.2.2.2.2.2.2.2.2.1 s.2.2.2.2.2.2.2.2.2.2.2.2.2.2.2.1 s.2.2.2.2.2.2.2.2.2.2.2.2.2.2.2.2.1 s.2.2.2.2.2.2.2.2.2.2.2.2.2.2.2.2.2.1 s.2.2.2.2.2.2.2.2.2.2.2.2.2.2.2.2.2.2.1 s.2.2.2.2.2.2.2.2.2.2.2.2.2.2.2.2.2.2.2.1 s.2.2.2.2.2.2.2.2.2.2.2.2.2.2.2.2.2.2.2.2.1 s.2.2.2.2.2.2.2.2.2.2.2.2.2.2.2.2.2.2.2.2.2) n (x_224, x_225, x_226, x_227, a_all_228, a_on_229, a_many_230, v_moved_231, a_pile_232, a_lies_233, a_movedThen_234, a_yearTable_235, a_yearMark_236, a_beginTable_237, a_beginMark_238, v_found_239, v_yearFrom_240, v_mark_241, v_beginsMark_242, v_begins_243, a_began_244, v_isSpent_245) = some xx50 → ∀ (H : Heap) (locs : List Loc) (ls : Array Slot), MH D vwA A s.heap (mW ad cA a_all_228 a_hasImage a_tape a_fresh v_taped v_at v_behind v_size v_kind v_number v_wrong v_wrongAt v_depth v_steps v_faultKind v_faultPlace a_on_229 a_many_230 v_moved_231 a_pile_232 v_aside v_judgedBy v_judgedYear a_leastCost a_matched a_order a_lies_233 a_movedThen_234 a_yearTable_235 a_yearMark_236 a_beginTable_237 a_beginMark_238 v_statesTold v_found_239 v_yearFrom_240 v_mark_241 v_beginsMark_242 v_begins_243 a_began_244 v_isSpent_245 a_wants a_rowSort a_rowMany a_numbers) H locs → lv_has ls 9 [(0, .ref (ad 0)), (1, .int p1), (3, .int x_224), (4, .int x_225), (5, .int x_226), (6, .int x_227)] → W p l e rm_X8_easier s m args below meth c H locs 0 0 Q (F0 m 50 ls []) := by
        intro n
        induction n with
        | zero =>
          intro x_224 x_225 x_226 x_227 a_all_228 a_on_229 a_many_230 v_moved_231 a_pile_232 a_lies_233 a_movedThen_234 a_yearTable_235 a_yearMark_236 a_beginTable_237 a_beginMark_238 v_found_239 v_yearFrom_240 v_mark_241 v_beginsMark_242 v_begins_243 a_began_244 v_isSpent_245 hN
          exact absurd hN loopN_zero
        | succ n ih =>
          intro x_224 x_225 x_226 x_227 a_all_228 a_on_229 a_many_230 v_moved_231 a_pile_232 a_lies_233 a_movedThen_234 a_yearTable_235 a_yearMark_236 a_beginTable_237 a_beginMark_238 v_found_239 v_yearFrom_240 v_mark_241 v_beginsMark_242 v_begins_243 a_began_244 v_isSpent_245 hN H locs ls hH hl
          obtain ⟨yy50, hB50, hY50⟩ := loopN_succ hN
          have hF : FX8_easier_b50 v_aside x_224 x_225 x_226 x_227 a_all_228 a_on_229 a_many_230 v_moved_231 a_pile_232 a_lies_233 a_movedThen_234 a_yearTable_235 a_yearMark_236 a_beginTable_237 a_beginMark_238 v_found_239 v_yearFrom_240 v_mark_241 v_beginsMark_242 v_begins_243 a_began_244 v_isSpent_245 = some yy50 := hB50
          delta FX8_easier_b50 at hF
          refine lv_iload hx hb dX8_easier_50 (lv_at hl 5 rfl) ?_
          refine lv_bipush (v := 15) hx hb dX8_easier_52 syb_15 ?_
          refine lv_icmp_ge (tgt := 193) hx hb dX8_easier_54 rfl (fun c_246 => ?_) (fun c_246 => ?_)
          · have hF := itp c_246 hF
            obtain rfl := Option.some.inj hF
            exact k50_0 x_224 x_225 x_226 a_all_228 a_on_229 a_many_230 v_moved_231 a_pile_232 a_lies_233 a_movedThen_234 a_yearTable_235 a_yearMark_236 a_beginTable_237 a_beginMark_238 v_found_239 v_yearFrom_240 v_mark_241 v_beginsMark_242 v_begins_243 a_began_244 v_isSpent_245 hY50 _ _ _ hH (lv_sub hl [1, 2, 3, 4] rfl)
          · have hF := itn c_246 hF
            refine lv_iload hx hb dX8_easier_57 (lv_at hl 5 rfl) ?_
            refine lv_iconst (v := 1) hx hb dX8_easier_59 syi_1 ?_
            refine lv_iadd hx hb dX8_easier_60 ?_
            refine lv_istore (lv' := [(7, .int (x_227 + 1)), (0, .ref (ad 0)), (1, .int p1), (3, .int x_224), (4, .int x_225), (5, .int x_226), (6, .int x_227)]) hx hb dX8_easier_61 hl (by decide) rfl (fun ls hl => ?_)
            obtain ⟨xx63, ee63, kk63_0⟩ := bd21L hF
            have k63_0 : ∀ (x_379 : Int32) (x_380 : Int32) (x_381 : Int32) (a_all_382 : Nat → Int32) (a_on_383 : Nat → Int32) (a_many_384 : Nat → Int32) (v_moved_385 : Int32) (a_pile_386 : Nat → Int32) (a_lies_387 : Nat → Int64) (a_movedThen_388 : Nat → Int32) (a_yearTable_389 : Nat → Int32) (a_yearMark_390 : Nat → Int32) (a_beginTable_391 : Nat → Int32) (a_beginMark_392 : Nat → Int32) (v_found_393 : Int32) (v_yearFrom_394 : Int32) (v_mark_395 : Int32) (v_beginsMark_396 : Int32) (v_begins_397 : Int32) (a_began_398 : Nat → Int64) (v_isSpent_399 : Int32), xx63 = (x_379, x_380, x_381, a_all_382, a_on_383, a_many_384, v_moved_385, a_pile_386, a_lies_387, a_movedThen_388, a_yearTable_389, a_yearMark_390, a_beginTable_391, a_beginMark_392, v_found_393, v_yearFrom_394, v_mark_395, v_beginsMark_396, v_begins_397, a_began_398, v_isSpent_399) → ∀ (H : Heap) (locs : List Loc) (ls : Array Slot), MH D vwA A s.heap (mW ad cA a_all_382 a_hasImage a_tape a_fresh v_taped v_at v_behind v_size v_kind v_number v_wrong v_wrongAt v_depth v_steps v_faultKind v_faultPlace a_on_383 a_many_384 v_moved_385 a_pile_386 v_aside v_judgedBy v_judgedYear a_leastCost a_matched a_order a_lies_387 a_movedThen_388 a_yearTable_389 a_yearMark_390 a_beginTable_391 a_beginMark_392 v_statesTold v_found_393 v_yearFrom_394 v_mark_395 v_beginsMark_396 v_begins_397 a_began_398 v_isSpent_399 a_wants a_rowSort a_rowMany a_numbers) H locs → lv_has ls 9 [(0, .ref (ad 0)), (1, .int p1), (3, .int x_379), (4, .int x_380), (5, .int x_381), (6, .int x_227)] → W p l e rm_X8_easier s m args below meth c H locs 0 0 Q (F0 m 187 ls []) := by
              intro x_379 x_380 x_381 a_all_382 a_on_383 a_many_384 v_moved_385 a_pile_386 a_lies_387 a_movedThen_388 a_yearTable_389 a_yearMark_390 a_beginTable_391 a_beginMark_392 v_found_393 v_yearFrom_394 v_mark_395 v_beginsMark_396 v_begins_397 a_began_398 v_isSpent_399 hxx H locs ls hH hl
              have hF := un21e (kk63_0 (x_379, x_380, x_381, a_all_382, a_on_383, a_many_384, v_moved_385, a_pile_386, a_lies_387, a_movedThen_388, a_yearTable_389, a_yearMark_390, a_beginTable_391, a_beginMark_392, v_found_393, v_yearFrom_394, v_mark_395, v_beginsMark_396, v_begins_397, a_began_398, v_isSpent_399) hxx)
              refine lv_iinc (v := (x_227 + 1)) (lv' := [(6, .int (x_227 + 1)), (0, .ref (ad 0)), (1, .int p1), (3, .int x_379), (4, .int x_380), (5, .int x_381)]) hx hb dX8_easier_187 hl (k := 5) rfl (syc syi_1) (by decide) rfl (fun ls hl => ?_)
              refine lv_goto (tgt := 50) hx hb dX8_easier_190 rfl ?_
              obtain rfl := Option.some.inj hF
              exact ih x_379 x_380 x_381 (x_227 + 1) a_all_382 a_on_383 a_many_384 v_moved_385 a_pile_386 a_lies_387 a_movedThen_388 a_yearTable_389 a_yearMark_390 a_beginTable_391 a_beginMark_392 v_found_393 v_yearFrom_394 v_mark_395 v_beginsMark_396 v_begins_397 a_began_398 v_isSpent_399 hY50 _ _ _ hH (lv_sub hl [1, 2, 3, 4, 5, 0] rfl)
            obtain ⟨nn63, en63⟩ := loopC_some ee63
            have l63 : ∀ (n : Nat) (x_302 : Int32) (x_303 : Int32) (x_304 : Int32) (x_305 : Int32) (a_all_306 : Nat → Int32) (a_on_307 : Nat → Int32) (a_many_308 : Nat → Int32) (v_moved_309 : Int32) (a_pile_310 : Nat → Int32) (a_lies_311 : Nat → Int64) (a_movedThen_312 : Nat → Int32) (a_yearTable_313 : Nat → Int32) (a_yearMark_314 : Nat → Int32) (a_beginTable_315 : Nat → Int32) (a_beginMark_316 : Nat → Int32) (v_found_317 : Int32) (v_yearFrom_318 : Int32) (v_mark_319 : Int32) (v_beginsMark_320 : Int32) (v_begins_321 : Int32) (a_began_322 : Nat → Int64) (v_isSpent_323 : Int32), loopN (fun s => FX8_easier_b63 v_aside x_227 s.1 s.2.1 s.2.2.1 s.2.2.2.1 s.2.2.2.2.1 s.2.2.2.2.2.1 s.2.2.2.2.2.2.1 s.2.2.2.2.2.2.2.1 s.2.2.2.2.2.2.2.2.1 s.2.2.2.2.2.2.2.2.2.1 s.2.2.2.2.2.2.2.2.2.2.1 s.2.2.2.2.2.2.2.2.2.2.2.1 s.2.2.2.2.2.2.2.2.2.2.2.2.1 s.2.2.2.2.2.2.2.2.2.2.2.2.2.1 s.2.2.2.2.2.2.2.2.2.2.2.2.2.2.1 s.2.2.2.2.2.2.2.2.2.2.2.2.2.2.2.1 s.2.2.2.2.2.2.2.2.2.2.2.2.2.2.2.2.1 s.2.2.2.2.2.2.2.2.2.2.2.2.2.2.2.2.2.1 s.2.2.2.2.2.2.2.2.2.2.2.2.2.2.2.2.2.2.1 s.2.2.2.2.2.2.2.2.2.2.2.2.2.2.2.2.2.2.2.1 s.2.2.2.2.2.2.2.2.2.2.2.2.2.2.2.2.2.2.2.2.1 s.2.2.2.2.2.2.2.2.2.2.2.2.2.2.2.2.2.2.2.2.2) n (x_302, x_303, x_304, x_305, a_all_306, a_on_307, a_many_308, v_moved_309, a_pile_310, a_lies_311, a_movedThen_312, a_yearTable_313, a_yearMark_314, a_beginTable_315, a_beginMark_316, v_found_317, v_yearFrom_318, v_mark_319, v_beginsMark_320, v_begins_321, a_began_322, v_isSpent_323) = some xx63 → ∀ (H : Heap) (locs : List Loc) (ls : Array Slot), MH D vwA A s.heap (mW ad cA a_all_306 a_hasImage a_tape a_fresh v_taped v_at v_behind v_size v_kind v_number v_wrong v_wrongAt v_depth v_steps v_faultKind v_faultPlace a_on_307 a_many_308 v_moved_309 a_pile_310 v_aside v_judgedBy v_judgedYear a_leastCost a_matched a_order a_lies_311 a_movedThen_312 a_yearTable_313 a_yearMark_314 a_beginTable_315 a_beginMark_316 v_statesTold v_found_317 v_yearFrom_318 v_mark_319 v_beginsMark_320 v_begins_321 a_began_322 v_isSpent_323 a_wants a_rowSort a_rowMany a_numbers) H locs → lv_has ls 9 [(0, .ref (ad 0)), (1, .int p1), (3, .int x_302), (4, .int x_303), (5, .int x_304), (6, .int x_227), (7, .int x_305)] → W p l e rm_X8_easier s m args below meth c H locs 0 0 Q (F0 m 63 ls []) := by
              intro n
              induction n with
              | zero =>
                intro x_302 x_303 x_304 x_305 a_all_306 a_on_307 a_many_308 v_moved_309 a_pile_310 a_lies_311 a_movedThen_312 a_yearTable_313 a_yearMark_314 a_beginTable_315 a_beginMark_316 v_found_317 v_yearFrom_318 v_mark_319 v_beginsMark_320 v_begins_321 a_began_322 v_isSpent_323 hN
                exact absurd hN loopN_zero
              | succ n ih =>
                intro x_302 x_303 x_304 x_305 a_all_306 a_on_307 a_many_308 v_moved_309 a_pile_310 a_lies_311 a_movedThen_312 a_yearTable_313 a_yearMark_314 a_beginTable_315 a_beginMark_316 v_found_317 v_yearFrom_318 v_mark_319 v_beginsMark_320 v_begins_321 a_began_322 v_isSpent_323 hN H locs ls hH hl
                obtain ⟨yy63, hB63, hY63⟩ := loopN_succ hN
                have hF : FX8_easier_b63 v_aside x_227 x_302 x_303 x_304 x_305 a_all_306 a_on_307 a_many_308 v_moved_309 a_pile_310 a_lies_311 a_movedThen_312 a_yearTable_313 a_yearMark_314 a_beginTable_315 a_beginMark_316 v_found_317 v_yearFrom_318 v_mark_319 v_beginsMark_320 v_begins_321 a_began_322 v_isSpent_323 = some yy63 := hB63
                delta FX8_easier_b63 at hF
                refine lv_iload hx hb dX8_easier_63 (lv_at hl 6 rfl) ?_
                refine lv_bipush (v := 15) hx hb dX8_easier_65 syb_15 ?_
                refine lv_icmp_ge (tgt := 187) hx hb dX8_easier_67 rfl (fun c_324 => ?_) (fun c_324 => ?_)
                · have hF := itp c_324 hF
                  obtain rfl := Option.some.inj hF
                  exact k63_0 x_302 x_303 x_304 a_all_306 a_on_307 a_many_308 v_moved_309 a_pile_310 a_lies_311 a_movedThen_312 a_yearTable_313 a_yearMark_314 a_beginTable_315 a_beginMark_316 v_found_317 v_yearFrom_318 v_mark_319 v_beginsMark_320 v_begins_321 a_began_322 v_isSpent_323 hY63 _ _ _ hH (lv_sub hl [0, 1, 2, 3, 4, 5] rfl)
                · have hF := itn c_324 hF
                  refine lv_aload_n hx hb dX8_easier_70 rfl (lv_at hl 0 rfl) ?_
                  refine mg_all hX hK hH dX8_easier_71 ?_
                  refine lv_bipush (v := 41) hx hb dX8_easier_74 syb_41 ?_
                  refine lv_iload hx hb dX8_easier_76 (lv_at hl 5 rfl) ?_
                  refine lv_iadd hx hb dX8_easier_78 ?_
                  obtain ⟨x_325, he, hF⟩ := bd1e hF
                  refine ml_all hX hK hH he dX8_easier_79 ?_
                  refine lv_iconst (v := (-1)) hx hb dX8_easier_80 syi_m1 ?_
                  have j181 : ∀ (x_358 : Int32) (x_359 : Int32) (x_360 : Int32) (a_all_361 : Nat → Int32) (a_on_362 : Nat → Int32) (a_many_363 : Nat → Int32) (v_moved_364 : Int32) (a_pile_365 : Nat → Int32) (a_lies_366 : Nat → Int64) (a_movedThen_367 : Nat → Int32) (a_yearTable_368 : Nat → Int32) (a_yearMark_369 : Nat → Int32) (a_beginTable_370 : Nat → Int32) (a_beginMark_371 : Nat → Int32) (v_found_372 : Int32) (v_yearFrom_373 : Int32) (v_mark_374 : Int32) (v_beginsMark_375 : Int32) (v_begins_376 : Int32) (a_began_377 : Nat → Int64) (v_isSpent_378 : Int32), FX8_easier_j181 x_305 x_358 x_359 x_360 a_all_361 a_on_362 a_many_363 v_moved_364 a_pile_365 a_lies_366 a_movedThen_367 a_yearTable_368 a_yearMark_369 a_beginTable_370 a_beginMark_371 v_found_372 v_yearFrom_373 v_mark_374 v_beginsMark_375 v_begins_376 a_began_377 v_isSpent_378 = some yy63 → ∀ (H : Heap) (locs : List Loc) (ls : Array Slot), MH D vwA A s.heap (mW ad cA a_all_361 a_hasImage a_tape a_fresh v_taped v_at v_behind v_size v_kind v_number v_wrong v_wrongAt v_depth v_steps v_faultKind v_faultPlace a_on_362 a_many_363 v_moved_364 a_pile_365 v_aside v_judgedBy v_judgedYear a_leastCost a_matched a_order a_lies_366 a_movedThen_367 a_yearTable_368 a_yearMark_369 a_beginTable_370 a_beginMark_371 v_statesTold v_found_372 v_yearFrom_373 v_mark_374 v_beginsMark_375 v_begins_376 a_began_377 v_isSpent_378 a_wants a_rowSort a_rowMany a_numbers) H locs → lv_has ls 9 [(0, .ref (ad 0)), (1, .int p1), (3, .int x_358), (4, .int x_359), (5, .int x_360), (6, .int x_227), (7, .int x_305)] → W p l e rm_X8_easier s m args below meth c H locs 0 0 Q (F0 m 181 ls []) := by
                    intro x_358 x_359 x_360 a_all_361 a_on_362 a_many_363 v_moved_364 a_pile_365 a_lies_366 a_movedThen_367 a_yearTable_368 a_yearMark_369 a_beginTable_370 a_beginMark_371 v_found_372 v_yearFrom_373 v_mark_374 v_beginsMark_375 v_begins_376 a_began_377 v_isSpent_378 hF H locs ls hH hl
                    delta FX8_easier_j181 at hF
                    refine lv_iinc (v := (x_305 + 1)) (lv' := [(7, .int (x_305 + 1)), (0, .ref (ad 0)), (1, .int p1), (3, .int x_358), (4, .int x_359), (5, .int x_360), (6, .int x_227)]) hx hb dX8_easier_181 hl (k := 6) rfl (syc syi_1) (by decide) rfl (fun ls hl => ?_)
                    refine lv_goto (tgt := 63) hx hb dX8_easier_184 rfl ?_
                    obtain rfl := Option.some.inj hF
                    exact ih x_358 x_359 x_360 (x_305 + 1) a_all_361 a_on_362 a_many_363 v_moved_364 a_pile_365 a_lies_366 a_movedThen_367 a_yearTable_368 a_yearMark_369 a_beginTable_370 a_beginMark_371 v_found_372 v_yearFrom_373 v_mark_374 v_beginsMark_375 v_begins_376 a_began_377 v_isSpent_378 hY63 _ _ _ hH (lv_sub hl [1, 2, 3, 4, 5, 6, 0] rfl)
                  refine lv_icmp_eq (tgt := 181) hx hb dX8_easier_81 rfl (fun c_326 => ?_) (fun c_326 => ?_)
                  · have hF := itp c_326 hF
                    exact j181 x_302 x_303 x_304 a_all_306 a_on_307 a_many_308 v_moved_309 a_pile_310 a_lies_311 a_movedThen_312 a_yearTable_313 a_yearMark_314 a_beginTable_315 a_beginMark_316 v_found_317 v_yearFrom_318 v_mark_319 v_beginsMark_320 v_begins_321 a_began_322 v_isSpent_323 hF _ _ _ hH (lv_sub hl [0, 1, 2, 3, 4, 5, 6] rfl)
                  · have hF := itn c_326 hF
                    refine lv_aload_n hx hb dX8_easier_84 rfl (lv_at hl 0 rfl) ?_
                    refine mg_all hX hK hH dX8_easier_85 ?_
                    refine lv_bipush (v := 41) hx hb dX8_easier_88 syb_41 ?_
                    refine lv_iload hx hb dX8_easier_90 (lv_at hl 6 rfl) ?_
                    refine lv_iadd hx hb dX8_easier_92 ?_
                    obtain ⟨x_327, he, hF⟩ := bd1e hF
                    refine ml_all hX hK hH he dX8_easier_93 ?_
                    refine lv_iconst (v := (-1)) hx hb dX8_easier_94 syi_m1 ?_
                    refine lv_icmp_eq (tgt := 181) hx hb dX8_easier_95 rfl (fun c_328 => ?_) (fun c_328 => ?_)
                    · have hF := itp c_328 hF
                      exact j181 x_302 x_303 x_304 a_all_306 a_on_307 a_many_308 v_moved_309 a_pile_310 a_lies_311 a_movedThen_312 a_yearTable_313 a_yearMark_314 a_beginTable_315 a_beginMark_316 v_found_317 v_yearFrom_318 v_mark_319 v_beginsMark_320 v_begins_321 a_began_322 v_isSpent_323 hF _ _ _ hH (lv_sub hl [0, 1, 2, 3, 4, 5, 6] rfl)
                    · have hF := itn c_328 hF
                      refine lv_aload_n hx hb dX8_easier_98 rfl (lv_at hl 0 rfl) ?_
                      refine mg_all hX hK hH dX8_easier_99 ?_
                      refine lv_bipush (v := 41) hx hb dX8_easier_102 syb_41 ?_
                      refine lv_iload hx hb dX8_easier_104 (lv_at hl 5 rfl) ?_
                      refine lv_iadd hx hb dX8_easier_106 ?_
                      obtain ⟨x_329, he, hF⟩ := bd1e hF
                      refine ml_all hX hK hH he dX8_easier_107 ?_
                      refine lv_aload_n hx hb dX8_easier_108 rfl (lv_at hl 0 rfl) ?_
                      refine mg_all hX hK hH dX8_easier_109 ?_
                      refine lv_bipush (v := 41) hx hb dX8_easier_112 syb_41 ?_
                      refine lv_iload hx hb dX8_easier_114 (lv_at hl 6 rfl) ?_
                      refine lv_iadd hx hb dX8_easier_116 ?_
                      obtain ⟨x_330, he, hF⟩ := bd1e hF
                      refine ml_all hX hK hH he dX8_easier_117 ?_
                      refine lv_icmp_ne (tgt := 124) hx hb dX8_easier_118 rfl (fun c_331 => ?_) (fun c_331 => ?_)
                      · have hF := itn c_331 hF
                        refine lv_aload_n hx hb dX8_easier_124 rfl (lv_at hl 0 rfl) ?_
                        refine lv_iload hx hb dX8_easier_125 (lv_at hl 5 rfl) ?_
                        refine lv_iload hx hb dX8_easier_127 (lv_at hl 6 rfl) ?_
                        obtain ⟨a_all_332, he, hF⟩ := bd1e hF
                        refine mcV hX hK hEv hE0 hH (met_X8_swaps hE he) (mrecv hK hH) gw_StoneYearModel_425 hd_yX8_swaps ⟨Nat.le_of_ble_eq_true rfl, Nat.le_of_ble_eq_true rfl⟩ rfl rfl hl (Nat.le_of_ble_eq_true rfl) dX8_easier_129 ⟨Nat.le_of_ble_eq_true rfl, Nat.le_of_ble_eq_true rfl⟩ (fun H locs hH => ?_)
                        refine lv_aload_n hx hb dX8_easier_132 rfl (lv_at hl 0 rfl) ?_
                        obtain ⟨a_on_333, a_many_334, v_moved_335, he, hF⟩ := bd3e hF
                        refine mcV hX hK hEv hE0 hH (met_X8_looksNow hE he) (mrecv hK hH) gw_StoneYearModel_260 hd_yX8_looksNow ⟨Nat.le_of_ble_eq_true rfl, Nat.le_of_ble_eq_true rfl⟩ rfl rfl hl (Nat.le_of_ble_eq_true rfl) dX8_easier_133 ⟨Nat.le_of_ble_eq_true rfl, Nat.le_of_ble_eq_true rfl⟩ (fun H locs hH => ?_)
                        refine lv_aload_n hx hb dX8_easier_136 rfl (lv_at hl 0 rfl) ?_
                        refine lv_iconst (v := (-1)) hx hb dX8_easier_137 syi_m1 ?_
                        obtain ⟨x_336, a_on_337, a_many_338, v_moved_339, a_pile_340, a_lies_341, a_movedThen_342, a_yearTable_343, a_yearMark_344, a_beginTable_345, a_beginMark_346, v_found_347, v_yearFrom_348, v_mark_349, v_beginsMark_350, v_begins_351, a_began_352, v_isSpent_353, he, hF⟩ := bd18e hF
                        refine mcV hX hK hEv hE0 hH (met_X8_sought hE he) (mrecv hK hH) gw_StoneYearModel_408 hd_yX8_sought ⟨Nat.le_of_ble_eq_true rfl, Nat.le_of_ble_eq_true rfl⟩ rfl rfl hl (Nat.le_of_ble_eq_true rfl) dX8_easier_138 ⟨Nat.le_of_ble_eq_true rfl, Nat.le_of_ble_eq_true rfl⟩ (fun H locs hH => ?_)
                        refine lv_istore (lv' := [(8, .int x_336), (0, .ref (ad 0)), (1, .int p1), (3, .int x_302), (4, .int x_303), (5, .int x_304), (6, .int x_227), (7, .int x_305)]) hx hb dX8_easier_141 hl (by decide) rfl (fun ls hl => ?_)
                        refine lv_aload_n hx hb dX8_easier_143 rfl (lv_at hl 1 rfl) ?_
                        refine lv_iload hx hb dX8_easier_144 (lv_at hl 6 rfl) ?_
                        refine lv_iload hx hb dX8_easier_146 (lv_at hl 7 rfl) ?_
                        obtain ⟨a_all_354, he, hF⟩ := bd1e hF
                        refine mcV hX hK hEv hE0 hH (met_X8_swaps hE he) (mrecv hK hH) gw_StoneYearModel_425 hd_yX8_swaps ⟨Nat.le_of_ble_eq_true rfl, Nat.le_of_ble_eq_true rfl⟩ rfl rfl hl (Nat.le_of_ble_eq_true rfl) dX8_easier_148 ⟨Nat.le_of_ble_eq_true rfl, Nat.le_of_ble_eq_true rfl⟩ (fun H locs hH => ?_)
                        refine lv_iload hx hb dX8_easier_151 (lv_at hl 0 rfl) ?_
                        refine lv_if_lt (tgt := 181) hx hb dX8_easier_153 rfl (fun c_355 => ?_) (fun c_355 => ?_)
                        · have hF := itp c_355 hF
                          exact j181 x_302 x_303 x_304 a_all_354 a_on_337 a_many_338 v_moved_339 a_pile_340 a_lies_341 a_movedThen_342 a_yearTable_343 a_yearMark_344 a_beginTable_345 a_beginMark_346 v_found_347 v_yearFrom_348 v_mark_349 v_beginsMark_350 v_begins_351 a_began_352 v_isSpent_353 hF _ _ _ hH (lv_sub hl [1, 2, 3, 4, 5, 6, 7] rfl)
                        · have hF := itn c_355 hF
                          refine lv_iload_n hx hb dX8_easier_156 rfl (lv_at hl 3 rfl) ?_
                          refine lv_iconst (v := (-1)) hx hb dX8_easier_157 syi_m1 ?_
                          have j170 : FX8_easier_j170 x_227 x_305 x_336 a_on_337 a_many_338 v_moved_339 a_pile_340 a_lies_341 a_movedThen_342 a_yearTable_343 a_yearMark_344 a_beginTable_345 a_beginMark_346 v_found_347 v_yearFrom_348 v_mark_349 v_beginsMark_350 v_begins_351 a_began_352 v_isSpent_353 a_all_354 = some yy63 → ∀ (H : Heap) (locs : List Loc) (ls : Array Slot), MH D vwA A s.heap (mW ad cA a_all_354 a_hasImage a_tape a_fresh v_taped v_at v_behind v_size v_kind v_number v_wrong v_wrongAt v_depth v_steps v_faultKind v_faultPlace a_on_337 a_many_338 v_moved_339 a_pile_340 v_aside v_judgedBy v_judgedYear a_leastCost a_matched a_order a_lies_341 a_movedThen_342 a_yearTable_343 a_yearMark_344 a_beginTable_345 a_beginMark_346 v_statesTold v_found_347 v_yearFrom_348 v_mark_349 v_beginsMark_350 v_begins_351 a_began_352 v_isSpent_353 a_wants a_rowSort a_rowMany a_numbers) H locs → lv_has ls 9 [(0, .ref (ad 0)), (1, .int p1), (6, .int x_227), (7, .int x_305), (8, .int x_336)] → W p l e rm_X8_easier s m args below meth c H locs 0 0 Q (F0 m 170 ls []) := by
                            intro hF H locs ls hH hl
                            delta FX8_easier_j170 at hF
                            refine lv_iload hx hb dX8_easier_170 (lv_at hl 4 rfl) ?_
                            refine lv_istore_n (lv' := [(3, .int x_336), (0, .ref (ad 0)), (1, .int p1), (6, .int x_227), (7, .int x_305), (8, .int x_336)]) hx hb dX8_easier_172 rfl hl (by decide) rfl (fun ls hl => ?_)
                            refine lv_iload hx hb dX8_easier_173 (lv_at hl 3 rfl) ?_
                            refine lv_istore (lv' := [(4, .int x_227), (3, .int x_336), (0, .ref (ad 0)), (1, .int p1), (6, .int x_227), (7, .int x_305), (8, .int x_336)]) hx hb dX8_easier_175 hl (by decide) rfl (fun ls hl => ?_)
                            refine lv_iload hx hb dX8_easier_177 (lv_at hl 5 rfl) ?_
                            refine lv_istore (lv' := [(5, .int x_305), (4, .int x_227), (3, .int x_336), (0, .ref (ad 0)), (1, .int p1), (6, .int x_227), (7, .int x_305), (8, .int x_336)]) hx hb dX8_easier_179 hl (by decide) rfl (fun ls hl => ?_)
                            exact j181 x_336 x_227 x_305 a_all_354 a_on_337 a_many_338 v_moved_339 a_pile_340 a_lies_341 a_movedThen_342 a_yearTable_343 a_yearMark_344 a_beginTable_345 a_beginMark_346 v_found_347 v_yearFrom_348 v_mark_349 v_beginsMark_350 v_begins_351 a_began_352 v_isSpent_353 hF _ _ _ hH (lv_sub hl [3, 4, 2, 1, 0, 5, 6] rfl)
                          refine lv_icmp_eq (tgt := 170) hx hb dX8_easier_158 rfl (fun c_356 => ?_) (fun c_356 => ?_)
                          · have hF := itp c_356 hF
                            exact j170 hF _ _ _ hH (lv_sub hl [1, 2, 6, 7, 0] rfl)
                          · have hF := itn c_356 hF
                            refine lv_iload hx hb dX8_easier_161 (lv_at hl 0 rfl) ?_
                            refine lv_iload_n hx hb dX8_easier_163 rfl (lv_at hl 3 rfl) ?_
                            refine lv_icmp_lt (tgt := 170) hx hb dX8_easier_164 rfl (fun c_357 => ?_) (fun c_357 => ?_)
                            · have hF := itp c_357 hF
                              exact j170 hF _ _ _ hH (lv_sub hl [1, 2, 6, 7, 0] rfl)
                            · have hF := itn c_357 hF
                              refine lv_goto (tgt := 181) hx hb dX8_easier_167 rfl ?_
                              exact j181 x_302 x_303 x_304 a_all_354 a_on_337 a_many_338 v_moved_339 a_pile_340 a_lies_341 a_movedThen_342 a_yearTable_343 a_yearMark_344 a_beginTable_345 a_beginMark_346 v_found_347 v_yearFrom_348 v_mark_349 v_beginsMark_350 v_begins_351 a_began_352 v_isSpent_353 hF _ _ _ hH (lv_sub hl [1, 2, 3, 4, 5, 6, 7] rfl)
                      · have hF := itp c_331 hF
                        refine lv_goto (tgt := 181) hx hb dX8_easier_121 rfl ?_
                        exact j181 x_302 x_303 x_304 a_all_306 a_on_307 a_many_308 v_moved_309 a_pile_310 a_lies_311 a_movedThen_312 a_yearTable_313 a_yearMark_314 a_beginTable_315 a_beginMark_316 v_found_317 v_yearFrom_318 v_mark_319 v_beginsMark_320 v_begins_321 a_began_322 v_isSpent_323 hF _ _ _ hH (lv_sub hl [0, 1, 2, 3, 4, 5, 6] rfl)
            exact l63 nn63 x_224 x_225 x_226 (x_227 + 1) a_all_228 a_on_229 a_many_230 v_moved_231 a_pile_232 a_lies_233 a_movedThen_234 a_yearTable_235 a_yearMark_236 a_beginTable_237 a_beginMark_238 v_found_239 v_yearFrom_240 v_mark_241 v_beginsMark_242 v_begins_243 a_began_244 v_isSpent_245 en63 _ _ _ hH (lv_sub hl [1, 2, 3, 4, 5, 6, 0] rfl)
      exact l50 nn50 x_51 (-1) (-1) 0 a_all a_on_52 a_many_53 v_moved_54 a_pile_55 a_lies_56 a_movedThen_57 a_yearTable_58 a_yearMark_59 a_beginTable_60 a_beginMark_61 v_found_62 v_yearFrom_63 v_mark_64 v_beginsMark_65 v_begins_66 a_began_67 v_isSpent_68 en50 _ _ _ hH (lv_sub hl [5, 6, 3, 2, 1, 0] rfl)
    · have hF := itp c_69 hF
      refine lv_bipush (v := (-4)) hx hb dX8_easier_36 syb_m4 ?_
      obtain ⟨rfl, rfl, rfl, rfl, rfl, rfl, rfl, rfl, rfl, rfl, rfl, rfl, rfl, rfl, rfl, rfl, rfl, rfl, rfl⟩ := re19 hF
      exact hret _ _ _ _ hH dX8_easier_38
  · have hF := itp c_47 hF
    refine lv_bipush (v := (-2)) hx hb dX8_easier_17 syb_m2 ?_
    obtain ⟨rfl, rfl, rfl, rfl, rfl, rfl, rfl, rfl, rfl, rfl, rfl, rfl, rfl, rfl, rfl, rfl, rfl, rfl, rfl⟩ := re19 hF
    exact hret _ _ _ _ hH dX8_easier_19
abbrev rm_X8_laysWall : Room := { frames := 1, cells := 0, slots := 0, locals := 25 }
set_option maxHeartbeats 4000000 in
theorem met_X8_laysWall {l : Launch} {D : va_G} {ad : Nat → Nat} {cA : Nat → ClassId} {a_all : Nat → Int32} {a_hasImage : Nat → Int32} {a_tape : Nat → Int32} {a_fresh : Nat → Int32} {v_taped : Int32} {v_at : Int32} {v_behind : Int32} {v_size : Int32} {v_kind : Int32} {v_number : Int32} {v_wrong : Int32} {v_wrongAt : Int32} {v_depth : Int32} {v_steps : Int32} {v_faultKind : Int32} {v_faultPlace : Int32} {a_on : Nat → Int32} {a_many : Nat → Int32} {v_moved : Int32} {a_pile : Nat → Int32} {v_aside : Int32} {v_judgedBy : Int32} {v_judgedYear : Int32} {a_leastCost : Nat → Int32} {a_matched : Nat → Int32} {a_order : Nat → Int32} {a_lies : Nat → Int64} {a_movedThen : Nat → Int32} {a_yearTable : Nat → Int32} {a_yearMark : Nat → Int32} {a_beginTable : Nat → Int32} {a_beginMark : Nat → Int32} {v_statesTold : Int32} {v_found : Int32} {v_yearFrom : Int32} {v_mark : Int32} {v_beginsMark : Int32} {v_begins : Int32} {a_began : Nat → Int64} {v_isSpent : Int32} {a_wants : Nat → Int32} {a_rowSort : Nat → Int32} {a_rowMany : Nat → Int32} {a_numbers : Nat → Int64}  {p1 : Int32} {p2 : Int32} {res : Int32} {ra_wants : Nat → Int32} {ak av fo : Nat} {E : EvT} (hE : EvM E ak av fo) (hF : FX8_laysWall a_wants a_rowSort a_rowMany a_numbers p1 p2 = some (res, ra_wants)) : MM l yX8_laysWall (ws_ yX8_laysWall cX8_laysWall 8 (Option.some Jvm.ClassFile.FieldType.int)) rm_X8_laysWall D vwA (mT cA) E [.ref (ad 0), .int p1, .int p2] (mW ad cA a_all a_hasImage a_tape a_fresh v_taped v_at v_behind v_size v_kind v_number v_wrong v_wrongAt v_depth v_steps v_faultKind v_faultPlace a_on a_many v_moved a_pile v_aside v_judgedBy v_judgedYear a_leastCost a_matched a_order a_lies a_movedThen a_yearTable a_yearMark a_beginTable a_beginMark v_statesTold v_found v_yearFrom v_mark v_beginsMark v_begins a_began v_isSpent a_wants a_rowSort a_rowMany a_numbers) (mW ad cA a_all a_hasImage a_tape a_fresh v_taped v_at v_behind v_size v_kind v_number v_wrong v_wrongAt v_depth v_steps v_faultKind v_faultPlace a_on a_many v_moved a_pile v_aside v_judgedBy v_judgedYear a_leastCost a_matched a_order a_lies a_movedThen a_yearTable a_yearMark a_beginTable a_beginMark v_statesTold v_found v_yearFrom v_mark v_beginsMark v_begins a_began v_isSpent ra_wants a_rowSort a_rowMany a_numbers) (some (.int res)) := by
  refine MM.ofI (by decide) (Nat.le_of_ble_eq_true rfl) ?_
  intro p e s m args below meth c Q A hX hK hE0 hret H locs ls hH hl
  have hX : CallFix p m c cX8_laysWall 8 s args lw_all RX8 := hX
  have hx := hX.1
  have hb := hX.2.1
  have hown := hX.2.2.2.1
  have hts := hX.2.2.2.2
  have hl : lv_has ls 8 [(0, .ref (ad 0)), (1, .int p1), (2, .int p2)] := hl
  have hEv := hE.1
  delta FX8_laysWall at hF
  refine lv_iload_n hx hb dX8_laysWall_0 rfl (lv_at hl 2 rfl) ?_
  refine lv_i2l (v := (Int32.toInt64 p2)) hx hb dX8_laysWall_1 rfl ?_
  refine lv_lconst (v := 1) hx hb dX8_laysWall_2 rfl ?_
  refine lv_ldc2 (v := 40) hx hb hown (hts _ q2187) dX8_laysWall_3 ?_
  obtain ⟨b_47, he, hF⟩ := bd1e hF
  refine mcS hX hK hEv hE0 hH (met_X8_within hE he) gw_StoneYearModel_153 hd_yX8_within ⟨Nat.le_of_ble_eq_true rfl, Nat.le_of_ble_eq_true rfl⟩ rfl rfl hl (Nat.le_of_ble_eq_true rfl) dX8_laysWall_6 ⟨Nat.le_of_ble_eq_true rfl, Nat.le_of_ble_eq_true rfl⟩ (fun H locs hH => ?_)
  refine lv_if_ne (tgt := 15) hx hb dX8_laysWall_9 rfl (fun c_48 => ?_) (fun c_48 => ?_)
  · have hF := itn c_48 hF
    refine lv_aload_n hx hb dX8_laysWall_15 rfl (lv_at hl 0 rfl) ?_
    refine mg_rowSort hX hK hH dX8_laysWall_16 ?_
    refine lv_iload_n hx hb dX8_laysWall_19 rfl (lv_at hl 1 rfl) ?_
    obtain ⟨x_49, he, hF⟩ := bd1e hF
    refine ml_rowSort hX hK hH he dX8_laysWall_20 ?_
    refine lv_iconst (v := (-1)) hx hb dX8_laysWall_21 syi_m1 ?_
    refine lv_icmp_ne (tgt := 28) hx hb dX8_laysWall_22 rfl (fun c_50 => ?_) (fun c_50 => ?_)
    · have hF := itn c_50 hF
      refine lv_aload_n hx hb dX8_laysWall_28 rfl (lv_at hl 0 rfl) ?_
      refine mg_rowMany hX hK hH dX8_laysWall_29 ?_
      refine lv_iload_n hx hb dX8_laysWall_32 rfl (lv_at hl 1 rfl) ?_
      obtain ⟨x_51, he, hF⟩ := bd1e hF
      refine ml_rowMany hX hK hH he dX8_laysWall_33 ?_
      refine lv_iload_n hx hb dX8_laysWall_34 rfl (lv_at hl 2 rfl) ?_
      refine lv_icmp_ge (tgt := 41) hx hb dX8_laysWall_35 rfl (fun c_52 => ?_) (fun c_52 => ?_)
      · have hF := itp c_52 hF
        refine lv_lconst (v := 0) hx hb dX8_laysWall_41 rfl ?_
        refine lv_lstore_n (lv' := [(3, .long 0), (0, .ref (ad 0)), (1, .int p1), (2, .int p2)]) hx hb dX8_laysWall_42 rfl hl (by decide) rfl (fun ls hl => ?_)
        refine lv_iconst (v := 0) hx hb dX8_laysWall_43 syi_0 ?_
        refine lv_istore (lv' := [(5, .int 0), (3, .long 0), (0, .ref (ad 0)), (1, .int p1), (2, .int p2)]) hx hb dX8_laysWall_44 hl (by decide) rfl (fun ls hl => ?_)
        obtain ⟨xx46, ee46, kk46_0, kk46_1⟩ := bdS2e hF
        have k46_0 : ∀ (a_wants_68 : Nat → Int32), xx46 = (.inl a_wants_68) → ∀ (H : Heap) (locs : List Loc) (ls : Array Slot), MH D vwA A s.heap (mW ad cA a_all a_hasImage a_tape a_fresh v_taped v_at v_behind v_size v_kind v_number v_wrong v_wrongAt v_depth v_steps v_faultKind v_faultPlace a_on a_many v_moved a_pile v_aside v_judgedBy v_judgedYear a_leastCost a_matched a_order a_lies a_movedThen a_yearTable a_yearMark a_beginTable a_beginMark v_statesTold v_found v_yearFrom v_mark v_beginsMark v_begins a_began v_isSpent a_wants_68 a_rowSort a_rowMany a_numbers) H locs → lv_has ls 8 [] → W p l e rm_X8_laysWall s m args below meth c H locs 0 0 Q (F0 m 91 ls []) := by
          intro a_wants_68 hxx H locs ls hH hl
          have hF := un1e (kk46_0 a_wants_68 hxx)
          refine lv_bipush (v := (-3)) hx hb dX8_laysWall_91 syb_m3 ?_
          obtain ⟨rfl, rfl⟩ := re2 hF
          exact hret _ _ _ _ hH dX8_laysWall_93
        have k46_1 : ∀ (a_wants_69 : Nat → Int32), xx46 = (.inr a_wants_69) → ∀ (H : Heap) (locs : List Loc) (ls : Array Slot), MH D vwA A s.heap (mW ad cA a_all a_hasImage a_tape a_fresh v_taped v_at v_behind v_size v_kind v_number v_wrong v_wrongAt v_depth v_steps v_faultKind v_faultPlace a_on a_many v_moved a_pile v_aside v_judgedBy v_judgedYear a_leastCost a_matched a_order a_lies a_movedThen a_yearTable a_yearMark a_beginTable a_beginMark v_statesTold v_found v_yearFrom v_mark v_beginsMark v_begins a_began v_isSpent a_wants_69 a_rowSort a_rowMany a_numbers) H locs → lv_has ls 8 [] → W p l e rm_X8_laysWall s m args below meth c H locs 0 0 Q (F0 m 118 ls []) := by
          intro a_wants_69 hxx H locs ls hH hl
          have hF := un1e (kk46_1 a_wants_69 hxx)
          refine lv_iconst (v := 0) hx hb dX8_laysWall_118 syi_0 ?_
          obtain ⟨rfl, rfl⟩ := re2 hF
          exact hret _ _ _ _ hH dX8_laysWall_119
        obtain ⟨nn46, en46⟩ := loopC_some ee46
        have l46 : ∀ (n : Nat) (y_59 : Int64) (x_60 : Int32) (a_wants_61 : Nat → Int32), loopN (fun s => FX8_laysWall_b46 a_numbers p1 p2 s.1 s.2.1 s.2.2) n (y_59, x_60, a_wants_61) = some xx46 → ∀ (H : Heap) (locs : List Loc) (ls : Array Slot), MH D vwA A s.heap (mW ad cA a_all a_hasImage a_tape a_fresh v_taped v_at v_behind v_size v_kind v_number v_wrong v_wrongAt v_depth v_steps v_faultKind v_faultPlace a_on a_many v_moved a_pile v_aside v_judgedBy v_judgedYear a_leastCost a_matched a_order a_lies a_movedThen a_yearTable a_yearMark a_beginTable a_beginMark v_statesTold v_found v_yearFrom v_mark v_beginsMark v_begins a_began v_isSpent a_wants_61 a_rowSort a_rowMany a_numbers) H locs → lv_has ls 8 [(0, .ref (ad 0)), (1, .int p1), (2, .int p2), (3, .long y_59), (5, .int x_60)] → W p l e rm_X8_laysWall s m args below meth c H locs 0 0 Q (F0 m 46 ls []) := by
          intro n
          induction n with
          | zero =>
            intro y_59 x_60 a_wants_61 hN
            exact absurd hN loopN_zero
          | succ n ih =>
            intro y_59 x_60 a_wants_61 hN H locs ls hH hl
            obtain ⟨yy46, hB46, hY46⟩ := loopN_succ hN
            have hF : FX8_laysWall_b46 a_numbers p1 p2 y_59 x_60 a_wants_61 = some yy46 := hB46
            delta FX8_laysWall_b46 at hF
            refine lv_iload hx hb dX8_laysWall_46 (lv_at hl 4 rfl) ?_
            refine lv_iload_n hx hb dX8_laysWall_48 rfl (lv_at hl 2 rfl) ?_
            refine lv_icmp_ge (tgt := 118) hx hb dX8_laysWall_49 rfl (fun c_62 => ?_) (fun c_62 => ?_)
            · have hF := itp c_62 hF
              obtain rfl := Option.some.inj hF
              exact k46_1 a_wants_61 hY46 _ _ _ hH (lv_sub hl [] rfl)
            · have hF := itn c_62 hF
              refine lv_aload_n hx hb dX8_laysWall_52 rfl (lv_at hl 0 rfl) ?_
              refine mg_numbers hX hK hH dX8_laysWall_53 ?_
              refine lv_bipush (v := 40) hx hb dX8_laysWall_56 syb_40 ?_
              refine lv_iload_n hx hb dX8_laysWall_58 rfl (lv_at hl 1 rfl) ?_
              refine lv_imul hx hb dX8_laysWall_59 ?_
              refine lv_iload hx hb dX8_laysWall_60 (lv_at hl 4 rfl) ?_
              refine lv_iadd hx hb dX8_laysWall_62 ?_
              obtain ⟨y_63, he, hF⟩ := bd1e hF
              refine ml_numbers hX hK hH he dX8_laysWall_63 ?_
              refine lv_lstore (lv' := [(6, .long y_63), (0, .ref (ad 0)), (1, .int p1), (2, .int p2), (3, .long y_59), (5, .int x_60)]) hx hb dX8_laysWall_64 hl (by decide) rfl (fun ls hl => ?_)
              refine lv_lload hx hb dX8_laysWall_66 (lv_at hl 0 rfl) ?_
              refine lv_lconst (v := 0) hx hb dX8_laysWall_68 rfl ?_
              refine lv_iload_n hx hb dX8_laysWall_69 rfl (lv_at hl 3 rfl) ?_
              refine lv_iconst (v := 1) hx hb dX8_laysWall_70 syi_1 ?_
              refine lv_isub hx hb dX8_laysWall_71 ?_
              refine lv_i2l (v := (Int32.toInt64 (p2 - 1))) hx hb dX8_laysWall_72 rfl ?_
              obtain ⟨b_64, he, hF⟩ := bd1e hF
              refine mcS hX hK hEv hE0 hH (met_X8_within hE he) gw_StoneYearModel_153 hd_yX8_within ⟨Nat.le_of_ble_eq_true rfl, Nat.le_of_ble_eq_true rfl⟩ rfl rfl hl (Nat.le_of_ble_eq_true rfl) dX8_laysWall_73 ⟨Nat.le_of_ble_eq_true rfl, Nat.le_of_ble_eq_true rfl⟩ (fun H locs hH => ?_)
              refine lv_if_eq (tgt := 91) hx hb dX8_laysWall_76 rfl (fun c_65 => ?_) (fun c_65 => ?_)
              · have hF := itp c_65 hF
                obtain rfl := Option.some.inj hF
                exact k46_0 a_wants_61 hY46 _ _ _ hH (lv_sub hl [] rfl)
              · have hF := itn c_65 hF
                refine lv_lload_n hx hb dX8_laysWall_79 rfl (lv_at hl 4 rfl) ?_
                refine lv_lload hx hb dX8_laysWall_80 (lv_at hl 0 rfl) ?_
                refine lv_l2i (v := (Int64.toInt32 y_63)) hx hb dX8_laysWall_82 rfl ?_
                refine lv_lshr hx hb dX8_laysWall_83 rfl ?_
                refine lv_lconst (v := 1) hx hb dX8_laysWall_84 rfl ?_
                refine lv_land hx hb dX8_laysWall_85 ?_
                refine lv_lconst (v := 1) hx hb dX8_laysWall_86 rfl ?_
                refine W.lcmp hx hb dX8_laysWall_87 ?_
                refine lv_if_ne (tgt := 94) hx hb dX8_laysWall_88 rfl (fun c_66 => ?_) (fun c_66 => ?_)
                · have hF := itn c_66 hF
                  refine lv_lload_n hx hb dX8_laysWall_94 rfl (lv_at hl 4 rfl) ?_
                  refine lv_lconst (v := 1) hx hb dX8_laysWall_95 rfl ?_
                  refine lv_lload hx hb dX8_laysWall_96 (lv_at hl 0 rfl) ?_
                  refine lv_l2i (v := (Int64.toInt32 y_63)) hx hb dX8_laysWall_98 rfl ?_
                  refine lv_lshl hx hb dX8_laysWall_99 rfl ?_
                  refine lv_lor hx hb dX8_laysWall_100 ?_
                  refine lv_lstore_n (lv' := [(3, .long (y_59 ||| (shlL 1 (Int64.toInt32 y_63)))), (6, .long y_63), (0, .ref (ad 0)), (1, .int p1), (2, .int p2), (5, .int x_60)]) hx hb dX8_laysWall_101 rfl hl (by decide) rfl (fun ls hl => ?_)
                  refine lv_aload_n hx hb dX8_laysWall_102 rfl (lv_at hl 2 rfl) ?_
                  refine mg_wants hX hK hH dX8_laysWall_103 ?_
                  refine lv_iload hx hb dX8_laysWall_106 (lv_at hl 5 rfl) ?_
                  refine lv_lload hx hb dX8_laysWall_108 (lv_at hl 1 rfl) ?_
                  refine lv_l2i (v := (Int64.toInt32 y_63)) hx hb dX8_laysWall_110 rfl ?_
                  obtain ⟨a_wants_67, he, hF⟩ := bd1e hF
                  refine ms_wants hX hK hH he dX8_laysWall_111 (fun H locs hH => ?_)
                  refine lv_iinc (v := (x_60 + 1)) (lv' := [(5, .int (x_60 + 1)), (3, .long (y_59 ||| (shlL 1 (Int64.toInt32 y_63)))), (6, .long y_63), (0, .ref (ad 0)), (1, .int p1), (2, .int p2)]) hx hb dX8_laysWall_112 hl (k := 5) rfl (syc syi_1) (by decide) rfl (fun ls hl => ?_)
                  refine lv_goto (tgt := 46) hx hb dX8_laysWall_115 rfl ?_
                  obtain rfl := Option.some.inj hF
                  exact ih (y_59 ||| (shlL 1 (Int64.toInt32 y_63))) (x_60 + 1) a_wants_67 hY46 _ _ _ hH (lv_sub hl [3, 4, 5, 1, 0] rfl)
                · have hF := itp c_66 hF
                  obtain rfl := Option.some.inj hF
                  exact k46_0 a_wants_61 hY46 _ _ _ hH (lv_sub hl [] rfl)
        exact l46 nn46 0 0 a_wants en46 _ _ _ hH (lv_sub hl [2, 3, 4, 1, 0] rfl)
      · have hF := itn c_52 hF
        refine lv_bipush (v := (-7)) hx hb dX8_laysWall_38 syb_m7 ?_
        obtain ⟨rfl, rfl⟩ := re2 hF
        exact hret _ _ _ _ hH dX8_laysWall_40
    · have hF := itp c_50 hF
      refine lv_bipush (v := (-6)) hx hb dX8_laysWall_25 syb_m6 ?_
      obtain ⟨rfl, rfl⟩ := re2 hF
      exact hret _ _ _ _ hH dX8_laysWall_27
  · have hF := itp c_48 hF
    refine lv_bipush (v := (-3)) hx hb dX8_laysWall_12 syb_m3 ?_
    obtain ⟨rfl, rfl⟩ := re2 hF
    exact hret _ _ _ _ hH dX8_laysWall_14
abbrev rm_X8_wallYears : Room := { frames := 0, cells := 0, slots := 0, locals := 0 }
set_option maxHeartbeats 4000000 in
theorem met_X8_wallYears {l : Launch} {D : va_G} {ad : Nat → Nat} {cA : Nat → ClassId} {a_all : Nat → Int32} {a_hasImage : Nat → Int32} {a_tape : Nat → Int32} {a_fresh : Nat → Int32} {v_taped : Int32} {v_at : Int32} {v_behind : Int32} {v_size : Int32} {v_kind : Int32} {v_number : Int32} {v_wrong : Int32} {v_wrongAt : Int32} {v_depth : Int32} {v_steps : Int32} {v_faultKind : Int32} {v_faultPlace : Int32} {a_on : Nat → Int32} {a_many : Nat → Int32} {v_moved : Int32} {a_pile : Nat → Int32} {v_aside : Int32} {v_judgedBy : Int32} {v_judgedYear : Int32} {a_leastCost : Nat → Int32} {a_matched : Nat → Int32} {a_order : Nat → Int32} {a_lies : Nat → Int64} {a_movedThen : Nat → Int32} {a_yearTable : Nat → Int32} {a_yearMark : Nat → Int32} {a_beginTable : Nat → Int32} {a_beginMark : Nat → Int32} {v_statesTold : Int32} {v_found : Int32} {v_yearFrom : Int32} {v_mark : Int32} {v_beginsMark : Int32} {v_begins : Int32} {a_began : Nat → Int64} {v_isSpent : Int32} {a_wants : Nat → Int32} {a_rowSort : Nat → Int32} {a_rowMany : Nat → Int32} {a_numbers : Nat → Int64}  {p1 : Int32} {res : Int32} {ak av fo : Nat} {E : EvT} (hE : EvM E ak av fo) (hF : FX8_wallYears a_wants p1 = some res) : MM l yX8_wallYears (ws_ yX8_wallYears cX8_wallYears 5 (Option.some Jvm.ClassFile.FieldType.int)) rm_X8_wallYears D vwA (mT cA) E [.ref (ad 0), .int p1] (mW ad cA a_all a_hasImage a_tape a_fresh v_taped v_at v_behind v_size v_kind v_number v_wrong v_wrongAt v_depth v_steps v_faultKind v_faultPlace a_on a_many v_moved a_pile v_aside v_judgedBy v_judgedYear a_leastCost a_matched a_order a_lies a_movedThen a_yearTable a_yearMark a_beginTable a_beginMark v_statesTold v_found v_yearFrom v_mark v_beginsMark v_begins a_began v_isSpent a_wants a_rowSort a_rowMany a_numbers) (mW ad cA a_all a_hasImage a_tape a_fresh v_taped v_at v_behind v_size v_kind v_number v_wrong v_wrongAt v_depth v_steps v_faultKind v_faultPlace a_on a_many v_moved a_pile v_aside v_judgedBy v_judgedYear a_leastCost a_matched a_order a_lies a_movedThen a_yearTable a_yearMark a_beginTable a_beginMark v_statesTold v_found v_yearFrom v_mark v_beginsMark v_begins a_began v_isSpent a_wants a_rowSort a_rowMany a_numbers) (some (.int res)) := by
  refine MM.ofI (by decide) (Nat.le_of_ble_eq_true rfl) ?_
  intro p e s m args below meth c Q A hX hK hE0 hret H locs ls hH hl
  have hX : CallFix p m c cX8_wallYears 5 s args lw_all RX8 := hX
  have hx := hX.1
  have hb := hX.2.1
  have hown := hX.2.2.2.1
  have hts := hX.2.2.2.2
  have hl : lv_has ls 5 [(0, .ref (ad 0)), (1, .int p1)] := hl
  have hEv := hE.1
  delta FX8_wallYears at hF
  refine lv_iconst (v := 0) hx hb dX8_wallYears_0 syi_0 ?_
  refine lv_istore_n (lv' := [(2, .int 0), (0, .ref (ad 0)), (1, .int p1)]) hx hb dX8_wallYears_1 rfl hl (by decide) rfl (fun ls hl => ?_)
  refine lv_iconst (v := 0) hx hb dX8_wallYears_2 syi_0 ?_
  refine lv_istore_n (lv' := [(3, .int 0), (2, .int 0), (0, .ref (ad 0)), (1, .int p1)]) hx hb dX8_wallYears_3 rfl hl (by decide) rfl (fun ls hl => ?_)
  obtain ⟨xx4, ee4, kk4_0⟩ := bd1L hF
  have k4_0 : ∀ (x_68 : Int32), xx4 = x_68 → ∀ (H : Heap) (locs : List Loc) (ls : Array Slot), MH D vwA A s.heap (mW ad cA a_all a_hasImage a_tape a_fresh v_taped v_at v_behind v_size v_kind v_number v_wrong v_wrongAt v_depth v_steps v_faultKind v_faultPlace a_on a_many v_moved a_pile v_aside v_judgedBy v_judgedYear a_leastCost a_matched a_order a_lies a_movedThen a_yearTable a_yearMark a_beginTable a_beginMark v_statesTold v_found v_yearFrom v_mark v_beginsMark v_begins a_began v_isSpent a_wants a_rowSort a_rowMany a_numbers) H locs → lv_has ls 5 [(2, .int x_68)] → W p l e rm_X8_wallYears s m args below meth c H locs 0 0 Q (F0 m 63 ls []) := by
    intro x_68 hxx H locs ls hH hl
    have hF := un1e (kk4_0 x_68 hxx)
    refine lv_iload_n hx hb dX8_wallYears_63 rfl (lv_at hl 0 rfl) ?_
    obtain rfl := Option.some.inj hF
    exact hret _ _ _ _ hH dX8_wallYears_64
  obtain ⟨nn4, en4⟩ := loopC_some ee4
  have l4 : ∀ (n : Nat) (x_56 : Int32) (x_57 : Int32), loopN (fun s => FX8_wallYears_b4 a_wants p1 s.1 s.2) n (x_56, x_57) = some xx4 → ∀ (H : Heap) (locs : List Loc) (ls : Array Slot), MH D vwA A s.heap (mW ad cA a_all a_hasImage a_tape a_fresh v_taped v_at v_behind v_size v_kind v_number v_wrong v_wrongAt v_depth v_steps v_faultKind v_faultPlace a_on a_many v_moved a_pile v_aside v_judgedBy v_judgedYear a_leastCost a_matched a_order a_lies a_movedThen a_yearTable a_yearMark a_beginTable a_beginMark v_statesTold v_found v_yearFrom v_mark v_beginsMark v_begins a_began v_isSpent a_wants a_rowSort a_rowMany a_numbers) H locs → lv_has ls 5 [(0, .ref (ad 0)), (1, .int p1), (2, .int x_56), (3, .int x_57)] → W p l e rm_X8_wallYears s m args below meth c H locs 0 0 Q (F0 m 4 ls []) := by
    intro n
    induction n with
    | zero =>
      intro x_56 x_57 hN
      exact absurd hN loopN_zero
    | succ n ih =>
      intro x_56 x_57 hN H locs ls hH hl
      obtain ⟨yy4, hB4, hY4⟩ := loopN_succ hN
      have hF : FX8_wallYears_b4 a_wants p1 x_56 x_57 = some yy4 := hB4
      delta FX8_wallYears_b4 at hF
      refine lv_iload_n hx hb dX8_wallYears_4 rfl (lv_at hl 3 rfl) ?_
      refine lv_iload_n hx hb dX8_wallYears_5 rfl (lv_at hl 1 rfl) ?_
      refine lv_icmp_ge (tgt := 63) hx hb dX8_wallYears_6 rfl (fun c_58 => ?_) (fun c_58 => ?_)
      · have hF := itp c_58 hF
        obtain rfl := Option.some.inj hF
        exact k4_0 x_56 hY4 _ _ _ hH (lv_sub hl [2] rfl)
      · have hF := itn c_58 hF
        refine lv_aload_n hx hb dX8_wallYears_9 rfl (lv_at hl 0 rfl) ?_
        refine mg_wants hX hK hH dX8_wallYears_10 ?_
        refine lv_iload_n hx hb dX8_wallYears_13 rfl (lv_at hl 3 rfl) ?_
        obtain ⟨x_59, he, hF⟩ := bd1e hF
        refine ml_wants hX hK hH he dX8_wallYears_14 ?_
        refine lv_iload_n hx hb dX8_wallYears_15 rfl (lv_at hl 3 rfl) ?_
        have j57 : ∀ (x_67 : Int32), FX8_wallYears_j57 x_57 x_67 = some yy4 → ∀ (H : Heap) (locs : List Loc) (ls : Array Slot), MH D vwA A s.heap (mW ad cA a_all a_hasImage a_tape a_fresh v_taped v_at v_behind v_size v_kind v_number v_wrong v_wrongAt v_depth v_steps v_faultKind v_faultPlace a_on a_many v_moved a_pile v_aside v_judgedBy v_judgedYear a_leastCost a_matched a_order a_lies a_movedThen a_yearTable a_yearMark a_beginTable a_beginMark v_statesTold v_found v_yearFrom v_mark v_beginsMark v_begins a_began v_isSpent a_wants a_rowSort a_rowMany a_numbers) H locs → lv_has ls 5 [(0, .ref (ad 0)), (1, .int p1), (2, .int x_67), (3, .int x_57)] → W p l e rm_X8_wallYears s m args below meth c H locs 0 0 Q (F0 m 57 ls []) := by
          intro x_67 hF H locs ls hH hl
          delta FX8_wallYears_j57 at hF
          refine lv_iinc (v := (x_57 + 1)) (lv' := [(3, .int (x_57 + 1)), (0, .ref (ad 0)), (1, .int p1), (2, .int x_67)]) hx hb dX8_wallYears_57 hl (k := 3) rfl (syc syi_1) (by decide) rfl (fun ls hl => ?_)
          refine lv_goto (tgt := 4) hx hb dX8_wallYears_60 rfl ?_
          obtain rfl := Option.some.inj hF
          exact ih x_67 (x_57 + 1) hY4 _ _ _ hH (lv_sub hl [1, 2, 3, 0] rfl)
        refine lv_icmp_ne (tgt := 22) hx hb dX8_wallYears_16 rfl (fun c_60 => ?_) (fun c_60 => ?_)
        · have hF := itn c_60 hF
          refine lv_aload_n hx hb dX8_wallYears_22 rfl (lv_at hl 0 rfl) ?_
          refine mg_wants hX hK hH dX8_wallYears_23 ?_
          refine lv_aload_n hx hb dX8_wallYears_26 rfl (lv_at hl 0 rfl) ?_
          refine mg_wants hX hK hH dX8_wallYears_27 ?_
          refine lv_iload_n hx hb dX8_wallYears_30 rfl (lv_at hl 3 rfl) ?_
          obtain ⟨x_61, he, hF⟩ := bd1e hF
          refine ml_wants hX hK hH he dX8_wallYears_31 ?_
          obtain ⟨x_62, he, hF⟩ := bd1e hF
          refine ml_wants hX hK hH he dX8_wallYears_32 ?_
          refine lv_iload_n hx hb dX8_wallYears_33 rfl (lv_at hl 3 rfl) ?_
          have j42 : ∀ (x_64 : Int32), FX8_wallYears_j42 x_56 x_57 x_64 = some yy4 → ∀ (H : Heap) (locs : List Loc) (ls : Array Slot), MH D vwA A s.heap (mW ad cA a_all a_hasImage a_tape a_fresh v_taped v_at v_behind v_size v_kind v_number v_wrong v_wrongAt v_depth v_steps v_faultKind v_faultPlace a_on a_many v_moved a_pile v_aside v_judgedBy v_judgedYear a_leastCost a_matched a_order a_lies a_movedThen a_yearTable a_yearMark a_beginTable a_beginMark v_statesTold v_found v_yearFrom v_mark v_beginsMark v_begins a_began v_isSpent a_wants a_rowSort a_rowMany a_numbers) H locs → lv_has ls 5 [(0, .ref (ad 0)), (1, .int p1), (2, .int x_56), (3, .int x_57)] → W p l e rm_X8_wallYears s m args below meth c H locs 0 0 Q (F0 m 42 ls [.int x_64]) := by
            intro x_64 hF H locs ls hH hl
            delta FX8_wallYears_j42 at hF
            refine lv_istore (lv' := [(4, .int x_64), (0, .ref (ad 0)), (1, .int p1), (2, .int x_56), (3, .int x_57)]) hx hb dX8_wallYears_42 hl (by decide) rfl (fun ls hl => ?_)
            refine lv_iload hx hb dX8_wallYears_44 (lv_at hl 0 rfl) ?_
            refine lv_iload_n hx hb dX8_wallYears_46 rfl (lv_at hl 3 rfl) ?_
            have j56 : ∀ (x_66 : Int32), FX8_wallYears_j56 x_57 x_66 = some yy4 → ∀ (H : Heap) (locs : List Loc) (ls : Array Slot), MH D vwA A s.heap (mW ad cA a_all a_hasImage a_tape a_fresh v_taped v_at v_behind v_size v_kind v_number v_wrong v_wrongAt v_depth v_steps v_faultKind v_faultPlace a_on a_many v_moved a_pile v_aside v_judgedBy v_judgedYear a_leastCost a_matched a_order a_lies a_movedThen a_yearTable a_yearMark a_beginTable a_beginMark v_statesTold v_found v_yearFrom v_mark v_beginsMark v_begins a_began v_isSpent a_wants a_rowSort a_rowMany a_numbers) H locs → lv_has ls 5 [(0, .ref (ad 0)), (1, .int p1), (3, .int x_57)] → W p l e rm_X8_wallYears s m args below meth c H locs 0 0 Q (F0 m 56 ls [.int x_66]) := by
              intro x_66 hF H locs ls hH hl
              delta FX8_wallYears_j56 at hF
              refine lv_istore_n (lv' := [(2, .int x_66), (0, .ref (ad 0)), (1, .int p1), (3, .int x_57)]) hx hb dX8_wallYears_56 rfl hl (by decide) rfl (fun ls hl => ?_)
              exact j57 x_66 hF _ _ _ hH (lv_sub hl [1, 2, 0, 3] rfl)
            refine lv_icmp_le (tgt := 55) hx hb dX8_wallYears_47 rfl (fun c_65 => ?_) (fun c_65 => ?_)
            · have hF := itp c_65 hF
              refine lv_iload_n hx hb dX8_wallYears_55 rfl (lv_at hl 3 rfl) ?_
              exact j56 x_56 hF _ _ _ hH (lv_sub hl [1, 2, 4] rfl)
            · have hF := itn c_65 hF
              refine lv_iload hx hb dX8_wallYears_50 (lv_at hl 0 rfl) ?_
              refine lv_goto (tgt := 56) hx hb dX8_wallYears_52 rfl ?_
              exact j56 x_64 hF _ _ _ hH (lv_sub hl [1, 2, 4] rfl)
          refine lv_icmp_ne (tgt := 41) hx hb dX8_wallYears_34 rfl (fun c_63 => ?_) (fun c_63 => ?_)
          · have hF := itn c_63 hF
            refine lv_iconst (v := 2) hx hb dX8_wallYears_41 syi_2 ?_
            exact j42 2 hF _ _ _ hH (lv_sub hl [0, 1, 2, 3] rfl)
          · have hF := itp c_63 hF
            refine lv_iconst (v := 1) hx hb dX8_wallYears_37 syi_1 ?_
            refine lv_goto (tgt := 42) hx hb dX8_wallYears_38 rfl ?_
            exact j42 1 hF _ _ _ hH (lv_sub hl [0, 1, 2, 3] rfl)
        · have hF := itp c_60 hF
          refine lv_goto (tgt := 57) hx hb dX8_wallYears_19 rfl ?_
          exact j57 x_56 hF _ _ _ hH (lv_sub hl [0, 1, 2, 3] rfl)
  exact l4 nn4 0 0 en4 _ _ _ hH (lv_sub hl [2, 3, 1, 0] rfl)
abbrev rm_X8_wall : Room := { frames := 2, cells := 0, slots := 0, locals := 52 }
set_option maxHeartbeats 4000000 in
theorem met_X8_wall {l : Launch} {D : va_G} {ad : Nat → Nat} {cA : Nat → ClassId} {a_all : Nat → Int32} {a_hasImage : Nat → Int32} {a_tape : Nat → Int32} {a_fresh : Nat → Int32} {v_taped : Int32} {v_at : Int32} {v_behind : Int32} {v_size : Int32} {v_kind : Int32} {v_number : Int32} {v_wrong : Int32} {v_wrongAt : Int32} {v_depth : Int32} {v_steps : Int32} {v_faultKind : Int32} {v_faultPlace : Int32} {a_on : Nat → Int32} {a_many : Nat → Int32} {v_moved : Int32} {a_pile : Nat → Int32} {v_aside : Int32} {v_judgedBy : Int32} {v_judgedYear : Int32} {a_leastCost : Nat → Int32} {a_matched : Nat → Int32} {a_order : Nat → Int32} {a_lies : Nat → Int64} {a_movedThen : Nat → Int32} {a_yearTable : Nat → Int32} {a_yearMark : Nat → Int32} {a_beginTable : Nat → Int32} {a_beginMark : Nat → Int32} {v_statesTold : Int32} {v_found : Int32} {v_yearFrom : Int32} {v_mark : Int32} {v_beginsMark : Int32} {v_begins : Int32} {a_began : Nat → Int64} {v_isSpent : Int32} {a_wants : Nat → Int32} {a_rowSort : Nat → Int32} {a_rowMany : Nat → Int32} {a_numbers : Nat → Int64}  {p1 : Int32} {p2 : Int32} {res : Int32} {ra_wants : Nat → Int32} {ak av fo : Nat} {E : EvT} (hE : EvM E ak av fo) (hF : FX8_wall a_wants a_rowSort a_rowMany a_numbers p1 p2 = some (res, ra_wants)) : MM l yX8_wall (ws_ yX8_wall cX8_wall 4 (Option.some Jvm.ClassFile.FieldType.int)) rm_X8_wall D vwA (mT cA) E [.ref (ad 0), .int p1, .int p2] (mW ad cA a_all a_hasImage a_tape a_fresh v_taped v_at v_behind v_size v_kind v_number v_wrong v_wrongAt v_depth v_steps v_faultKind v_faultPlace a_on a_many v_moved a_pile v_aside v_judgedBy v_judgedYear a_leastCost a_matched a_order a_lies a_movedThen a_yearTable a_yearMark a_beginTable a_beginMark v_statesTold v_found v_yearFrom v_mark v_beginsMark v_begins a_began v_isSpent a_wants a_rowSort a_rowMany a_numbers) (mW ad cA a_all a_hasImage a_tape a_fresh v_taped v_at v_behind v_size v_kind v_number v_wrong v_wrongAt v_depth v_steps v_faultKind v_faultPlace a_on a_many v_moved a_pile v_aside v_judgedBy v_judgedYear a_leastCost a_matched a_order a_lies a_movedThen a_yearTable a_yearMark a_beginTable a_beginMark v_statesTold v_found v_yearFrom v_mark v_beginsMark v_begins a_began v_isSpent ra_wants a_rowSort a_rowMany a_numbers) (some (.int res)) := by
  refine MM.ofI (by decide) (Nat.le_of_ble_eq_true rfl) ?_
  intro p e s m args below meth c Q A hX hK hE0 hret H locs ls hH hl
  have hX : CallFix p m c cX8_wall 4 s args lw_all RX8 := hX
  have hx := hX.1
  have hb := hX.2.1
  have hown := hX.2.2.2.1
  have hts := hX.2.2.2.2
  have hl : lv_has ls 4 [(0, .ref (ad 0)), (1, .int p1), (2, .int p2)] := hl
  have hEv := hE.1
  delta FX8_wall at hF
  refine lv_aload_n hx hb dX8_wall_0 rfl (lv_at hl 0 rfl) ?_
  refine lv_iconst (v := 0) hx hb dX8_wall_1 syi_0 ?_
  refine mp_thrown hX hK hH dX8_wall_2 (fun H locs hH => ?_)
  refine lv_iload_n hx hb dX8_wall_5 rfl (lv_at hl 1 rfl) ?_
  refine lv_i2l (v := (Int32.toInt64 p1)) hx hb dX8_wall_6 rfl ?_
  refine lv_lconst (v := 0) hx hb dX8_wall_7 rfl ?_
  refine lv_ldc2 (v := 3) hx hb hown (hts _ q2028) dX8_wall_8 ?_
  obtain ⟨b_47, he, hF⟩ := bd1e hF
  refine mcS hX hK hEv hE0 hH (met_X8_within hE he) gw_StoneYearModel_153 hd_yX8_within ⟨Nat.le_of_ble_eq_true rfl, Nat.le_of_ble_eq_true rfl⟩ rfl rfl hl (Nat.le_of_ble_eq_true rfl) dX8_wall_11 ⟨Nat.le_of_ble_eq_true rfl, Nat.le_of_ble_eq_true rfl⟩ (fun H locs hH => ?_)
  refine lv_if_ne (tgt := 20) hx hb dX8_wall_14 rfl (fun c_48 => ?_) (fun c_48 => ?_)
  · have hF := itn c_48 hF
    refine lv_aload_n hx hb dX8_wall_20 rfl (lv_at hl 0 rfl) ?_
    refine lv_iload_n hx hb dX8_wall_21 rfl (lv_at hl 1 rfl) ?_
    refine lv_iload_n hx hb dX8_wall_22 rfl (lv_at hl 2 rfl) ?_
    obtain ⟨x_49, a_wants_50, he, hF⟩ := bd2e hF
    refine mcV hX hK hEv hE0 hH (met_X8_laysWall hE he) (mrecv hK hH) gw_StoneYearModel_430 hd_yX8_laysWall ⟨Nat.le_of_ble_eq_true rfl, Nat.le_of_ble_eq_true rfl⟩ rfl rfl hl (Nat.le_of_ble_eq_true rfl) dX8_wall_23 ⟨Nat.le_of_ble_eq_true rfl, Nat.le_of_ble_eq_true rfl⟩ (fun H locs hH => ?_)
    refine lv_istore_n (lv' := [(3, .int x_49), (0, .ref (ad 0)), (1, .int p1), (2, .int p2)]) hx hb dX8_wall_26 rfl hl (by decide) rfl (fun ls hl => ?_)
    refine lv_iload_n hx hb dX8_wall_27 rfl (lv_at hl 0 rfl) ?_
    refine lv_if_eq (tgt := 35) hx hb dX8_wall_28 rfl (fun c_51 => ?_) (fun c_51 => ?_)
    · have hF := itp c_51 hF
      refine lv_aload_n hx hb dX8_wall_35 rfl (lv_at hl 1 rfl) ?_
      refine lv_iload_n hx hb dX8_wall_36 rfl (lv_at hl 3 rfl) ?_
      obtain ⟨x_52, he, hF⟩ := bd1e hF
      refine mcV hX hK hEv hE0 hH (met_X8_wallYears hE he) (mrecv hK hH) gw_StoneYearModel_433 hd_yX8_wallYears ⟨Nat.le_of_ble_eq_true rfl, Nat.le_of_ble_eq_true rfl⟩ rfl rfl hl (Nat.le_of_ble_eq_true rfl) dX8_wall_37 ⟨Nat.le_of_ble_eq_true rfl, Nat.le_of_ble_eq_true rfl⟩ (fun H locs hH => ?_)
      obtain ⟨rfl, rfl⟩ := re2 hF
      exact hret _ _ _ _ hH dX8_wall_40
    · have hF := itn c_51 hF
      refine lv_iload_n hx hb dX8_wall_31 rfl (lv_at hl 0 rfl) ?_
      refine lv_goto (tgt := 40) hx hb dX8_wall_32 rfl ?_
      obtain ⟨rfl, rfl⟩ := re2 hF
      exact hret _ _ _ _ hH dX8_wall_40
  · have hF := itp c_48 hF
    refine lv_bipush (v := (-2)) hx hb dX8_wall_17 syb_m2 ?_
    obtain ⟨rfl, rfl⟩ := re2 hF
    exact hret _ _ _ _ hH dX8_wall_19
abbrev rm_X8_partner : Room := { frames := 2, cells := 0, slots := 0, locals := 52 }
set_option maxHeartbeats 4000000 in
theorem met_X8_partner {l : Launch} {D : va_G} {ad : Nat → Nat} {cA : Nat → ClassId} {a_all : Nat → Int32} {a_hasImage : Nat → Int32} {a_tape : Nat → Int32} {a_fresh : Nat → Int32} {v_taped : Int32} {v_at : Int32} {v_behind : Int32} {v_size : Int32} {v_kind : Int32} {v_number : Int32} {v_wrong : Int32} {v_wrongAt : Int32} {v_depth : Int32} {v_steps : Int32} {v_faultKind : Int32} {v_faultPlace : Int32} {a_on : Nat → Int32} {a_many : Nat → Int32} {v_moved : Int32} {a_pile : Nat → Int32} {v_aside : Int32} {v_judgedBy : Int32} {v_judgedYear : Int32} {a_leastCost : Nat → Int32} {a_matched : Nat → Int32} {a_order : Nat → Int32} {a_lies : Nat → Int64} {a_movedThen : Nat → Int32} {a_yearTable : Nat → Int32} {a_yearMark : Nat → Int32} {a_beginTable : Nat → Int32} {a_beginMark : Nat → Int32} {v_statesTold : Int32} {v_found : Int32} {v_yearFrom : Int32} {v_mark : Int32} {v_beginsMark : Int32} {v_begins : Int32} {a_began : Nat → Int64} {v_isSpent : Int32} {a_wants : Nat → Int32} {a_rowSort : Nat → Int32} {a_rowMany : Nat → Int32} {a_numbers : Nat → Int64}  {p1 : Int32} {p2 : Int32} {p3 : Int32} {p4 : Int32} {res : Int32} {ra_wants : Nat → Int32} {ak av fo : Nat} {E : EvT} (hE : EvM E ak av fo) (hF : FX8_partner a_wants a_rowSort a_rowMany a_numbers p1 p2 p3 p4 = some (res, ra_wants)) : MM l yX8_partner (ws_ yX8_partner cX8_partner 13 (Option.some Jvm.ClassFile.FieldType.int)) rm_X8_partner D vwA (mT cA) E [.ref (ad 0), .int p1, .int p2, .int p3, .int p4] (mW ad cA a_all a_hasImage a_tape a_fresh v_taped v_at v_behind v_size v_kind v_number v_wrong v_wrongAt v_depth v_steps v_faultKind v_faultPlace a_on a_many v_moved a_pile v_aside v_judgedBy v_judgedYear a_leastCost a_matched a_order a_lies a_movedThen a_yearTable a_yearMark a_beginTable a_beginMark v_statesTold v_found v_yearFrom v_mark v_beginsMark v_begins a_began v_isSpent a_wants a_rowSort a_rowMany a_numbers) (mW ad cA a_all a_hasImage a_tape a_fresh v_taped v_at v_behind v_size v_kind v_number v_wrong v_wrongAt v_depth v_steps v_faultKind v_faultPlace a_on a_many v_moved a_pile v_aside v_judgedBy v_judgedYear a_leastCost a_matched a_order a_lies a_movedThen a_yearTable a_yearMark a_beginTable a_beginMark v_statesTold v_found v_yearFrom v_mark v_beginsMark v_begins a_began v_isSpent ra_wants a_rowSort a_rowMany a_numbers) (some (.int res)) := by
  refine MM.ofI (by decide) (Nat.le_of_ble_eq_true rfl) ?_
  intro p e s m args below meth c Q A hX hK hE0 hret H locs ls hH hl
  have hX : CallFix p m c cX8_partner 13 s args lw_all RX8 := hX
  have hx := hX.1
  have hb := hX.2.1
  have hown := hX.2.2.2.1
  have hts := hX.2.2.2.2
  have hl : lv_has ls 13 [(0, .ref (ad 0)), (1, .int p1), (2, .int p2), (3, .int p3), (4, .int p4)] := hl
  have hEv := hE.1
  delta FX8_partner at hF
  refine lv_aload_n hx hb dX8_partner_0 rfl (lv_at hl 0 rfl) ?_
  refine lv_iconst (v := 0) hx hb dX8_partner_1 syi_0 ?_
  refine mp_thrown hX hK hH dX8_partner_2 (fun H locs hH => ?_)
  refine lv_iload_n hx hb dX8_partner_5 rfl (lv_at hl 1 rfl) ?_
  refine lv_i2l (v := (Int32.toInt64 p1)) hx hb dX8_partner_6 rfl ?_
  refine lv_lconst (v := 0) hx hb dX8_partner_7 rfl ?_
  refine lv_ldc2 (v := 3) hx hb hown (hts _ q2028) dX8_partner_8 ?_
  obtain ⟨b_49, he, hF⟩ := bd1e hF
  refine mcS hX hK hEv hE0 hH (met_X8_within hE he) gw_StoneYearModel_153 hd_yX8_within ⟨Nat.le_of_ble_eq_true rfl, Nat.le_of_ble_eq_true rfl⟩ rfl rfl hl (Nat.le_of_ble_eq_true rfl) dX8_partner_11 ⟨Nat.le_of_ble_eq_true rfl, Nat.le_of_ble_eq_true rfl⟩ (fun H locs hH => ?_)
  refine lv_if_eq (tgt := 40) hx hb dX8_partner_14 rfl (fun c_50 => ?_) (fun c_50 => ?_)
  · have hF := itp c_50 hF
    refine lv_bipush (v := (-2)) hx hb dX8_partner_40 syb_m2 ?_
    obtain ⟨rfl, rfl⟩ := re2 hF
    exact hret _ _ _ _ hH dX8_partner_42
  · have hF := itn c_50 hF
    refine lv_iload_n hx hb dX8_partner_17 rfl (lv_at hl 3 rfl) ?_
    refine lv_i2l (v := (Int32.toInt64 p3)) hx hb dX8_partner_18 rfl ?_
    refine lv_lconst (v := 1) hx hb dX8_partner_19 rfl ?_
    refine lv_ldc2 (v := 2) hx hb hown (hts _ q2174) dX8_partner_20 ?_
    obtain ⟨b_51, he, hF⟩ := bd1e hF
    refine mcS hX hK hEv hE0 hH (met_X8_within hE he) gw_StoneYearModel_153 hd_yX8_within ⟨Nat.le_of_ble_eq_true rfl, Nat.le_of_ble_eq_true rfl⟩ rfl rfl hl (Nat.le_of_ble_eq_true rfl) dX8_partner_23 ⟨Nat.le_of_ble_eq_true rfl, Nat.le_of_ble_eq_true rfl⟩ (fun H locs hH => ?_)
    refine lv_if_eq (tgt := 40) hx hb dX8_partner_26 rfl (fun c_52 => ?_) (fun c_52 => ?_)
    · have hF := itp c_52 hF
      refine lv_bipush (v := (-2)) hx hb dX8_partner_40 syb_m2 ?_
      obtain ⟨rfl, rfl⟩ := re2 hF
      exact hret _ _ _ _ hH dX8_partner_42
    · have hF := itn c_52 hF
      refine lv_iload hx hb dX8_partner_29 (lv_at hl 4 rfl) ?_
      refine lv_if_lt (tgt := 40) hx hb dX8_partner_31 rfl (fun c_53 => ?_) (fun c_53 => ?_)
      · have hF := itp c_53 hF
        refine lv_bipush (v := (-2)) hx hb dX8_partner_40 syb_m2 ?_
        obtain ⟨rfl, rfl⟩ := re2 hF
        exact hret _ _ _ _ hH dX8_partner_42
      · have hF := itn c_53 hF
        refine lv_iload hx hb dX8_partner_34 (lv_at hl 4 rfl) ?_
        refine lv_iload_n hx hb dX8_partner_36 rfl (lv_at hl 2 rfl) ?_
        refine lv_icmp_lt (tgt := 43) hx hb dX8_partner_37 rfl (fun c_54 => ?_) (fun c_54 => ?_)
        · have hF := itp c_54 hF
          refine lv_aload_n hx hb dX8_partner_43 rfl (lv_at hl 0 rfl) ?_
          refine lv_iload_n hx hb dX8_partner_44 rfl (lv_at hl 1 rfl) ?_
          refine lv_iload_n hx hb dX8_partner_45 rfl (lv_at hl 2 rfl) ?_
          obtain ⟨x_55, a_wants_56, he, hF⟩ := bd2e hF
          refine mcV hX hK hEv hE0 hH (met_X8_laysWall hE he) (mrecv hK hH) gw_StoneYearModel_430 hd_yX8_laysWall ⟨Nat.le_of_ble_eq_true rfl, Nat.le_of_ble_eq_true rfl⟩ rfl rfl hl (Nat.le_of_ble_eq_true rfl) dX8_partner_46 ⟨Nat.le_of_ble_eq_true rfl, Nat.le_of_ble_eq_true rfl⟩ (fun H locs hH => ?_)
          refine lv_istore (lv' := [(5, .int x_55), (0, .ref (ad 0)), (1, .int p1), (2, .int p2), (3, .int p3), (4, .int p4)]) hx hb dX8_partner_49 hl (by decide) rfl (fun ls hl => ?_)
          refine lv_iload hx hb dX8_partner_51 (lv_at hl 0 rfl) ?_
          refine lv_if_eq (tgt := 59) hx hb dX8_partner_53 rfl (fun c_57 => ?_) (fun c_57 => ?_)
          · have hF := itp c_57 hF
            refine lv_aload_n hx hb dX8_partner_59 rfl (lv_at hl 1 rfl) ?_
            refine lv_iload_n hx hb dX8_partner_60 rfl (lv_at hl 3 rfl) ?_
            obtain ⟨x_58, he, hF⟩ := bd1e hF
            refine mcV hX hK hEv hE0 hH (met_X8_wallYears hE he) (mrecv hK hH) gw_StoneYearModel_433 hd_yX8_wallYears ⟨Nat.le_of_ble_eq_true rfl, Nat.le_of_ble_eq_true rfl⟩ rfl rfl hl (Nat.le_of_ble_eq_true rfl) dX8_partner_61 ⟨Nat.le_of_ble_eq_true rfl, Nat.le_of_ble_eq_true rfl⟩ (fun H locs hH => ?_)
            refine lv_istore (lv' := [(6, .int x_58), (5, .int x_55), (0, .ref (ad 0)), (1, .int p1), (2, .int p2), (3, .int p3), (4, .int p4)]) hx hb dX8_partner_64 hl (by decide) rfl (fun ls hl => ?_)
            refine lv_iload_n hx hb dX8_partner_66 rfl (lv_at hl 5 rfl) ?_
            refine lv_iload hx hb dX8_partner_67 (lv_at hl 0 rfl) ?_
            refine lv_icmp_gt (tgt := 84) hx hb dX8_partner_69 rfl (fun c_59 => ?_) (fun c_59 => ?_)
            · have hF := itp c_59 hF
              refine lv_iconst (v := (-1)) hx hb dX8_partner_84 syi_m1 ?_
              obtain ⟨rfl, rfl⟩ := re2 hF
              exact hret _ _ _ _ hH dX8_partner_85
            · have hF := itn c_59 hF
              refine lv_aload_n hx hb dX8_partner_72 rfl (lv_at hl 2 rfl) ?_
              refine mg_wants hX hK hH dX8_partner_73 ?_
              refine lv_iload hx hb dX8_partner_76 (lv_at hl 6 rfl) ?_
              obtain ⟨x_60, he, hF⟩ := bd1e hF
              refine ml_wants hX hK hH he dX8_partner_78 ?_
              refine lv_iload hx hb dX8_partner_79 (lv_at hl 6 rfl) ?_
              refine lv_icmp_ne (tgt := 86) hx hb dX8_partner_81 rfl (fun c_61 => ?_) (fun c_61 => ?_)
              · have hF := itn c_61 hF
                refine lv_iload hx hb dX8_partner_86 (lv_at hl 0 rfl) ?_
                refine lv_iconst (v := 1) hx hb dX8_partner_88 syi_1 ?_
                refine lv_icmp_ne (tgt := 100) hx hb dX8_partner_89 rfl (fun c_62 => ?_) (fun c_62 => ?_)
                · have hF := itn c_62 hF
                  refine lv_iload hx hb dX8_partner_100 (lv_at hl 6 rfl) ?_
                  refine lv_istore (lv' := [(7, .int p4), (6, .int x_58), (5, .int x_55), (0, .ref (ad 0)), (1, .int p1), (2, .int p2), (3, .int p3), (4, .int p4)]) hx hb dX8_partner_102 hl (by decide) rfl (fun ls hl => ?_)
                  refine lv_aload_n hx hb dX8_partner_104 rfl (lv_at hl 3 rfl) ?_
                  refine mg_wants hX hK hH dX8_partner_105 ?_
                  refine lv_iload hx hb dX8_partner_108 (lv_at hl 7 rfl) ?_
                  obtain ⟨x_64, he, hF⟩ := bd1e hF
                  refine ml_wants hX hK hH he dX8_partner_110 ?_
                  refine lv_istore (lv' := [(8, .int x_64), (7, .int p4), (6, .int x_58), (5, .int x_55), (0, .ref (ad 0)), (1, .int p1), (2, .int p2), (3, .int p3), (4, .int p4)]) hx hb dX8_partner_111 hl (by decide) rfl (fun ls hl => ?_)
                  obtain ⟨xx113, ee113, kk113_0⟩ := bd1L hF
                  have k113_0 : ∀ (x_75 : Int32), xx113 = x_75 → ∀ (H : Heap) (locs : List Loc) (ls : Array Slot), MH D vwA A s.heap (mW ad cA a_all a_hasImage a_tape a_fresh v_taped v_at v_behind v_size v_kind v_number v_wrong v_wrongAt v_depth v_steps v_faultKind v_faultPlace a_on a_many v_moved a_pile v_aside v_judgedBy v_judgedYear a_leastCost a_matched a_order a_lies a_movedThen a_yearTable a_yearMark a_beginTable a_beginMark v_statesTold v_found v_yearFrom v_mark v_beginsMark v_begins a_began v_isSpent a_wants_56 a_rowSort a_rowMany a_numbers) H locs → lv_has ls 13 [(0, .ref (ad 0)), (3, .int p3), (4, .int p4), (7, .int x_75)] → W p l e rm_X8_partner s m args below meth c H locs 0 0 Q (F0 m 148 ls []) := by
                    intro x_75 hxx H locs ls hH hl
                    have hF := un1e (kk113_0 x_75 hxx)
                    refine lv_iconst (v := 1) hx hb dX8_partner_148 syi_1 ?_
                    refine lv_istore (lv' := [(8, .int 1), (0, .ref (ad 0)), (3, .int p3), (4, .int p4), (7, .int x_75)]) hx hb dX8_partner_149 hl (by decide) rfl (fun ls hl => ?_)
                    refine lv_iconst (v := 0) hx hb dX8_partner_151 syi_0 ?_
                    refine lv_istore (lv' := [(9, .int 0), (8, .int 1), (0, .ref (ad 0)), (3, .int p3), (4, .int p4), (7, .int x_75)]) hx hb dX8_partner_152 hl (by decide) rfl (fun ls hl => ?_)
                    refine lv_aload_n hx hb dX8_partner_154 rfl (lv_at hl 2 rfl) ?_
                    refine mg_wants hX hK hH dX8_partner_155 ?_
                    refine lv_iload hx hb dX8_partner_158 (lv_at hl 5 rfl) ?_
                    obtain ⟨x_76, he, hF⟩ := bd1e hF
                    refine ml_wants hX hK hH he dX8_partner_160 ?_
                    refine lv_istore (lv' := [(10, .int x_76), (9, .int 0), (8, .int 1), (0, .ref (ad 0)), (3, .int p3), (4, .int p4), (7, .int x_75)]) hx hb dX8_partner_161 hl (by decide) rfl (fun ls hl => ?_)
                    obtain ⟨xx163, ee163, kk163_0⟩ := bd2L hF
                    have k163_0 : ∀ (x_88 : Int32) (x_89 : Int32), xx163 = (x_88, x_89) → ∀ (H : Heap) (locs : List Loc) (ls : Array Slot), MH D vwA A s.heap (mW ad cA a_all a_hasImage a_tape a_fresh v_taped v_at v_behind v_size v_kind v_number v_wrong v_wrongAt v_depth v_steps v_faultKind v_faultPlace a_on a_many v_moved a_pile v_aside v_judgedBy v_judgedYear a_leastCost a_matched a_order a_lies a_movedThen a_yearTable a_yearMark a_beginTable a_beginMark v_statesTold v_found v_yearFrom v_mark v_beginsMark v_begins a_began v_isSpent a_wants_56 a_rowSort a_rowMany a_numbers) H locs → lv_has ls 13 [(0, .ref (ad 0)), (3, .int p3), (4, .int p4), (7, .int x_75), (8, .int x_88), (9, .int x_89)] → W p l e rm_X8_partner s m args below meth c H locs 0 0 Q (F0 m 201 ls []) := by
                      intro x_88 x_89 hxx H locs ls hH hl
                      have hF := un2e (kk163_0 (x_88, x_89) hxx)
                      refine lv_iload_n hx hb dX8_partner_201 rfl (lv_at hl 1 rfl) ?_
                      refine lv_iconst (v := 1) hx hb dX8_partner_202 syi_1 ?_
                      have j233 : ∀ (x_93 : Int32), FX8_partner_j233 p4 a_wants_56 x_75 x_93 = some (res, ra_wants) → ∀ (H : Heap) (locs : List Loc) (ls : Array Slot), MH D vwA A s.heap (mW ad cA a_all a_hasImage a_tape a_fresh v_taped v_at v_behind v_size v_kind v_number v_wrong v_wrongAt v_depth v_steps v_faultKind v_faultPlace a_on a_many v_moved a_pile v_aside v_judgedBy v_judgedYear a_leastCost a_matched a_order a_lies a_movedThen a_yearTable a_yearMark a_beginTable a_beginMark v_statesTold v_found v_yearFrom v_mark v_beginsMark v_begins a_began v_isSpent a_wants_56 a_rowSort a_rowMany a_numbers) H locs → lv_has ls 13 [(0, .ref (ad 0)), (4, .int p4), (7, .int x_75)] → W p l e rm_X8_partner s m args below meth c H locs 0 0 Q (F0 m 233 ls [.int x_93]) := by
                        intro x_93 hF H locs ls hH hl
                        delta FX8_partner_j233 at hF
                        refine lv_istore (lv' := [(10, .int x_93), (0, .ref (ad 0)), (4, .int p4), (7, .int x_75)]) hx hb dX8_partner_233 hl (by decide) rfl (fun ls hl => ?_)
                        refine lv_iload hx hb dX8_partner_235 (lv_at hl 3 rfl) ?_
                        refine lv_istore (lv' := [(11, .int x_75), (10, .int x_93), (0, .ref (ad 0)), (4, .int p4), (7, .int x_75)]) hx hb dX8_partner_237 hl (by decide) rfl (fun ls hl => ?_)
                        refine lv_iconst (v := 0) hx hb dX8_partner_239 syi_0 ?_
                        refine lv_istore (lv' := [(12, .int 0), (11, .int x_75), (10, .int x_93), (0, .ref (ad 0)), (4, .int p4), (7, .int x_75)]) hx hb dX8_partner_240 hl (by decide) rfl (fun ls hl => ?_)
                        obtain ⟨xx242, ee242, kk242_0⟩ := bd1L hF
                        have k242_0 : ∀ (x_100 : Int32), xx242 = x_100 → ∀ (H : Heap) (locs : List Loc) (ls : Array Slot), MH D vwA A s.heap (mW ad cA a_all a_hasImage a_tape a_fresh v_taped v_at v_behind v_size v_kind v_number v_wrong v_wrongAt v_depth v_steps v_faultKind v_faultPlace a_on a_many v_moved a_pile v_aside v_judgedBy v_judgedYear a_leastCost a_matched a_order a_lies a_movedThen a_yearTable a_yearMark a_beginTable a_beginMark v_statesTold v_found v_yearFrom v_mark v_beginsMark v_begins a_began v_isSpent a_wants_56 a_rowSort a_rowMany a_numbers) H locs → lv_has ls 13 [(4, .int p4), (11, .int x_100)] → W p l e rm_X8_partner s m args below meth c H locs 0 0 Q (F0 m 264 ls []) := by
                          intro x_100 hxx H locs ls hH hl
                          have hF := un1e (kk242_0 x_100 hxx)
                          refine lv_iload hx hb dX8_partner_264 (lv_at hl 1 rfl) ?_
                          refine lv_iload hx hb dX8_partner_266 (lv_at hl 0 rfl) ?_
                          refine lv_icmp_ne (tgt := 275) hx hb dX8_partner_268 rfl (fun c_101 => ?_) (fun c_101 => ?_)
                          · have hF := itn c_101 hF
                            refine lv_iload hx hb dX8_partner_275 (lv_at hl 1 rfl) ?_
                            obtain ⟨rfl, rfl⟩ := re2 hF
                            exact hret _ _ _ _ hH dX8_partner_277
                          · have hF := itp c_101 hF
                            refine lv_iconst (v := (-1)) hx hb dX8_partner_271 syi_m1 ?_
                            refine lv_goto (tgt := 277) hx hb dX8_partner_272 rfl ?_
                            obtain ⟨rfl, rfl⟩ := re2 hF
                            exact hret _ _ _ _ hH dX8_partner_277
                        obtain ⟨nn242, en242⟩ := loopC_some ee242
                        have l242 : ∀ (n : Nat) (x_96 : Int32) (x_97 : Int32), loopN (fun s => FX8_partner_b242 a_wants_56 x_93 s.1 s.2) n (x_96, x_97) = some xx242 → ∀ (H : Heap) (locs : List Loc) (ls : Array Slot), MH D vwA A s.heap (mW ad cA a_all a_hasImage a_tape a_fresh v_taped v_at v_behind v_size v_kind v_number v_wrong v_wrongAt v_depth v_steps v_faultKind v_faultPlace a_on a_many v_moved a_pile v_aside v_judgedBy v_judgedYear a_leastCost a_matched a_order a_lies a_movedThen a_yearTable a_yearMark a_beginTable a_beginMark v_statesTold v_found v_yearFrom v_mark v_beginsMark v_begins a_began v_isSpent a_wants_56 a_rowSort a_rowMany a_numbers) H locs → lv_has ls 13 [(0, .ref (ad 0)), (4, .int p4), (10, .int x_93), (11, .int x_96), (12, .int x_97)] → W p l e rm_X8_partner s m args below meth c H locs 0 0 Q (F0 m 242 ls []) := by
                          intro n
                          induction n with
                          | zero =>
                            intro x_96 x_97 hN
                            exact absurd hN loopN_zero
                          | succ n ih =>
                            intro x_96 x_97 hN H locs ls hH hl
                            obtain ⟨yy242, hB242, hY242⟩ := loopN_succ hN
                            have hF : FX8_partner_b242 a_wants_56 x_93 x_96 x_97 = some yy242 := hB242
                            delta FX8_partner_b242 at hF
                            refine lv_iload hx hb dX8_partner_242 (lv_at hl 4 rfl) ?_
                            refine lv_iload hx hb dX8_partner_244 (lv_at hl 2 rfl) ?_
                            refine lv_icmp_ge (tgt := 264) hx hb dX8_partner_246 rfl (fun c_98 => ?_) (fun c_98 => ?_)
                            · have hF := itp c_98 hF
                              obtain rfl := Option.some.inj hF
                              exact k242_0 x_96 hY242 _ _ _ hH (lv_sub hl [1, 3] rfl)
                            · have hF := itn c_98 hF
                              refine lv_aload_n hx hb dX8_partner_249 rfl (lv_at hl 0 rfl) ?_
                              refine mg_wants hX hK hH dX8_partner_250 ?_
                              refine lv_iload hx hb dX8_partner_253 (lv_at hl 3 rfl) ?_
                              obtain ⟨x_99, he, hF⟩ := bd1e hF
                              refine ml_wants hX hK hH he dX8_partner_255 ?_
                              refine lv_istore (lv' := [(11, .int x_99), (0, .ref (ad 0)), (4, .int p4), (10, .int x_93), (12, .int x_97)]) hx hb dX8_partner_256 hl (by decide) rfl (fun ls hl => ?_)
                              refine lv_iinc (v := (x_97 + 1)) (lv' := [(12, .int (x_97 + 1)), (11, .int x_99), (0, .ref (ad 0)), (4, .int p4), (10, .int x_93)]) hx hb dX8_partner_258 hl (k := 4) rfl (syc syi_1) (by decide) rfl (fun ls hl => ?_)
                              refine lv_goto (tgt := 242) hx hb dX8_partner_261 rfl ?_
                              obtain rfl := Option.some.inj hF
                              exact ih x_99 (x_97 + 1) hY242 _ _ _ hH (lv_sub hl [2, 3, 4, 1, 0] rfl)
                        exact l242 nn242 x_75 0 en242 _ _ _ hH (lv_sub hl [3, 4, 2, 1, 0] rfl)
                      refine lv_icmp_ne (tgt := 223) hx hb dX8_partner_203 rfl (fun c_90 => ?_) (fun c_90 => ?_)
                      · have hF := itn c_90 hF
                        refine lv_iconst (v := 1) hx hb dX8_partner_223 syi_1 ?_
                        refine lv_iload hx hb dX8_partner_224 (lv_at hl 5 rfl) ?_
                        refine lv_isub hx hb dX8_partner_226 ?_
                        refine lv_iload hx hb dX8_partner_227 (lv_at hl 4 rfl) ?_
                        refine lv_iadd hx hb dX8_partner_229 ?_
                        refine lv_iload hx hb dX8_partner_230 (lv_at hl 4 rfl) ?_
                        obtain ⟨hz, hF⟩ := bd0e hF
                        refine lv_irem hx hb dX8_partner_232 (nz_of hz) ?_
                        exact j233 (((1 - x_89) + x_88) - ((1 - x_89) + x_88) / x_88 * x_88) hF _ _ _ hH (lv_sub hl [0, 2, 3] rfl)
                      · have hF := itp c_90 hF
                        refine lv_iload hx hb dX8_partner_206 (lv_at hl 5 rfl) ?_
                        refine lv_if_ne (tgt := 215) hx hb dX8_partner_208 rfl (fun c_91 => ?_) (fun c_91 => ?_)
                        · have hF := itn c_91 hF
                          refine lv_iload hx hb dX8_partner_215 (lv_at hl 4 rfl) ?_
                          refine lv_iload hx hb dX8_partner_217 (lv_at hl 5 rfl) ?_
                          refine lv_isub hx hb dX8_partner_219 ?_
                          refine lv_goto (tgt := 233) hx hb dX8_partner_220 rfl ?_
                          exact j233 (x_88 - x_89) hF _ _ _ hH (lv_sub hl [0, 2, 3] rfl)
                        · have hF := itp c_91 hF
                          refine lv_iconst (v := 0) hx hb dX8_partner_211 syi_0 ?_
                          refine lv_goto (tgt := 233) hx hb dX8_partner_212 rfl ?_
                          exact j233 0 hF _ _ _ hH (lv_sub hl [0, 2, 3] rfl)
                    obtain ⟨nn163, en163⟩ := loopC_some ee163
                    have l163 : ∀ (n : Nat) (x_81 : Int32) (x_82 : Int32) (x_83 : Int32), loopN (fun s => FX8_partner_b163 p4 a_wants_56 x_75 s.1 s.2.1 s.2.2) n (x_81, x_82, x_83) = some xx163 → ∀ (H : Heap) (locs : List Loc) (ls : Array Slot), MH D vwA A s.heap (mW ad cA a_all a_hasImage a_tape a_fresh v_taped v_at v_behind v_size v_kind v_number v_wrong v_wrongAt v_depth v_steps v_faultKind v_faultPlace a_on a_many v_moved a_pile v_aside v_judgedBy v_judgedYear a_leastCost a_matched a_order a_lies a_movedThen a_yearTable a_yearMark a_beginTable a_beginMark v_statesTold v_found v_yearFrom v_mark v_beginsMark v_begins a_began v_isSpent a_wants_56 a_rowSort a_rowMany a_numbers) H locs → lv_has ls 13 [(0, .ref (ad 0)), (3, .int p3), (4, .int p4), (7, .int x_75), (8, .int x_81), (9, .int x_82), (10, .int x_83)] → W p l e rm_X8_partner s m args below meth c H locs 0 0 Q (F0 m 163 ls []) := by
                      intro n
                      induction n with
                      | zero =>
                        intro x_81 x_82 x_83 hN
                        exact absurd hN loopN_zero
                      | succ n ih =>
                        intro x_81 x_82 x_83 hN H locs ls hH hl
                        obtain ⟨yy163, hB163, hY163⟩ := loopN_succ hN
                        have hF : FX8_partner_b163 p4 a_wants_56 x_75 x_81 x_82 x_83 = some yy163 := hB163
                        delta FX8_partner_b163 at hF
                        refine lv_iload hx hb dX8_partner_163 (lv_at hl 6 rfl) ?_
                        refine lv_iload hx hb dX8_partner_165 (lv_at hl 3 rfl) ?_
                        refine lv_icmp_eq (tgt := 201) hx hb dX8_partner_167 rfl (fun c_84 => ?_) (fun c_84 => ?_)
                        · have hF := itp c_84 hF
                          obtain rfl := Option.some.inj hF
                          exact k163_0 x_81 x_82 hY163 _ _ _ hH (lv_sub hl [0, 1, 2, 3, 4, 5] rfl)
                        · have hF := itn c_84 hF
                          refine lv_iload hx hb dX8_partner_170 (lv_at hl 6 rfl) ?_
                          refine lv_iload hx hb dX8_partner_172 (lv_at hl 2 rfl) ?_
                          have j184 : ∀ (x_86 : Int32), FX8_partner_j184 a_wants_56 x_81 x_83 x_86 = some yy163 → ∀ (H : Heap) (locs : List Loc) (ls : Array Slot), MH D vwA A s.heap (mW ad cA a_all a_hasImage a_tape a_fresh v_taped v_at v_behind v_size v_kind v_number v_wrong v_wrongAt v_depth v_steps v_faultKind v_faultPlace a_on a_many v_moved a_pile v_aside v_judgedBy v_judgedYear a_leastCost a_matched a_order a_lies a_movedThen a_yearTable a_yearMark a_beginTable a_beginMark v_statesTold v_found v_yearFrom v_mark v_beginsMark v_begins a_began v_isSpent a_wants_56 a_rowSort a_rowMany a_numbers) H locs → lv_has ls 13 [(0, .ref (ad 0)), (3, .int p3), (4, .int p4), (7, .int x_75), (8, .int x_81), (10, .int x_83)] → W p l e rm_X8_partner s m args below meth c H locs 0 0 Q (F0 m 184 ls [.int x_86]) := by
                            intro x_86 hF H locs ls hH hl
                            delta FX8_partner_j184 at hF
                            refine lv_istore (lv' := [(9, .int x_86), (0, .ref (ad 0)), (3, .int p3), (4, .int p4), (7, .int x_75), (8, .int x_81), (10, .int x_83)]) hx hb dX8_partner_184 hl (by decide) rfl (fun ls hl => ?_)
                            refine lv_iinc (v := (x_81 + 1)) (lv' := [(8, .int (x_81 + 1)), (9, .int x_86), (0, .ref (ad 0)), (3, .int p3), (4, .int p4), (7, .int x_75), (10, .int x_83)]) hx hb dX8_partner_186 hl (k := 5) rfl (syc syi_1) (by decide) rfl (fun ls hl => ?_)
                            refine lv_aload_n hx hb dX8_partner_189 rfl (lv_at hl 2 rfl) ?_
                            refine mg_wants hX hK hH dX8_partner_190 ?_
                            refine lv_iload hx hb dX8_partner_193 (lv_at hl 6 rfl) ?_
                            obtain ⟨x_87, he, hF⟩ := bd1e hF
                            refine ml_wants hX hK hH he dX8_partner_195 ?_
                            refine lv_istore (lv' := [(10, .int x_87), (8, .int (x_81 + 1)), (9, .int x_86), (0, .ref (ad 0)), (3, .int p3), (4, .int p4), (7, .int x_75)]) hx hb dX8_partner_196 hl (by decide) rfl (fun ls hl => ?_)
                            refine lv_goto (tgt := 163) hx hb dX8_partner_198 rfl ?_
                            obtain rfl := Option.some.inj hF
                            exact ih (x_81 + 1) x_86 x_87 hY163 _ _ _ hH (lv_sub hl [3, 4, 5, 6, 1, 2, 0] rfl)
                          refine lv_icmp_ne (tgt := 182) hx hb dX8_partner_174 rfl (fun c_85 => ?_) (fun c_85 => ?_)
                          · have hF := itn c_85 hF
                            refine lv_iload hx hb dX8_partner_182 (lv_at hl 5 rfl) ?_
                            exact j184 x_82 hF _ _ _ hH (lv_sub hl [0, 1, 2, 3, 4, 6] rfl)
                          · have hF := itp c_85 hF
                            refine lv_iload hx hb dX8_partner_177 (lv_at hl 4 rfl) ?_
                            refine lv_goto (tgt := 184) hx hb dX8_partner_179 rfl ?_
                            exact j184 x_81 hF _ _ _ hH (lv_sub hl [0, 1, 2, 3, 4, 6] rfl)
                    exact l163 nn163 1 0 x_76 en163 _ _ _ hH (lv_sub hl [3, 4, 5, 6, 2, 1, 0] rfl)
                  obtain ⟨nn113, en113⟩ := loopC_some ee113
                  have l113 : ∀ (n : Nat) (x_69 : Int32) (x_70 : Int32), loopN (fun s => FX8_partner_b113 p4 a_wants_56 s.1 s.2) n (x_69, x_70) = some xx113 → ∀ (H : Heap) (locs : List Loc) (ls : Array Slot), MH D vwA A s.heap (mW ad cA a_all a_hasImage a_tape a_fresh v_taped v_at v_behind v_size v_kind v_number v_wrong v_wrongAt v_depth v_steps v_faultKind v_faultPlace a_on a_many v_moved a_pile v_aside v_judgedBy v_judgedYear a_leastCost a_matched a_order a_lies a_movedThen a_yearTable a_yearMark a_beginTable a_beginMark v_statesTold v_found v_yearFrom v_mark v_beginsMark v_begins a_began v_isSpent a_wants_56 a_rowSort a_rowMany a_numbers) H locs → lv_has ls 13 [(0, .ref (ad 0)), (3, .int p3), (4, .int p4), (7, .int x_69), (8, .int x_70)] → W p l e rm_X8_partner s m args below meth c H locs 0 0 Q (F0 m 113 ls []) := by
                    intro n
                    induction n with
                    | zero =>
                      intro x_69 x_70 hN
                      exact absurd hN loopN_zero
                    | succ n ih =>
                      intro x_69 x_70 hN H locs ls hH hl
                      obtain ⟨yy113, hB113, hY113⟩ := loopN_succ hN
                      have hF : FX8_partner_b113 p4 a_wants_56 x_69 x_70 = some yy113 := hB113
                      delta FX8_partner_b113 at hF
                      refine lv_iload hx hb dX8_partner_113 (lv_at hl 4 rfl) ?_
                      refine lv_iload hx hb dX8_partner_115 (lv_at hl 2 rfl) ?_
                      refine lv_icmp_eq (tgt := 148) hx hb dX8_partner_117 rfl (fun c_71 => ?_) (fun c_71 => ?_)
                      · have hF := itp c_71 hF
                        obtain rfl := Option.some.inj hF
                        exact k113_0 x_69 hY113 _ _ _ hH (lv_sub hl [0, 1, 2, 3] rfl)
                      · have hF := itn c_71 hF
                        refine lv_iload hx hb dX8_partner_120 (lv_at hl 4 rfl) ?_
                        refine lv_iload hx hb dX8_partner_122 (lv_at hl 3 rfl) ?_
                        have j134 : ∀ (x_73 : Int32), FX8_partner_j134 a_wants_56 x_70 x_73 = some yy113 → ∀ (H : Heap) (locs : List Loc) (ls : Array Slot), MH D vwA A s.heap (mW ad cA a_all a_hasImage a_tape a_fresh v_taped v_at v_behind v_size v_kind v_number v_wrong v_wrongAt v_depth v_steps v_faultKind v_faultPlace a_on a_many v_moved a_pile v_aside v_judgedBy v_judgedYear a_leastCost a_matched a_order a_lies a_movedThen a_yearTable a_yearMark a_beginTable a_beginMark v_statesTold v_found v_yearFrom v_mark v_beginsMark v_begins a_began v_isSpent a_wants_56 a_rowSort a_rowMany a_numbers) H locs → lv_has ls 13 [(0, .ref (ad 0)), (3, .int p3), (4, .int p4), (8, .int x_70)] → W p l e rm_X8_partner s m args below meth c H locs 0 0 Q (F0 m 134 ls [.int x_73]) := by
                          intro x_73 hF H locs ls hH hl
                          delta FX8_partner_j134 at hF
                          refine lv_istore (lv' := [(7, .int x_73), (0, .ref (ad 0)), (3, .int p3), (4, .int p4), (8, .int x_70)]) hx hb dX8_partner_134 hl (by decide) rfl (fun ls hl => ?_)
                          refine lv_aload_n hx hb dX8_partner_136 rfl (lv_at hl 1 rfl) ?_
                          refine mg_wants hX hK hH dX8_partner_137 ?_
                          refine lv_iload hx hb dX8_partner_140 (lv_at hl 4 rfl) ?_
                          obtain ⟨x_74, he, hF⟩ := bd1e hF
                          refine ml_wants hX hK hH he dX8_partner_142 ?_
                          refine lv_istore (lv' := [(8, .int x_74), (7, .int x_73), (0, .ref (ad 0)), (3, .int p3), (4, .int p4)]) hx hb dX8_partner_143 hl (by decide) rfl (fun ls hl => ?_)
                          refine lv_goto (tgt := 113) hx hb dX8_partner_145 rfl ?_
                          obtain rfl := Option.some.inj hF
                          exact ih x_73 x_74 hY113 _ _ _ hH (lv_sub hl [2, 3, 4, 1, 0] rfl)
                        refine lv_icmp_ge (tgt := 132) hx hb dX8_partner_124 rfl (fun c_72 => ?_) (fun c_72 => ?_)
                        · have hF := itp c_72 hF
                          refine lv_iload hx hb dX8_partner_132 (lv_at hl 3 rfl) ?_
                          exact j134 x_69 hF _ _ _ hH (lv_sub hl [0, 1, 2, 4] rfl)
                        · have hF := itn c_72 hF
                          refine lv_iload hx hb dX8_partner_127 (lv_at hl 4 rfl) ?_
                          refine lv_goto (tgt := 134) hx hb dX8_partner_129 rfl ?_
                          exact j134 x_70 hF _ _ _ hH (lv_sub hl [0, 1, 2, 4] rfl)
                  exact l113 nn113 p4 x_64 en113 _ _ _ hH (lv_sub hl [4, 7, 8, 1, 0] rfl)
                · have hF := itp c_62 hF
                  refine lv_aload_n hx hb dX8_partner_92 rfl (lv_at hl 2 rfl) ?_
                  refine mg_wants hX hK hH dX8_partner_93 ?_
                  refine lv_iload hx hb dX8_partner_96 (lv_at hl 6 rfl) ?_
                  obtain ⟨x_63, he, hF⟩ := bd1e hF
                  refine ml_wants hX hK hH he dX8_partner_98 ?_
                  obtain ⟨rfl, rfl⟩ := re2 hF
                  exact hret _ _ _ _ hH dX8_partner_99
              · have hF := itp c_61 hF
                refine lv_iconst (v := (-1)) hx hb dX8_partner_84 syi_m1 ?_
                obtain ⟨rfl, rfl⟩ := re2 hF
                exact hret _ _ _ _ hH dX8_partner_85
          · have hF := itn c_57 hF
            refine lv_iload hx hb dX8_partner_56 (lv_at hl 0 rfl) ?_
            obtain ⟨rfl, rfl⟩ := re2 hF
            exact hret _ _ _ _ hH dX8_partner_58
        · have hF := itn c_54 hF
          refine lv_bipush (v := (-2)) hx hb dX8_partner_40 syb_m2 ?_
          obtain ⟨rfl, rfl⟩ := re2 hF
          exact hret _ _ _ _ hH dX8_partner_42
abbrev rm_X8_threshold : Room := { frames := 2, cells := 0, slots := 0, locals := 46 }
set_option maxHeartbeats 4000000 in
theorem met_X8_threshold {l : Launch} {D : va_G} {ad : Nat → Nat} {cA : Nat → ClassId} {a_all : Nat → Int32} {a_hasImage : Nat → Int32} {a_tape : Nat → Int32} {a_fresh : Nat → Int32} {v_taped : Int32} {v_at : Int32} {v_behind : Int32} {v_size : Int32} {v_kind : Int32} {v_number : Int32} {v_wrong : Int32} {v_wrongAt : Int32} {v_depth : Int32} {v_steps : Int32} {v_faultKind : Int32} {v_faultPlace : Int32} {a_on : Nat → Int32} {a_many : Nat → Int32} {v_moved : Int32} {a_pile : Nat → Int32} {v_aside : Int32} {v_judgedBy : Int32} {v_judgedYear : Int32} {a_leastCost : Nat → Int32} {a_matched : Nat → Int32} {a_order : Nat → Int32} {a_lies : Nat → Int64} {a_movedThen : Nat → Int32} {a_yearTable : Nat → Int32} {a_yearMark : Nat → Int32} {a_beginTable : Nat → Int32} {a_beginMark : Nat → Int32} {v_statesTold : Int32} {v_found : Int32} {v_yearFrom : Int32} {v_mark : Int32} {v_beginsMark : Int32} {v_begins : Int32} {a_began : Nat → Int64} {v_isSpent : Int32} {a_wants : Nat → Int32} {a_rowSort : Nat → Int32} {a_rowMany : Nat → Int32} {a_numbers : Nat → Int64}  {p1 : Int32} {p2 : Int32} {res : Int32} {ra_on : Nat → Int32} {ra_many : Nat → Int32} {rv_moved : Int32} {ak av fo : Nat} {E : EvT} (hE : EvM E ak av fo) (hF : FX8_threshold a_all a_on a_many v_moved p1 p2 = some (res, ra_on, ra_many, rv_moved)) : MM l yX8_threshold (ws_ yX8_threshold cX8_threshold 7 (Option.some Jvm.ClassFile.FieldType.int)) rm_X8_threshold D vwA (mT cA) E [.ref (ad 0), .int p1, .int p2] (mW ad cA a_all a_hasImage a_tape a_fresh v_taped v_at v_behind v_size v_kind v_number v_wrong v_wrongAt v_depth v_steps v_faultKind v_faultPlace a_on a_many v_moved a_pile v_aside v_judgedBy v_judgedYear a_leastCost a_matched a_order a_lies a_movedThen a_yearTable a_yearMark a_beginTable a_beginMark v_statesTold v_found v_yearFrom v_mark v_beginsMark v_begins a_began v_isSpent a_wants a_rowSort a_rowMany a_numbers) (mW ad cA a_all a_hasImage a_tape a_fresh v_taped v_at v_behind v_size v_kind v_number v_wrong v_wrongAt v_depth v_steps v_faultKind v_faultPlace ra_on ra_many rv_moved a_pile v_aside v_judgedBy v_judgedYear a_leastCost a_matched a_order a_lies a_movedThen a_yearTable a_yearMark a_beginTable a_beginMark v_statesTold v_found v_yearFrom v_mark v_beginsMark v_begins a_began v_isSpent a_wants a_rowSort a_rowMany a_numbers) (some (.int res)) := by
  refine MM.ofI (by decide) (Nat.le_of_ble_eq_true rfl) ?_
  intro p e s m args below meth c Q A hX hK hE0 hret H locs ls hH hl
  have hX : CallFix p m c cX8_threshold 7 s args lw_all RX8 := hX
  have hx := hX.1
  have hb := hX.2.1
  have hown := hX.2.2.2.1
  have hts := hX.2.2.2.2
  have hl : lv_has ls 7 [(0, .ref (ad 0)), (1, .int p1), (2, .int p2)] := hl
  have hEv := hE.1
  delta FX8_threshold at hF
  refine lv_aload_n hx hb dX8_threshold_0 rfl (lv_at hl 0 rfl) ?_
  refine lv_iconst (v := 0) hx hb dX8_threshold_1 syi_0 ?_
  refine mp_thrown hX hK hH dX8_threshold_2 (fun H locs hH => ?_)
  refine lv_aload_n hx hb dX8_threshold_5 rfl (lv_at hl 0 rfl) ?_
  refine lv_iload_n hx hb dX8_threshold_6 rfl (lv_at hl 1 rfl) ?_
  obtain ⟨b_47, he, hF⟩ := bd1e hF
  refine mcV hX hK hEv hE0 hH (met_X8_isStone hE he) (mrecv hK hH) gw_StoneYearModel_250 hd_yX8_isStone ⟨Nat.le_of_ble_eq_true rfl, Nat.le_of_ble_eq_true rfl⟩ rfl rfl hl (Nat.le_of_ble_eq_true rfl) dX8_threshold_7 ⟨Nat.le_of_ble_eq_true rfl, Nat.le_of_ble_eq_true rfl⟩ (fun H locs hH => ?_)
  refine lv_if_eq (tgt := 30) hx hb dX8_threshold_10 rfl (fun c_48 => ?_) (fun c_48 => ?_)
  · have hF := itp c_48 hF
    refine lv_bipush (v := (-2)) hx hb dX8_threshold_30 syb_m2 ?_
    obtain ⟨rfl, rfl, rfl, rfl⟩ := re4 hF
    exact hret _ _ _ _ hH dX8_threshold_32
  · have hF := itn c_48 hF
    refine lv_aload_n hx hb dX8_threshold_13 rfl (lv_at hl 0 rfl) ?_
    refine lv_iload_n hx hb dX8_threshold_14 rfl (lv_at hl 1 rfl) ?_
    obtain ⟨x_49, he, hF⟩ := bd1e hF
    refine mcV hX hK hEv hE0 hH (met_X8_placeOf hE he) (mrecv hK hH) gw_StoneYearModel_255 hd_yX8_placeOf ⟨Nat.le_of_ble_eq_true rfl, Nat.le_of_ble_eq_true rfl⟩ rfl rfl hl (Nat.le_of_ble_eq_true rfl) dX8_threshold_15 ⟨Nat.le_of_ble_eq_true rfl, Nat.le_of_ble_eq_true rfl⟩ (fun H locs hH => ?_)
    refine lv_iconst (v := (-1)) hx hb dX8_threshold_18 syi_m1 ?_
    refine lv_icmp_eq (tgt := 30) hx hb dX8_threshold_19 rfl (fun c_50 => ?_) (fun c_50 => ?_)
    · have hF := itp c_50 hF
      refine lv_bipush (v := (-2)) hx hb dX8_threshold_30 syb_m2 ?_
      obtain ⟨rfl, rfl, rfl, rfl⟩ := re4 hF
      exact hret _ _ _ _ hH dX8_threshold_32
    · have hF := itn c_50 hF
      refine lv_aload_n hx hb dX8_threshold_22 rfl (lv_at hl 0 rfl) ?_
      refine lv_iload_n hx hb dX8_threshold_23 rfl (lv_at hl 2 rfl) ?_
      obtain ⟨b_51, he, hF⟩ := bd1e hF
      refine mcV hX hK hEv hE0 hH (met_X8_isRow hE he) (mrecv hK hH) gw_StoneYearModel_223 hd_yX8_isRow ⟨Nat.le_of_ble_eq_true rfl, Nat.le_of_ble_eq_true rfl⟩ rfl rfl hl (Nat.le_of_ble_eq_true rfl) dX8_threshold_24 ⟨Nat.le_of_ble_eq_true rfl, Nat.le_of_ble_eq_true rfl⟩ (fun H locs hH => ?_)
      refine lv_if_ne (tgt := 33) hx hb dX8_threshold_27 rfl (fun c_52 => ?_) (fun c_52 => ?_)
      · have hF := itn c_52 hF
        refine lv_aload_n hx hb dX8_threshold_33 rfl (lv_at hl 0 rfl) ?_
        obtain ⟨a_on_53, a_many_54, v_moved_55, he, hF⟩ := bd3e hF
        refine mcV hX hK hEv hE0 hH (met_X8_looksNow hE he) (mrecv hK hH) gw_StoneYearModel_260 hd_yX8_looksNow ⟨Nat.le_of_ble_eq_true rfl, Nat.le_of_ble_eq_true rfl⟩ rfl rfl hl (Nat.le_of_ble_eq_true rfl) dX8_threshold_34 ⟨Nat.le_of_ble_eq_true rfl, Nat.le_of_ble_eq_true rfl⟩ (fun H locs hH => ?_)
        refine lv_aload_n hx hb dX8_threshold_37 rfl (lv_at hl 0 rfl) ?_
        refine lv_iload_n hx hb dX8_threshold_38 rfl (lv_at hl 1 rfl) ?_
        obtain ⟨x_56, he, hF⟩ := bd1e hF
        refine mcV hX hK hEv hE0 hH (met_X8_placeOf hE he) (mrecv hK hH) gw_StoneYearModel_255 hd_yX8_placeOf ⟨Nat.le_of_ble_eq_true rfl, Nat.le_of_ble_eq_true rfl⟩ rfl rfl hl (Nat.le_of_ble_eq_true rfl) dX8_threshold_39 ⟨Nat.le_of_ble_eq_true rfl, Nat.le_of_ble_eq_true rfl⟩ (fun H locs hH => ?_)
        refine lv_iconst (v := 3) hx hb dX8_threshold_42 syi_3 ?_
        refine lv_idiv hx hb dX8_threshold_43 (by decide) ?_
        refine lv_istore_n (lv' := [(3, .int (x_56 / 3)), (0, .ref (ad 0)), (1, .int p1), (2, .int p2)]) hx hb dX8_threshold_44 rfl hl (by decide) rfl (fun ls hl => ?_)
        refine lv_iload_n hx hb dX8_threshold_45 rfl (lv_at hl 0 rfl) ?_
        refine lv_iload_n hx hb dX8_threshold_46 rfl (lv_at hl 3 rfl) ?_
        have j55 : ∀ (x_58 : Int32), FX8_threshold_j55 a_all p2 a_on_53 a_many_54 v_moved_55 x_56 x_58 = some (res, ra_on, ra_many, rv_moved) → ∀ (H : Heap) (locs : List Loc) (ls : Array Slot), MH D vwA A s.heap (mW ad cA a_all a_hasImage a_tape a_fresh v_taped v_at v_behind v_size v_kind v_number v_wrong v_wrongAt v_depth v_steps v_faultKind v_faultPlace a_on_53 a_many_54 v_moved_55 a_pile v_aside v_judgedBy v_judgedYear a_leastCost a_matched a_order a_lies a_movedThen a_yearTable a_yearMark a_beginTable a_beginMark v_statesTold v_found v_yearFrom v_mark v_beginsMark v_begins a_began v_isSpent a_wants a_rowSort a_rowMany a_numbers) H locs → lv_has ls 7 [(0, .ref (ad 0)), (2, .int p2), (3, .int (x_56 / 3))] → W p l e rm_X8_threshold s m args below meth c H locs 0 0 Q (F0 m 55 ls [.int x_58]) := by
          intro x_58 hF H locs ls hH hl
          delta FX8_threshold_j55 at hF
          refine lv_istore (lv' := [(4, .int x_58), (0, .ref (ad 0)), (2, .int p2), (3, .int (x_56 / 3))]) hx hb dX8_threshold_55 hl (by decide) rfl (fun ls hl => ?_)
          refine lv_iconst (v := 0) hx hb dX8_threshold_57 syi_0 ?_
          refine lv_istore (lv' := [(5, .int 0), (4, .int x_58), (0, .ref (ad 0)), (2, .int p2), (3, .int (x_56 / 3))]) hx hb dX8_threshold_58 hl (by decide) rfl (fun ls hl => ?_)
          refine lv_iload_n hx hb dX8_threshold_60 rfl (lv_at hl 4 rfl) ?_
          refine lv_istore (lv' := [(6, .int (x_56 / 3)), (5, .int 0), (4, .int x_58), (0, .ref (ad 0)), (2, .int p2), (3, .int (x_56 / 3))]) hx hb dX8_threshold_61 hl (by decide) rfl (fun ls hl => ?_)
          obtain ⟨xx63, ee63, kk63_0, kk63_1⟩ := bdS2e hF
          have k63_0 : xx63 = (.inl ()) → ∀ (H : Heap) (locs : List Loc) (ls : Array Slot), MH D vwA A s.heap (mW ad cA a_all a_hasImage a_tape a_fresh v_taped v_at v_behind v_size v_kind v_number v_wrong v_wrongAt v_depth v_steps v_faultKind v_faultPlace a_on_53 a_many_54 v_moved_55 a_pile v_aside v_judgedBy v_judgedYear a_leastCost a_matched a_order a_lies a_movedThen a_yearTable a_yearMark a_beginTable a_beginMark v_statesTold v_found v_yearFrom v_mark v_beginsMark v_begins a_began v_isSpent a_wants a_rowSort a_rowMany a_numbers) H locs → lv_has ls 7 [] → W p l e rm_X8_threshold s m args below meth c H locs 0 0 Q (F0 m 94 ls []) := by
            intro hxx H locs ls hH hl
            have hF := un0e (kk63_0 () hxx)
            refine lv_iconst (v := (-1)) hx hb dX8_threshold_94 syi_m1 ?_
            obtain ⟨rfl, rfl, rfl, rfl⟩ := re4 hF
            exact hret _ _ _ _ hH dX8_threshold_95
          have k63_1 : ∀ (x_69 : Int32), xx63 = (.inr x_69) → ∀ (H : Heap) (locs : List Loc) (ls : Array Slot), MH D vwA A s.heap (mW ad cA a_all a_hasImage a_tape a_fresh v_taped v_at v_behind v_size v_kind v_number v_wrong v_wrongAt v_depth v_steps v_faultKind v_faultPlace a_on_53 a_many_54 v_moved_55 a_pile v_aside v_judgedBy v_judgedYear a_leastCost a_matched a_order a_lies a_movedThen a_yearTable a_yearMark a_beginTable a_beginMark v_statesTold v_found v_yearFrom v_mark v_beginsMark v_begins a_began v_isSpent a_wants a_rowSort a_rowMany a_numbers) H locs → lv_has ls 7 [(5, .int x_69)] → W p l e rm_X8_threshold s m args below meth c H locs 0 0 Q (F0 m 109 ls []) := by
            intro x_69 hxx H locs ls hH hl
            have hF := un1e (kk63_1 x_69 hxx)
            refine lv_iload hx hb dX8_threshold_109 (lv_at hl 0 rfl) ?_
            obtain ⟨rfl, rfl, rfl, rfl⟩ := re4 hF
            exact hret _ _ _ _ hH dX8_threshold_111
          obtain ⟨nn63, en63⟩ := loopC_some ee63
          have l63 : ∀ (n : Nat) (x_63 : Int32) (x_64 : Int32), loopN (fun s => FX8_threshold_b63 a_all p2 a_many_54 x_58 s.1 s.2) n (x_63, x_64) = some xx63 → ∀ (H : Heap) (locs : List Loc) (ls : Array Slot), MH D vwA A s.heap (mW ad cA a_all a_hasImage a_tape a_fresh v_taped v_at v_behind v_size v_kind v_number v_wrong v_wrongAt v_depth v_steps v_faultKind v_faultPlace a_on_53 a_many_54 v_moved_55 a_pile v_aside v_judgedBy v_judgedYear a_leastCost a_matched a_order a_lies a_movedThen a_yearTable a_yearMark a_beginTable a_beginMark v_statesTold v_found v_yearFrom v_mark v_beginsMark v_begins a_began v_isSpent a_wants a_rowSort a_rowMany a_numbers) H locs → lv_has ls 7 [(0, .ref (ad 0)), (2, .int p2), (4, .int x_58), (5, .int x_63), (6, .int x_64)] → W p l e rm_X8_threshold s m args below meth c H locs 0 0 Q (F0 m 63 ls []) := by
            intro n
            induction n with
            | zero =>
              intro x_63 x_64 hN
              exact absurd hN loopN_zero
            | succ n ih =>
              intro x_63 x_64 hN H locs ls hH hl
              obtain ⟨yy63, hB63, hY63⟩ := loopN_succ hN
              have hF : FX8_threshold_b63 a_all p2 a_many_54 x_58 x_63 x_64 = some yy63 := hB63
              delta FX8_threshold_b63 at hF
              refine lv_iload hx hb dX8_threshold_63 (lv_at hl 4 rfl) ?_
              refine lv_iload_n hx hb dX8_threshold_65 rfl (lv_at hl 1 rfl) ?_
              refine lv_icmp_eq (tgt := 109) hx hb dX8_threshold_66 rfl (fun c_65 => ?_) (fun c_65 => ?_)
              · have hF := itp c_65 hF
                obtain rfl := Option.some.inj hF
                exact k63_1 x_63 hY63 _ _ _ hH (lv_sub hl [3] rfl)
              · have hF := itn c_65 hF
                refine lv_aload_n hx hb dX8_threshold_69 rfl (lv_at hl 0 rfl) ?_
                refine mg_many hX hK hH dX8_threshold_70 ?_
                refine lv_iload hx hb dX8_threshold_73 (lv_at hl 4 rfl) ?_
                refine lv_iload hx hb dX8_threshold_75 (lv_at hl 2 rfl) ?_
                refine lv_iadd hx hb dX8_threshold_77 ?_
                obtain ⟨x_66, he, hF⟩ := bd1e hF
                refine ml_many hX hK hH he dX8_threshold_78 ?_
                refine lv_aload_n hx hb dX8_threshold_79 rfl (lv_at hl 0 rfl) ?_
                refine mg_all hX hK hH dX8_threshold_80 ?_
                refine lv_iconst (v := 1) hx hb dX8_threshold_83 syi_1 ?_
                refine lv_iload hx hb dX8_threshold_84 (lv_at hl 4 rfl) ?_
                refine lv_iadd hx hb dX8_threshold_86 ?_
                refine lv_iload hx hb dX8_threshold_87 (lv_at hl 2 rfl) ?_
                refine lv_iadd hx hb dX8_threshold_89 ?_
                obtain ⟨x_67, he, hF⟩ := bd1e hF
                refine ml_all hX hK hH he dX8_threshold_90 ?_
                refine lv_icmp_lt (tgt := 96) hx hb dX8_threshold_91 rfl (fun c_68 => ?_) (fun c_68 => ?_)
                · have hF := itp c_68 hF
                  refine lv_iinc (v := (x_63 + 1)) (lv' := [(5, .int (x_63 + 1)), (0, .ref (ad 0)), (2, .int p2), (4, .int x_58), (6, .int x_64)]) hx hb dX8_threshold_96 hl (k := 3) rfl (syc syi_1) (by decide) rfl (fun ls hl => ?_)
                  refine lv_iload hx hb dX8_threshold_99 (lv_at hl 4 rfl) ?_
                  refine lv_iload hx hb dX8_threshold_101 (lv_at hl 3 rfl) ?_
                  refine lv_iadd hx hb dX8_threshold_103 ?_
                  refine lv_istore (lv' := [(6, .int (x_64 + x_58)), (5, .int (x_63 + 1)), (0, .ref (ad 0)), (2, .int p2), (4, .int x_58)]) hx hb dX8_threshold_104 hl (by decide) rfl (fun ls hl => ?_)
                  refine lv_goto (tgt := 63) hx hb dX8_threshold_106 rfl ?_
                  obtain rfl := Option.some.inj hF
                  exact ih (x_63 + 1) (x_64 + x_58) hY63 _ _ _ hH (lv_sub hl [2, 3, 4, 1, 0] rfl)
                · have hF := itn c_68 hF
                  obtain rfl := Option.some.inj hF
                  exact k63_0 hY63 _ _ _ hH (lv_sub hl [] rfl)
          exact l63 nn63 0 (x_56 / 3) en63 _ _ _ hH (lv_sub hl [3, 4, 2, 1, 0] rfl)
        refine lv_icmp_ge (tgt := 54) hx hb dX8_threshold_47 rfl (fun c_57 => ?_) (fun c_57 => ?_)
        · have hF := itp c_57 hF
          refine lv_iconst (v := (-1)) hx hb dX8_threshold_54 syi_m1 ?_
          exact j55 (-1) hF _ _ _ hH (lv_sub hl [1, 3, 0] rfl)
        · have hF := itn c_57 hF
          refine lv_iconst (v := 1) hx hb dX8_threshold_50 syi_1 ?_
          refine lv_goto (tgt := 55) hx hb dX8_threshold_51 rfl ?_
          exact j55 1 hF _ _ _ hH (lv_sub hl [1, 3, 0] rfl)
      · have hF := itp c_52 hF
        refine lv_bipush (v := (-2)) hx hb dX8_threshold_30 syb_m2 ?_
        obtain ⟨rfl, rfl, rfl, rfl⟩ := re4 hF
        exact hret _ _ _ _ hH dX8_threshold_32
abbrev rm_X8_numbers : Room := { frames := 1, cells := 0, slots := 0, locals := 25 }
set_option maxHeartbeats 4000000 in
theorem met_X8_numbers {l : Launch} {D : va_G} {ad : Nat → Nat} {cA : Nat → ClassId} {a_all : Nat → Int32} {a_hasImage : Nat → Int32} {a_tape : Nat → Int32} {a_fresh : Nat → Int32} {v_taped : Int32} {v_at : Int32} {v_behind : Int32} {v_size : Int32} {v_kind : Int32} {v_number : Int32} {v_wrong : Int32} {v_wrongAt : Int32} {v_depth : Int32} {v_steps : Int32} {v_faultKind : Int32} {v_faultPlace : Int32} {a_on : Nat → Int32} {a_many : Nat → Int32} {v_moved : Int32} {a_pile : Nat → Int32} {v_aside : Int32} {v_judgedBy : Int32} {v_judgedYear : Int32} {a_leastCost : Nat → Int32} {a_matched : Nat → Int32} {a_order : Nat → Int32} {a_lies : Nat → Int64} {a_movedThen : Nat → Int32} {a_yearTable : Nat → Int32} {a_yearMark : Nat → Int32} {a_beginTable : Nat → Int32} {a_beginMark : Nat → Int32} {v_statesTold : Int32} {v_found : Int32} {v_yearFrom : Int32} {v_mark : Int32} {v_beginsMark : Int32} {v_begins : Int32} {a_began : Nat → Int64} {v_isSpent : Int32} {a_wants : Nat → Int32} {a_rowSort : Nat → Int32} {a_rowMany : Nat → Int32} {a_numbers : Nat → Int64}  {p1 : Int32} {p2 : Int32} {p3 : Int32} {res : Int32} {ra_rowSort : Nat → Int32} {ra_rowMany : Nat → Int32} {ra_numbers : Nat → Int64} {ak av fo : Nat} {E : EvT} (hE : EvM E ak av fo) (hF : FX8_numbers a_rowSort a_rowMany a_numbers p1 p2 p3 = some (res, ra_rowSort, ra_rowMany, ra_numbers)) : MM l yX8_numbers (ws_ yX8_numbers cX8_numbers 5 (Option.some Jvm.ClassFile.FieldType.int)) rm_X8_numbers D vwA (mT cA) E [.ref (ad 0), .int p1, .int p2, .int p3] (mW ad cA a_all a_hasImage a_tape a_fresh v_taped v_at v_behind v_size v_kind v_number v_wrong v_wrongAt v_depth v_steps v_faultKind v_faultPlace a_on a_many v_moved a_pile v_aside v_judgedBy v_judgedYear a_leastCost a_matched a_order a_lies a_movedThen a_yearTable a_yearMark a_beginTable a_beginMark v_statesTold v_found v_yearFrom v_mark v_beginsMark v_begins a_began v_isSpent a_wants a_rowSort a_rowMany a_numbers) (mW ad cA a_all a_hasImage a_tape a_fresh v_taped v_at v_behind v_size v_kind v_number v_wrong v_wrongAt v_depth v_steps v_faultKind v_faultPlace a_on a_many v_moved a_pile v_aside v_judgedBy v_judgedYear a_leastCost a_matched a_order a_lies a_movedThen a_yearTable a_yearMark a_beginTable a_beginMark v_statesTold v_found v_yearFrom v_mark v_beginsMark v_begins a_began v_isSpent a_wants ra_rowSort ra_rowMany ra_numbers) (some (.int res)) := by
  refine MM.ofI (by decide) (Nat.le_of_ble_eq_true rfl) ?_
  intro p e s m args below meth c Q A hX hK hE0 hret H locs ls hH hl
  have hX : CallFix p m c cX8_numbers 5 s args lw_all RX8 := hX
  have hx := hX.1
  have hb := hX.2.1
  have hown := hX.2.2.2.1
  have hts := hX.2.2.2.2
  have hl : lv_has ls 5 [(0, .ref (ad 0)), (1, .int p1), (2, .int p2), (3, .int p3)] := hl
  have hEv := hE.1
  delta FX8_numbers at hF
  refine lv_aload_n hx hb dX8_numbers_0 rfl (lv_at hl 0 rfl) ?_
  refine lv_iconst (v := 0) hx hb dX8_numbers_1 syi_0 ?_
  refine mp_thrown hX hK hH dX8_numbers_2 (fun H locs hH => ?_)
  refine lv_iload_n hx hb dX8_numbers_5 rfl (lv_at hl 1 rfl) ?_
  refine lv_i2l (v := (Int32.toInt64 p1)) hx hb dX8_numbers_6 rfl ?_
  refine lv_lconst (v := 0) hx hb dX8_numbers_7 rfl ?_
  refine lv_ldc2 (v := 3) hx hb hown (hts _ q2028) dX8_numbers_8 ?_
  obtain ⟨b_48, he, hF⟩ := bd1e hF
  refine mcS hX hK hEv hE0 hH (met_X8_within hE he) gw_StoneYearModel_153 hd_yX8_within ⟨Nat.le_of_ble_eq_true rfl, Nat.le_of_ble_eq_true rfl⟩ rfl rfl hl (Nat.le_of_ble_eq_true rfl) dX8_numbers_11 ⟨Nat.le_of_ble_eq_true rfl, Nat.le_of_ble_eq_true rfl⟩ (fun H locs hH => ?_)
  refine lv_if_eq (tgt := 29) hx hb dX8_numbers_14 rfl (fun c_49 => ?_) (fun c_49 => ?_)
  · have hF := itp c_49 hF
    refine lv_bipush (v := (-2)) hx hb dX8_numbers_29 syb_m2 ?_
    obtain ⟨rfl, rfl, rfl, rfl⟩ := re4 hF
    exact hret _ _ _ _ hH dX8_numbers_31
  · have hF := itn c_49 hF
    refine lv_iload_n hx hb dX8_numbers_17 rfl (lv_at hl 2 rfl) ?_
    refine lv_i2l (v := (Int32.toInt64 p2)) hx hb dX8_numbers_18 rfl ?_
    refine lv_lconst (v := 0) hx hb dX8_numbers_19 rfl ?_
    refine lv_ldc2 (v := 3) hx hb hown (hts _ q2028) dX8_numbers_20 ?_
    obtain ⟨b_50, he, hF⟩ := bd1e hF
    refine mcS hX hK hEv hE0 hH (met_X8_within hE he) gw_StoneYearModel_153 hd_yX8_within ⟨Nat.le_of_ble_eq_true rfl, Nat.le_of_ble_eq_true rfl⟩ rfl rfl hl (Nat.le_of_ble_eq_true rfl) dX8_numbers_23 ⟨Nat.le_of_ble_eq_true rfl, Nat.le_of_ble_eq_true rfl⟩ (fun H locs hH => ?_)
    refine lv_if_ne (tgt := 32) hx hb dX8_numbers_26 rfl (fun c_51 => ?_) (fun c_51 => ?_)
    · have hF := itn c_51 hF
      refine lv_iload_n hx hb dX8_numbers_32 rfl (lv_at hl 3 rfl) ?_
      refine lv_i2l (v := (Int32.toInt64 p3)) hx hb dX8_numbers_33 rfl ?_
      refine lv_lconst (v := 0) hx hb dX8_numbers_34 rfl ?_
      refine lv_ldc2 (v := 40) hx hb hown (hts _ q2187) dX8_numbers_35 ?_
      obtain ⟨b_52, he, hF⟩ := bd1e hF
      refine mcS hX hK hEv hE0 hH (met_X8_within hE he) gw_StoneYearModel_153 hd_yX8_within ⟨Nat.le_of_ble_eq_true rfl, Nat.le_of_ble_eq_true rfl⟩ rfl rfl hl (Nat.le_of_ble_eq_true rfl) dX8_numbers_38 ⟨Nat.le_of_ble_eq_true rfl, Nat.le_of_ble_eq_true rfl⟩ (fun H locs hH => ?_)
      refine lv_if_ne (tgt := 47) hx hb dX8_numbers_41 rfl (fun c_53 => ?_) (fun c_53 => ?_)
      · have hF := itn c_53 hF
        refine lv_aload_n hx hb dX8_numbers_47 rfl (lv_at hl 0 rfl) ?_
        refine mg_rowSort hX hK hH dX8_numbers_48 ?_
        refine lv_iload_n hx hb dX8_numbers_51 rfl (lv_at hl 1 rfl) ?_
        refine lv_iload_n hx hb dX8_numbers_52 rfl (lv_at hl 2 rfl) ?_
        obtain ⟨a_rowSort_54, he, hF⟩ := bd1e hF
        refine ms_rowSort hX hK hH he dX8_numbers_53 (fun H locs hH => ?_)
        refine lv_aload_n hx hb dX8_numbers_54 rfl (lv_at hl 0 rfl) ?_
        refine mg_rowMany hX hK hH dX8_numbers_55 ?_
        refine lv_iload_n hx hb dX8_numbers_58 rfl (lv_at hl 1 rfl) ?_
        refine lv_iload_n hx hb dX8_numbers_59 rfl (lv_at hl 3 rfl) ?_
        obtain ⟨a_rowMany_55, he, hF⟩ := bd1e hF
        refine ms_rowMany hX hK hH he dX8_numbers_60 (fun H locs hH => ?_)
        refine lv_iconst (v := 0) hx hb dX8_numbers_61 syi_0 ?_
        refine lv_istore (lv' := [(4, .int 0), (0, .ref (ad 0)), (1, .int p1), (2, .int p2), (3, .int p3)]) hx hb dX8_numbers_62 hl (by decide) rfl (fun ls hl => ?_)
        obtain ⟨xx64, ee64, kk64_0⟩ := bd1L hF
        have k64_0 : ∀ (a_numbers_62 : Nat → Int64), xx64 = a_numbers_62 → ∀ (H : Heap) (locs : List Loc) (ls : Array Slot), MH D vwA A s.heap (mW ad cA a_all a_hasImage a_tape a_fresh v_taped v_at v_behind v_size v_kind v_number v_wrong v_wrongAt v_depth v_steps v_faultKind v_faultPlace a_on a_many v_moved a_pile v_aside v_judgedBy v_judgedYear a_leastCost a_matched a_order a_lies a_movedThen a_yearTable a_yearMark a_beginTable a_beginMark v_statesTold v_found v_yearFrom v_mark v_beginsMark v_begins a_began v_isSpent a_wants a_rowSort_54 a_rowMany_55 a_numbers_62) H locs → lv_has ls 5 [] → W p l e rm_X8_numbers s m args below meth c H locs 0 0 Q (F0 m 89 ls []) := by
          intro a_numbers_62 hxx H locs ls hH hl
          have hF := un1e (kk64_0 a_numbers_62 hxx)
          refine lv_iconst (v := 0) hx hb dX8_numbers_89 syi_0 ?_
          obtain ⟨rfl, rfl, rfl, rfl⟩ := re4 hF
          exact hret _ _ _ _ hH dX8_numbers_90
        obtain ⟨nn64, en64⟩ := loopC_some ee64
        have l64 : ∀ (n : Nat) (x_58 : Int32) (a_numbers_59 : Nat → Int64), loopN (fun s => FX8_numbers_b64 p1 p3 s.1 s.2) n (x_58, a_numbers_59) = some xx64 → ∀ (H : Heap) (locs : List Loc) (ls : Array Slot), MH D vwA A s.heap (mW ad cA a_all a_hasImage a_tape a_fresh v_taped v_at v_behind v_size v_kind v_number v_wrong v_wrongAt v_depth v_steps v_faultKind v_faultPlace a_on a_many v_moved a_pile v_aside v_judgedBy v_judgedYear a_leastCost a_matched a_order a_lies a_movedThen a_yearTable a_yearMark a_beginTable a_beginMark v_statesTold v_found v_yearFrom v_mark v_beginsMark v_begins a_began v_isSpent a_wants a_rowSort_54 a_rowMany_55 a_numbers_59) H locs → lv_has ls 5 [(0, .ref (ad 0)), (1, .int p1), (3, .int p3), (4, .int x_58)] → W p l e rm_X8_numbers s m args below meth c H locs 0 0 Q (F0 m 64 ls []) := by
          intro n
          induction n with
          | zero =>
            intro x_58 a_numbers_59 hN
            exact absurd hN loopN_zero
          | succ n ih =>
            intro x_58 a_numbers_59 hN H locs ls hH hl
            obtain ⟨yy64, hB64, hY64⟩ := loopN_succ hN
            have hF : FX8_numbers_b64 p1 p3 x_58 a_numbers_59 = some yy64 := hB64
            delta FX8_numbers_b64 at hF
            refine lv_iload hx hb dX8_numbers_64 (lv_at hl 3 rfl) ?_
            refine lv_iload_n hx hb dX8_numbers_66 rfl (lv_at hl 2 rfl) ?_
            refine lv_icmp_ge (tgt := 89) hx hb dX8_numbers_67 rfl (fun c_60 => ?_) (fun c_60 => ?_)
            · have hF := itp c_60 hF
              obtain rfl := Option.some.inj hF
              exact k64_0 a_numbers_59 hY64 _ _ _ hH (lv_sub hl [] rfl)
            · have hF := itn c_60 hF
              refine lv_aload_n hx hb dX8_numbers_70 rfl (lv_at hl 0 rfl) ?_
              refine mg_numbers hX hK hH dX8_numbers_71 ?_
              refine lv_bipush (v := 40) hx hb dX8_numbers_74 syb_40 ?_
              refine lv_iload_n hx hb dX8_numbers_76 rfl (lv_at hl 1 rfl) ?_
              refine lv_imul hx hb dX8_numbers_77 ?_
              refine lv_iload hx hb dX8_numbers_78 (lv_at hl 3 rfl) ?_
              refine lv_iadd hx hb dX8_numbers_80 ?_
              refine lv_lconst (v := 0) hx hb dX8_numbers_81 rfl ?_
              obtain ⟨a_numbers_61, he, hF⟩ := bd1e hF
              refine ms_numbers hX hK hH he dX8_numbers_82 (fun H locs hH => ?_)
              refine lv_iinc (v := (x_58 + 1)) (lv' := [(4, .int (x_58 + 1)), (0, .ref (ad 0)), (1, .int p1), (3, .int p3)]) hx hb dX8_numbers_83 hl (k := 3) rfl (syc syi_1) (by decide) rfl (fun ls hl => ?_)
              refine lv_goto (tgt := 64) hx hb dX8_numbers_86 rfl ?_
              obtain rfl := Option.some.inj hF
              exact ih (x_58 + 1) a_numbers_61 hY64 _ _ _ hH (lv_sub hl [1, 2, 3, 0] rfl)
        exact l64 nn64 0 a_numbers en64 _ _ _ hH (lv_sub hl [1, 2, 4, 0] rfl)
      · have hF := itp c_53 hF
        refine lv_bipush (v := (-3)) hx hb dX8_numbers_44 syb_m3 ?_
        obtain ⟨rfl, rfl, rfl, rfl⟩ := re4 hF
        exact hret _ _ _ _ hH dX8_numbers_46
    · have hF := itp c_51 hF
      refine lv_bipush (v := (-2)) hx hb dX8_numbers_29 syb_m2 ?_
      obtain ⟨rfl, rfl, rfl, rfl⟩ := re4 hF
      exact hret _ _ _ _ hH dX8_numbers_31
abbrev rm_X8_cut : Room := { frames := 0, cells := 0, slots := 0, locals := 0 }
set_option maxHeartbeats 4000000 in
theorem met_X8_cut {l : Launch} {D : va_G} {ad : Nat → Nat} {cA : Nat → ClassId} {a_all : Nat → Int32} {a_hasImage : Nat → Int32} {a_tape : Nat → Int32} {a_fresh : Nat → Int32} {v_taped : Int32} {v_at : Int32} {v_behind : Int32} {v_size : Int32} {v_kind : Int32} {v_number : Int32} {v_wrong : Int32} {v_wrongAt : Int32} {v_depth : Int32} {v_steps : Int32} {v_faultKind : Int32} {v_faultPlace : Int32} {a_on : Nat → Int32} {a_many : Nat → Int32} {v_moved : Int32} {a_pile : Nat → Int32} {v_aside : Int32} {v_judgedBy : Int32} {v_judgedYear : Int32} {a_leastCost : Nat → Int32} {a_matched : Nat → Int32} {a_order : Nat → Int32} {a_lies : Nat → Int64} {a_movedThen : Nat → Int32} {a_yearTable : Nat → Int32} {a_yearMark : Nat → Int32} {a_beginTable : Nat → Int32} {a_beginMark : Nat → Int32} {v_statesTold : Int32} {v_found : Int32} {v_yearFrom : Int32} {v_mark : Int32} {v_beginsMark : Int32} {v_begins : Int32} {a_began : Nat → Int64} {v_isSpent : Int32} {a_wants : Nat → Int32} {a_rowSort : Nat → Int32} {a_rowMany : Nat → Int32} {a_numbers : Nat → Int64}  {p0 : Int64} {p2 : Int32} {res : Int64} {ak av fo : Nat} {E : EvT} (hE : EvM E ak av fo) (hF : FX8_cut p0 p2 = some res) : MM l yX8_cut (ws_ yX8_cut cX8_cut 3 (Option.some Jvm.ClassFile.FieldType.long)) rm_X8_cut D vwA (mT cA) E [.long p0, .int p2] (mW ad cA a_all a_hasImage a_tape a_fresh v_taped v_at v_behind v_size v_kind v_number v_wrong v_wrongAt v_depth v_steps v_faultKind v_faultPlace a_on a_many v_moved a_pile v_aside v_judgedBy v_judgedYear a_leastCost a_matched a_order a_lies a_movedThen a_yearTable a_yearMark a_beginTable a_beginMark v_statesTold v_found v_yearFrom v_mark v_beginsMark v_begins a_began v_isSpent a_wants a_rowSort a_rowMany a_numbers) (mW ad cA a_all a_hasImage a_tape a_fresh v_taped v_at v_behind v_size v_kind v_number v_wrong v_wrongAt v_depth v_steps v_faultKind v_faultPlace a_on a_many v_moved a_pile v_aside v_judgedBy v_judgedYear a_leastCost a_matched a_order a_lies a_movedThen a_yearTable a_yearMark a_beginTable a_beginMark v_statesTold v_found v_yearFrom v_mark v_beginsMark v_begins a_began v_isSpent a_wants a_rowSort a_rowMany a_numbers) (some (.long res)) := by
  refine MM.ofL (by decide) (Nat.le_of_ble_eq_true rfl) ?_
  intro p e s m args below meth c Q A hX hK hE0 hret H locs ls hH hl
  have hX : CallFix p m c cX8_cut 3 s args lw_all RX8 := hX
  have hx := hX.1
  have hb := hX.2.1
  have hown := hX.2.2.2.1
  have hts := hX.2.2.2.2
  have hl : lv_has ls 3 [(0, .long p0), (2, .int p2)] := hl
  have hEv := hE.1
  delta FX8_cut at hF
  refine lv_iload_n hx hb dX8_cut_0 rfl (lv_at hl 1 rfl) ?_
  refine lv_if_ne (tgt := 11) hx hb dX8_cut_1 rfl (fun c_47 => ?_) (fun c_47 => ?_)
  · have hF := itn c_47 hF
    refine lv_iload_n hx hb dX8_cut_11 rfl (lv_at hl 1 rfl) ?_
    refine lv_iconst (v := 1) hx hb dX8_cut_12 syi_1 ?_
    refine lv_icmp_ne (tgt := 23) hx hb dX8_cut_13 rfl (fun c_48 => ?_) (fun c_48 => ?_)
    · have hF := itn c_48 hF
      refine lv_iload_n hx hb dX8_cut_23 rfl (lv_at hl 1 rfl) ?_
      refine lv_iconst (v := 2) hx hb dX8_cut_24 syi_2 ?_
      refine lv_icmp_ne (tgt := 34) hx hb dX8_cut_25 rfl (fun c_49 => ?_) (fun c_49 => ?_)
      · have hF := itn c_49 hF
        refine lv_lload_n hx hb dX8_cut_34 rfl (lv_at hl 0 rfl) ?_
        obtain rfl := Option.some.inj hF
        exact hret _ _ _ _ hH dX8_cut_35
      · have hF := itp c_49 hF
        refine lv_lload_n hx hb dX8_cut_28 rfl (lv_at hl 0 rfl) ?_
        refine lv_l2i (v := (Int64.toInt32 p0)) hx hb dX8_cut_29 rfl ?_
        refine lv_i2l (v := (Int32.toInt64 (Int64.toInt32 p0))) hx hb dX8_cut_30 rfl ?_
        refine lv_goto (tgt := 35) hx hb dX8_cut_31 rfl ?_
        obtain rfl := Option.some.inj hF
        exact hret _ _ _ _ hH dX8_cut_35
    · have hF := itp c_48 hF
      refine lv_lload_n hx hb dX8_cut_16 rfl (lv_at hl 0 rfl) ?_
      refine lv_l2i (v := (Int64.toInt32 p0)) hx hb dX8_cut_17 rfl ?_
      refine lv_i2s (v := (cvS (Int64.toInt32 p0))) hx hb dX8_cut_18 rfl ?_
      refine lv_i2l (v := (Int32.toInt64 (cvS (Int64.toInt32 p0)))) hx hb dX8_cut_19 rfl ?_
      refine lv_goto (tgt := 35) hx hb dX8_cut_20 rfl ?_
      obtain rfl := Option.some.inj hF
      exact hret _ _ _ _ hH dX8_cut_35
  · have hF := itp c_47 hF
    refine lv_lload_n hx hb dX8_cut_4 rfl (lv_at hl 0 rfl) ?_
    refine lv_l2i (v := (Int64.toInt32 p0)) hx hb dX8_cut_5 rfl ?_
    refine lv_i2b (v := (cvB (Int64.toInt32 p0))) hx hb dX8_cut_6 rfl ?_
    refine lv_i2l (v := (Int32.toInt64 (cvB (Int64.toInt32 p0)))) hx hb dX8_cut_7 rfl ?_
    refine lv_goto (tgt := 35) hx hb dX8_cut_8 rfl ?_
    obtain rfl := Option.some.inj hF
    exact hret _ _ _ _ hH dX8_cut_35
abbrev rm_X8_write : Room := { frames := 1, cells := 0, slots := 0, locals := 25 }
set_option maxHeartbeats 4000000 in
theorem met_X8_write {l : Launch} {D : va_G} {ad : Nat → Nat} {cA : Nat → ClassId} {a_all : Nat → Int32} {a_hasImage : Nat → Int32} {a_tape : Nat → Int32} {a_fresh : Nat → Int32} {v_taped : Int32} {v_at : Int32} {v_behind : Int32} {v_size : Int32} {v_kind : Int32} {v_number : Int32} {v_wrong : Int32} {v_wrongAt : Int32} {v_depth : Int32} {v_steps : Int32} {v_faultKind : Int32} {v_faultPlace : Int32} {a_on : Nat → Int32} {a_many : Nat → Int32} {v_moved : Int32} {a_pile : Nat → Int32} {v_aside : Int32} {v_judgedBy : Int32} {v_judgedYear : Int32} {a_leastCost : Nat → Int32} {a_matched : Nat → Int32} {a_order : Nat → Int32} {a_lies : Nat → Int64} {a_movedThen : Nat → Int32} {a_yearTable : Nat → Int32} {a_yearMark : Nat → Int32} {a_beginTable : Nat → Int32} {a_beginMark : Nat → Int32} {v_statesTold : Int32} {v_found : Int32} {v_yearFrom : Int32} {v_mark : Int32} {v_beginsMark : Int32} {v_begins : Int32} {a_began : Nat → Int64} {v_isSpent : Int32} {a_wants : Nat → Int32} {a_rowSort : Nat → Int32} {a_rowMany : Nat → Int32} {a_numbers : Nat → Int64}  {p1 : Int32} {p2 : Int32} {p3 : Int64} {res : Int64} {ra_numbers : Nat → Int64} {ak av fo : Nat} {E : EvT} (hE : EvM E ak av fo) (hF : FX8_write a_rowSort a_rowMany a_numbers p1 p2 p3 = some (res, ra_numbers)) : MM l yX8_write (ws_ yX8_write cX8_write 5 (Option.some Jvm.ClassFile.FieldType.long)) rm_X8_write D vwA (mT cA) E [.ref (ad 0), .int p1, .int p2, .long p3] (mW ad cA a_all a_hasImage a_tape a_fresh v_taped v_at v_behind v_size v_kind v_number v_wrong v_wrongAt v_depth v_steps v_faultKind v_faultPlace a_on a_many v_moved a_pile v_aside v_judgedBy v_judgedYear a_leastCost a_matched a_order a_lies a_movedThen a_yearTable a_yearMark a_beginTable a_beginMark v_statesTold v_found v_yearFrom v_mark v_beginsMark v_begins a_began v_isSpent a_wants a_rowSort a_rowMany a_numbers) (mW ad cA a_all a_hasImage a_tape a_fresh v_taped v_at v_behind v_size v_kind v_number v_wrong v_wrongAt v_depth v_steps v_faultKind v_faultPlace a_on a_many v_moved a_pile v_aside v_judgedBy v_judgedYear a_leastCost a_matched a_order a_lies a_movedThen a_yearTable a_yearMark a_beginTable a_beginMark v_statesTold v_found v_yearFrom v_mark v_beginsMark v_begins a_began v_isSpent a_wants a_rowSort a_rowMany ra_numbers) (some (.long res)) := by
  refine MM.ofL (by decide) (Nat.le_of_ble_eq_true rfl) ?_
  intro p e s m args below meth c Q A hX hK hE0 hret H locs ls hH hl
  have hX : CallFix p m c cX8_write 5 s args lw_all RX8 := hX
  have hx := hX.1
  have hb := hX.2.1
  have hown := hX.2.2.2.1
  have hts := hX.2.2.2.2
  have hl : lv_has ls 5 [(0, .ref (ad 0)), (1, .int p1), (2, .int p2), (3, .long p3)] := hl
  have hEv := hE.1
  delta FX8_write at hF
  refine lv_aload_n hx hb dX8_write_0 rfl (lv_at hl 0 rfl) ?_
  refine lv_iconst (v := 0) hx hb dX8_write_1 syi_0 ?_
  refine mp_thrown hX hK hH dX8_write_2 (fun H locs hH => ?_)
  refine lv_iload_n hx hb dX8_write_5 rfl (lv_at hl 1 rfl) ?_
  refine lv_i2l (v := (Int32.toInt64 p1)) hx hb dX8_write_6 rfl ?_
  refine lv_lconst (v := 0) hx hb dX8_write_7 rfl ?_
  refine lv_ldc2 (v := 3) hx hb hown (hts _ q2028) dX8_write_8 ?_
  obtain ⟨b_48, he, hF⟩ := bd1e hF
  refine mcS hX hK hEv hE0 hH (met_X8_within hE he) gw_StoneYearModel_153 hd_yX8_within ⟨Nat.le_of_ble_eq_true rfl, Nat.le_of_ble_eq_true rfl⟩ rfl rfl hl (Nat.le_of_ble_eq_true rfl) dX8_write_11 ⟨Nat.le_of_ble_eq_true rfl, Nat.le_of_ble_eq_true rfl⟩ (fun H locs hH => ?_)
  refine lv_if_ne (tgt := 21) hx hb dX8_write_14 rfl (fun c_49 => ?_) (fun c_49 => ?_)
  · have hF := itn c_49 hF
    refine lv_aload_n hx hb dX8_write_21 rfl (lv_at hl 0 rfl) ?_
    refine mg_rowSort hX hK hH dX8_write_22 ?_
    refine lv_iload_n hx hb dX8_write_25 rfl (lv_at hl 1 rfl) ?_
    obtain ⟨x_50, he, hF⟩ := bd1e hF
    refine ml_rowSort hX hK hH he dX8_write_26 ?_
    refine lv_iconst (v := (-1)) hx hb dX8_write_27 syi_m1 ?_
    refine lv_icmp_ne (tgt := 35) hx hb dX8_write_28 rfl (fun c_51 => ?_) (fun c_51 => ?_)
    · have hF := itn c_51 hF
      refine lv_iload_n hx hb dX8_write_35 rfl (lv_at hl 2 rfl) ?_
      refine lv_i2l (v := (Int32.toInt64 p2)) hx hb dX8_write_36 rfl ?_
      refine lv_lconst (v := 0) hx hb dX8_write_37 rfl ?_
      refine lv_aload_n hx hb dX8_write_38 rfl (lv_at hl 0 rfl) ?_
      refine mg_rowMany hX hK hH dX8_write_39 ?_
      refine lv_iload_n hx hb dX8_write_42 rfl (lv_at hl 1 rfl) ?_
      obtain ⟨x_52, he, hF⟩ := bd1e hF
      refine ml_rowMany hX hK hH he dX8_write_43 ?_
      refine lv_iconst (v := 1) hx hb dX8_write_44 syi_1 ?_
      refine lv_isub hx hb dX8_write_45 ?_
      refine lv_i2l (v := (Int32.toInt64 (x_52 - 1))) hx hb dX8_write_46 rfl ?_
      obtain ⟨b_53, he, hF⟩ := bd1e hF
      refine mcS hX hK hEv hE0 hH (met_X8_within hE he) gw_StoneYearModel_153 hd_yX8_within ⟨Nat.le_of_ble_eq_true rfl, Nat.le_of_ble_eq_true rfl⟩ rfl rfl hl (Nat.le_of_ble_eq_true rfl) dX8_write_47 ⟨Nat.le_of_ble_eq_true rfl, Nat.le_of_ble_eq_true rfl⟩ (fun H locs hH => ?_)
      refine lv_if_ne (tgt := 57) hx hb dX8_write_50 rfl (fun c_54 => ?_) (fun c_54 => ?_)
      · have hF := itn c_54 hF
        refine lv_aload_n hx hb dX8_write_57 rfl (lv_at hl 0 rfl) ?_
        refine mg_numbers hX hK hH dX8_write_58 ?_
        refine lv_bipush (v := 40) hx hb dX8_write_61 syb_40 ?_
        refine lv_iload_n hx hb dX8_write_63 rfl (lv_at hl 1 rfl) ?_
        refine lv_imul hx hb dX8_write_64 ?_
        refine lv_iload_n hx hb dX8_write_65 rfl (lv_at hl 2 rfl) ?_
        refine lv_iadd hx hb dX8_write_66 ?_
        refine lv_lload_n hx hb dX8_write_67 rfl (lv_at hl 3 rfl) ?_
        refine lv_aload_n hx hb dX8_write_68 rfl (lv_at hl 0 rfl) ?_
        refine mg_rowSort hX hK hH dX8_write_69 ?_
        refine lv_iload_n hx hb dX8_write_72 rfl (lv_at hl 1 rfl) ?_
        obtain ⟨x_55, he, hF⟩ := bd1e hF
        refine ml_rowSort hX hK hH he dX8_write_73 ?_
        obtain ⟨y_56, he, hF⟩ := bd1e hF
        refine mcS hX hK hEv hE0 hH (met_X8_cut hE he) gw_StoneYearModel_442 hd_yX8_cut ⟨Nat.le_of_ble_eq_true rfl, Nat.le_of_ble_eq_true rfl⟩ rfl rfl hl (Nat.le_of_ble_eq_true rfl) dX8_write_74 ⟨Nat.le_of_ble_eq_true rfl, Nat.le_of_ble_eq_true rfl⟩ (fun H locs hH => ?_)
        obtain ⟨a_numbers_57, he, hF⟩ := bd1e hF
        refine ms_numbers hX hK hH he dX8_write_77 (fun H locs hH => ?_)
        refine lv_aload_n hx hb dX8_write_78 rfl (lv_at hl 0 rfl) ?_
        refine mg_numbers hX hK hH dX8_write_79 ?_
        refine lv_bipush (v := 40) hx hb dX8_write_82 syb_40 ?_
        refine lv_iload_n hx hb dX8_write_84 rfl (lv_at hl 1 rfl) ?_
        refine lv_imul hx hb dX8_write_85 ?_
        refine lv_iload_n hx hb dX8_write_86 rfl (lv_at hl 2 rfl) ?_
        refine lv_iadd hx hb dX8_write_87 ?_
        obtain ⟨y_58, he, hF⟩ := bd1e hF
        refine ml_numbers hX hK hH he dX8_write_88 ?_
        obtain ⟨rfl, rfl⟩ := re2 hF
        exact hret _ _ _ _ hH dX8_write_89
      · have hF := itp c_54 hF
        refine lv_ldc2 (v := (-7)) hx hb hown (hts _ q2210) dX8_write_53 ?_
        obtain ⟨rfl, rfl⟩ := re2 hF
        exact hret _ _ _ _ hH dX8_write_56
    · have hF := itp c_51 hF
      refine lv_ldc2 (v := (-6)) hx hb hown (hts _ q2209) dX8_write_31 ?_
      obtain ⟨rfl, rfl⟩ := re2 hF
      exact hret _ _ _ _ hH dX8_write_34
  · have hF := itp c_49 hF
    refine lv_ldc2 (v := (-2)) hx hb hown (hts _ q2208) dX8_write_17 ?_
    obtain ⟨rfl, rfl⟩ := re2 hF
    exact hret _ _ _ _ hH dX8_write_20
abbrev rm_X8_image : Room := { frames := 1, cells := 0, slots := 0, locals := 25 }
set_option maxHeartbeats 4000000 in
theorem met_X8_image {l : Launch} {D : va_G} {ad : Nat → Nat} {cA : Nat → ClassId} {a_all : Nat → Int32} {a_hasImage : Nat → Int32} {a_tape : Nat → Int32} {a_fresh : Nat → Int32} {v_taped : Int32} {v_at : Int32} {v_behind : Int32} {v_size : Int32} {v_kind : Int32} {v_number : Int32} {v_wrong : Int32} {v_wrongAt : Int32} {v_depth : Int32} {v_steps : Int32} {v_faultKind : Int32} {v_faultPlace : Int32} {a_on : Nat → Int32} {a_many : Nat → Int32} {v_moved : Int32} {a_pile : Nat → Int32} {v_aside : Int32} {v_judgedBy : Int32} {v_judgedYear : Int32} {a_leastCost : Nat → Int32} {a_matched : Nat → Int32} {a_order : Nat → Int32} {a_lies : Nat → Int64} {a_movedThen : Nat → Int32} {a_yearTable : Nat → Int32} {a_yearMark : Nat → Int32} {a_beginTable : Nat → Int32} {a_beginMark : Nat → Int32} {v_statesTold : Int32} {v_found : Int32} {v_yearFrom : Int32} {v_mark : Int32} {v_beginsMark : Int32} {v_begins : Int32} {a_began : Nat → Int64} {v_isSpent : Int32} {a_wants : Nat → Int32} {a_rowSort : Nat → Int32} {a_rowMany : Nat → Int32} {a_numbers : Nat → Int64}  {p1 : Int32} {res : Int32} {ra_all : Nat → Int32} {ra_hasImage : Nat → Int32} {ak av fo : Nat} {E : EvT} (hE : EvM E ak av fo) (hF : FX8_image a_all a_hasImage p1 = some (res, ra_all, ra_hasImage)) : MM l yX8_image (ws_ yX8_image cX8_image 3 (Option.some Jvm.ClassFile.FieldType.int)) rm_X8_image D vwA (mT cA) E [.ref (ad 0), .int p1] (mW ad cA a_all a_hasImage a_tape a_fresh v_taped v_at v_behind v_size v_kind v_number v_wrong v_wrongAt v_depth v_steps v_faultKind v_faultPlace a_on a_many v_moved a_pile v_aside v_judgedBy v_judgedYear a_leastCost a_matched a_order a_lies a_movedThen a_yearTable a_yearMark a_beginTable a_beginMark v_statesTold v_found v_yearFrom v_mark v_beginsMark v_begins a_began v_isSpent a_wants a_rowSort a_rowMany a_numbers) (mW ad cA ra_all ra_hasImage a_tape a_fresh v_taped v_at v_behind v_size v_kind v_number v_wrong v_wrongAt v_depth v_steps v_faultKind v_faultPlace a_on a_many v_moved a_pile v_aside v_judgedBy v_judgedYear a_leastCost a_matched a_order a_lies a_movedThen a_yearTable a_yearMark a_beginTable a_beginMark v_statesTold v_found v_yearFrom v_mark v_beginsMark v_begins a_began v_isSpent a_wants a_rowSort a_rowMany a_numbers) (some (.int res)) := by
  refine MM.ofI (by decide) (Nat.le_of_ble_eq_true rfl) ?_
  intro p e s m args below meth c Q A hX hK hE0 hret H locs ls hH hl
  have hX : CallFix p m c cX8_image 3 s args lw_all RX8 := hX
  have hx := hX.1
  have hb := hX.2.1
  have hown := hX.2.2.2.1
  have hts := hX.2.2.2.2
  have hl : lv_has ls 3 [(0, .ref (ad 0)), (1, .int p1)] := hl
  have hEv := hE.1
  delta FX8_image at hF
  refine lv_aload_n hx hb dX8_image_0 rfl (lv_at hl 0 rfl) ?_
  refine lv_iconst (v := 0) hx hb dX8_image_1 syi_0 ?_
  refine mp_thrown hX hK hH dX8_image_2 (fun H locs hH => ?_)
  refine lv_iload_n hx hb dX8_image_5 rfl (lv_at hl 1 rfl) ?_
  refine lv_i2l (v := (Int32.toInt64 p1)) hx hb dX8_image_6 rfl ?_
  refine lv_lconst (v := 0) hx hb dX8_image_7 rfl ?_
  refine lv_lconst (v := 1) hx hb dX8_image_8 rfl ?_
  obtain ⟨b_46, he, hF⟩ := bd1e hF
  refine mcS hX hK hEv hE0 hH (met_X8_within hE he) gw_StoneYearModel_153 hd_yX8_within ⟨Nat.le_of_ble_eq_true rfl, Nat.le_of_ble_eq_true rfl⟩ rfl rfl hl (Nat.le_of_ble_eq_true rfl) dX8_image_9 ⟨Nat.le_of_ble_eq_true rfl, Nat.le_of_ble_eq_true rfl⟩ (fun H locs hH => ?_)
  refine lv_if_ne (tgt := 18) hx hb dX8_image_12 rfl (fun c_47 => ?_) (fun c_47 => ?_)
  · have hF := itn c_47 hF
    refine lv_iconst (v := 0) hx hb dX8_image_18 syi_0 ?_
    refine lv_istore_n (lv' := [(2, .int 0), (0, .ref (ad 0)), (1, .int p1)]) hx hb dX8_image_19 rfl hl (by decide) rfl (fun ls hl => ?_)
    obtain ⟨xx20, ee20, kk20_0⟩ := bd1L hF
    have k20_0 : ∀ (a_all_56 : Nat → Int32), xx20 = a_all_56 → ∀ (H : Heap) (locs : List Loc) (ls : Array Slot), MH D vwA A s.heap (mW ad cA a_all_56 a_hasImage a_tape a_fresh v_taped v_at v_behind v_size v_kind v_number v_wrong v_wrongAt v_depth v_steps v_faultKind v_faultPlace a_on a_many v_moved a_pile v_aside v_judgedBy v_judgedYear a_leastCost a_matched a_order a_lies a_movedThen a_yearTable a_yearMark a_beginTable a_beginMark v_statesTold v_found v_yearFrom v_mark v_beginsMark v_begins a_began v_isSpent a_wants a_rowSort a_rowMany a_numbers) H locs → lv_has ls 3 [(0, .ref (ad 0)), (1, .int p1)] → W p l e rm_X8_image s m args below meth c H locs 0 0 Q (F0 m 53 ls []) := by
      intro a_all_56 hxx H locs ls hH hl
      have hF := un1e (kk20_0 a_all_56 hxx)
      refine lv_aload_n hx hb dX8_image_53 rfl (lv_at hl 0 rfl) ?_
      refine mg_hasImage hX hK hH dX8_image_54 ?_
      refine lv_iload_n hx hb dX8_image_57 rfl (lv_at hl 1 rfl) ?_
      refine lv_iconst (v := 1) hx hb dX8_image_58 syi_1 ?_
      obtain ⟨a_hasImage_57, he, hF⟩ := bd1e hF
      refine ms_hasImage hX hK hH he dX8_image_59 (fun H locs hH => ?_)
      refine lv_iconst (v := 0) hx hb dX8_image_60 syi_0 ?_
      obtain ⟨rfl, rfl, rfl⟩ := re3 hF
      exact hret _ _ _ _ hH dX8_image_61
    obtain ⟨nn20, en20⟩ := loopC_some ee20
    have l20 : ∀ (n : Nat) (x_51 : Int32) (a_all_52 : Nat → Int32), loopN (fun s => FX8_image_b20 p1 s.1 s.2) n (x_51, a_all_52) = some xx20 → ∀ (H : Heap) (locs : List Loc) (ls : Array Slot), MH D vwA A s.heap (mW ad cA a_all_52 a_hasImage a_tape a_fresh v_taped v_at v_behind v_size v_kind v_number v_wrong v_wrongAt v_depth v_steps v_faultKind v_faultPlace a_on a_many v_moved a_pile v_aside v_judgedBy v_judgedYear a_leastCost a_matched a_order a_lies a_movedThen a_yearTable a_yearMark a_beginTable a_beginMark v_statesTold v_found v_yearFrom v_mark v_beginsMark v_begins a_began v_isSpent a_wants a_rowSort a_rowMany a_numbers) H locs → lv_has ls 3 [(0, .ref (ad 0)), (1, .int p1), (2, .int x_51)] → W p l e rm_X8_image s m args below meth c H locs 0 0 Q (F0 m 20 ls []) := by
      intro n
      induction n with
      | zero =>
        intro x_51 a_all_52 hN
        exact absurd hN loopN_zero
      | succ n ih =>
        intro x_51 a_all_52 hN H locs ls hH hl
        obtain ⟨yy20, hB20, hY20⟩ := loopN_succ hN
        have hF : FX8_image_b20 p1 x_51 a_all_52 = some yy20 := hB20
        delta FX8_image_b20 at hF
        refine lv_iload_n hx hb dX8_image_20 rfl (lv_at hl 2 rfl) ?_
        refine lv_sipush (v := 531) hx hb dX8_image_21 sys_531 ?_
        refine lv_icmp_ge (tgt := 53) hx hb dX8_image_24 rfl (fun c_53 => ?_) (fun c_53 => ?_)
        · have hF := itp c_53 hF
          obtain rfl := Option.some.inj hF
          exact k20_0 a_all_52 hY20 _ _ _ hH (lv_sub hl [0, 1] rfl)
        · have hF := itn c_53 hF
          refine lv_aload_n hx hb dX8_image_27 rfl (lv_at hl 0 rfl) ?_
          refine mg_all hX hK hH dX8_image_28 ?_
          refine lv_sipush (v := 531) hx hb dX8_image_31 sys_531 ?_
          refine lv_iload_n hx hb dX8_image_34 rfl (lv_at hl 1 rfl) ?_
          refine lv_iconst (v := 1) hx hb dX8_image_35 syi_1 ?_
          refine lv_iadd hx hb dX8_image_36 ?_
          refine lv_imul hx hb dX8_image_37 ?_
          refine lv_iload_n hx hb dX8_image_38 rfl (lv_at hl 2 rfl) ?_
          refine lv_iadd hx hb dX8_image_39 ?_
          refine lv_aload_n hx hb dX8_image_40 rfl (lv_at hl 0 rfl) ?_
          refine mg_all hX hK hH dX8_image_41 ?_
          refine lv_iload_n hx hb dX8_image_44 rfl (lv_at hl 2 rfl) ?_
          obtain ⟨x_54, he, hF⟩ := bd1e hF
          refine ml_all hX hK hH he dX8_image_45 ?_
          obtain ⟨a_all_55, he, hF⟩ := bd1e hF
          refine ms_all hX hK hH he dX8_image_46 (fun H locs hH => ?_)
          refine lv_iinc (v := (x_51 + 1)) (lv' := [(2, .int (x_51 + 1)), (0, .ref (ad 0)), (1, .int p1)]) hx hb dX8_image_47 hl (k := 2) rfl (syc syi_1) (by decide) rfl (fun ls hl => ?_)
          refine lv_goto (tgt := 20) hx hb dX8_image_50 rfl ?_
          obtain rfl := Option.some.inj hF
          exact ih (x_51 + 1) a_all_55 hY20 _ _ _ hH (lv_sub hl [1, 2, 0] rfl)
    exact l20 nn20 0 a_all en20 _ _ _ hH (lv_sub hl [1, 2, 0] rfl)
  · have hF := itp c_47 hF
    refine lv_bipush (v := (-2)) hx hb dX8_image_15 syb_m2 ?_
    obtain ⟨rfl, rfl, rfl⟩ := re3 hF
    exact hret _ _ _ _ hH dX8_image_17
abbrev rm_X8_restore : Room := { frames := 1, cells := 0, slots := 0, locals := 25 }
set_option maxHeartbeats 4000000 in
theorem met_X8_restore {l : Launch} {D : va_G} {ad : Nat → Nat} {cA : Nat → ClassId} {a_all : Nat → Int32} {a_hasImage : Nat → Int32} {a_tape : Nat → Int32} {a_fresh : Nat → Int32} {v_taped : Int32} {v_at : Int32} {v_behind : Int32} {v_size : Int32} {v_kind : Int32} {v_number : Int32} {v_wrong : Int32} {v_wrongAt : Int32} {v_depth : Int32} {v_steps : Int32} {v_faultKind : Int32} {v_faultPlace : Int32} {a_on : Nat → Int32} {a_many : Nat → Int32} {v_moved : Int32} {a_pile : Nat → Int32} {v_aside : Int32} {v_judgedBy : Int32} {v_judgedYear : Int32} {a_leastCost : Nat → Int32} {a_matched : Nat → Int32} {a_order : Nat → Int32} {a_lies : Nat → Int64} {a_movedThen : Nat → Int32} {a_yearTable : Nat → Int32} {a_yearMark : Nat → Int32} {a_beginTable : Nat → Int32} {a_beginMark : Nat → Int32} {v_statesTold : Int32} {v_found : Int32} {v_yearFrom : Int32} {v_mark : Int32} {v_beginsMark : Int32} {v_begins : Int32} {a_began : Nat → Int64} {v_isSpent : Int32} {a_wants : Nat → Int32} {a_rowSort : Nat → Int32} {a_rowMany : Nat → Int32} {a_numbers : Nat → Int64}  {p1 : Int32} {res : Int32} {ra_all : Nat → Int32} {ak av fo : Nat} {E : EvT} (hE : EvM E ak av fo) (hF : FX8_restore a_all a_hasImage p1 = some (res, ra_all)) : MM l yX8_restore (ws_ yX8_restore cX8_restore 3 (Option.some Jvm.ClassFile.FieldType.int)) rm_X8_restore D vwA (mT cA) E [.ref (ad 0), .int p1] (mW ad cA a_all a_hasImage a_tape a_fresh v_taped v_at v_behind v_size v_kind v_number v_wrong v_wrongAt v_depth v_steps v_faultKind v_faultPlace a_on a_many v_moved a_pile v_aside v_judgedBy v_judgedYear a_leastCost a_matched a_order a_lies a_movedThen a_yearTable a_yearMark a_beginTable a_beginMark v_statesTold v_found v_yearFrom v_mark v_beginsMark v_begins a_began v_isSpent a_wants a_rowSort a_rowMany a_numbers) (mW ad cA ra_all a_hasImage a_tape a_fresh v_taped v_at v_behind v_size v_kind v_number v_wrong v_wrongAt v_depth v_steps v_faultKind v_faultPlace a_on a_many v_moved a_pile v_aside v_judgedBy v_judgedYear a_leastCost a_matched a_order a_lies a_movedThen a_yearTable a_yearMark a_beginTable a_beginMark v_statesTold v_found v_yearFrom v_mark v_beginsMark v_begins a_began v_isSpent a_wants a_rowSort a_rowMany a_numbers) (some (.int res)) := by
  refine MM.ofI (by decide) (Nat.le_of_ble_eq_true rfl) ?_
  intro p e s m args below meth c Q A hX hK hE0 hret H locs ls hH hl
  have hX : CallFix p m c cX8_restore 3 s args lw_all RX8 := hX
  have hx := hX.1
  have hb := hX.2.1
  have hown := hX.2.2.2.1
  have hts := hX.2.2.2.2
  have hl : lv_has ls 3 [(0, .ref (ad 0)), (1, .int p1)] := hl
  have hEv := hE.1
  delta FX8_restore at hF
  refine lv_aload_n hx hb dX8_restore_0 rfl (lv_at hl 0 rfl) ?_
  refine lv_iconst (v := 0) hx hb dX8_restore_1 syi_0 ?_
  refine mp_thrown hX hK hH dX8_restore_2 (fun H locs hH => ?_)
  refine lv_iload_n hx hb dX8_restore_5 rfl (lv_at hl 1 rfl) ?_
  refine lv_i2l (v := (Int32.toInt64 p1)) hx hb dX8_restore_6 rfl ?_
  refine lv_lconst (v := 0) hx hb dX8_restore_7 rfl ?_
  refine lv_lconst (v := 1) hx hb dX8_restore_8 rfl ?_
  obtain ⟨b_46, he, hF⟩ := bd1e hF
  refine mcS hX hK hEv hE0 hH (met_X8_within hE he) gw_StoneYearModel_153 hd_yX8_within ⟨Nat.le_of_ble_eq_true rfl, Nat.le_of_ble_eq_true rfl⟩ rfl rfl hl (Nat.le_of_ble_eq_true rfl) dX8_restore_9 ⟨Nat.le_of_ble_eq_true rfl, Nat.le_of_ble_eq_true rfl⟩ (fun H locs hH => ?_)
  refine lv_if_ne (tgt := 18) hx hb dX8_restore_12 rfl (fun c_47 => ?_) (fun c_47 => ?_)
  · have hF := itn c_47 hF
    refine lv_aload_n hx hb dX8_restore_18 rfl (lv_at hl 0 rfl) ?_
    refine mg_hasImage hX hK hH dX8_restore_19 ?_
    refine lv_iload_n hx hb dX8_restore_22 rfl (lv_at hl 1 rfl) ?_
    obtain ⟨x_48, he, hF⟩ := bd1e hF
    refine ml_hasImage hX hK hH he dX8_restore_23 ?_
    refine lv_if_ne (tgt := 30) hx hb dX8_restore_24 rfl (fun c_49 => ?_) (fun c_49 => ?_)
    · have hF := itn c_49 hF
      refine lv_iconst (v := 0) hx hb dX8_restore_30 syi_0 ?_
      refine lv_istore_n (lv' := [(2, .int 0), (0, .ref (ad 0)), (1, .int p1)]) hx hb dX8_restore_31 rfl hl (by decide) rfl (fun ls hl => ?_)
      obtain ⟨xx32, ee32, kk32_0⟩ := bd1L hF
      have k32_0 : ∀ (a_all_58 : Nat → Int32), xx32 = a_all_58 → ∀ (H : Heap) (locs : List Loc) (ls : Array Slot), MH D vwA A s.heap (mW ad cA a_all_58 a_hasImage a_tape a_fresh v_taped v_at v_behind v_size v_kind v_number v_wrong v_wrongAt v_depth v_steps v_faultKind v_faultPlace a_on a_many v_moved a_pile v_aside v_judgedBy v_judgedYear a_leastCost a_matched a_order a_lies a_movedThen a_yearTable a_yearMark a_beginTable a_beginMark v_statesTold v_found v_yearFrom v_mark v_beginsMark v_begins a_began v_isSpent a_wants a_rowSort a_rowMany a_numbers) H locs → lv_has ls 3 [] → W p l e rm_X8_restore s m args below meth c H locs 0 0 Q (F0 m 65 ls []) := by
        intro a_all_58 hxx H locs ls hH hl
        have hF := un1e (kk32_0 a_all_58 hxx)
        refine lv_iconst (v := 0) hx hb dX8_restore_65 syi_0 ?_
        obtain ⟨rfl, rfl⟩ := re2 hF
        exact hret _ _ _ _ hH dX8_restore_66
      obtain ⟨nn32, en32⟩ := loopC_some ee32
      have l32 : ∀ (n : Nat) (x_53 : Int32) (a_all_54 : Nat → Int32), loopN (fun s => FX8_restore_b32 p1 s.1 s.2) n (x_53, a_all_54) = some xx32 → ∀ (H : Heap) (locs : List Loc) (ls : Array Slot), MH D vwA A s.heap (mW ad cA a_all_54 a_hasImage a_tape a_fresh v_taped v_at v_behind v_size v_kind v_number v_wrong v_wrongAt v_depth v_steps v_faultKind v_faultPlace a_on a_many v_moved a_pile v_aside v_judgedBy v_judgedYear a_leastCost a_matched a_order a_lies a_movedThen a_yearTable a_yearMark a_beginTable a_beginMark v_statesTold v_found v_yearFrom v_mark v_beginsMark v_begins a_began v_isSpent a_wants a_rowSort a_rowMany a_numbers) H locs → lv_has ls 3 [(0, .ref (ad 0)), (1, .int p1), (2, .int x_53)] → W p l e rm_X8_restore s m args below meth c H locs 0 0 Q (F0 m 32 ls []) := by
        intro n
        induction n with
        | zero =>
          intro x_53 a_all_54 hN
          exact absurd hN loopN_zero
        | succ n ih =>
          intro x_53 a_all_54 hN H locs ls hH hl
          obtain ⟨yy32, hB32, hY32⟩ := loopN_succ hN
          have hF : FX8_restore_b32 p1 x_53 a_all_54 = some yy32 := hB32
          delta FX8_restore_b32 at hF
          refine lv_iload_n hx hb dX8_restore_32 rfl (lv_at hl 2 rfl) ?_
          refine lv_sipush (v := 531) hx hb dX8_restore_33 sys_531 ?_
          refine lv_icmp_ge (tgt := 65) hx hb dX8_restore_36 rfl (fun c_55 => ?_) (fun c_55 => ?_)
          · have hF := itp c_55 hF
            obtain rfl := Option.some.inj hF
            exact k32_0 a_all_54 hY32 _ _ _ hH (lv_sub hl [] rfl)
          · have hF := itn c_55 hF
            refine lv_aload_n hx hb dX8_restore_39 rfl (lv_at hl 0 rfl) ?_
            refine mg_all hX hK hH dX8_restore_40 ?_
            refine lv_iload_n hx hb dX8_restore_43 rfl (lv_at hl 2 rfl) ?_
            refine lv_aload_n hx hb dX8_restore_44 rfl (lv_at hl 0 rfl) ?_
            refine mg_all hX hK hH dX8_restore_45 ?_
            refine lv_sipush (v := 531) hx hb dX8_restore_48 sys_531 ?_
            refine lv_iload_n hx hb dX8_restore_51 rfl (lv_at hl 1 rfl) ?_
            refine lv_iconst (v := 1) hx hb dX8_restore_52 syi_1 ?_
            refine lv_iadd hx hb dX8_restore_53 ?_
            refine lv_imul hx hb dX8_restore_54 ?_
            refine lv_iload_n hx hb dX8_restore_55 rfl (lv_at hl 2 rfl) ?_
            refine lv_iadd hx hb dX8_restore_56 ?_
            obtain ⟨x_56, he, hF⟩ := bd1e hF
            refine ml_all hX hK hH he dX8_restore_57 ?_
            obtain ⟨a_all_57, he, hF⟩ := bd1e hF
            refine ms_all hX hK hH he dX8_restore_58 (fun H locs hH => ?_)
            refine lv_iinc (v := (x_53 + 1)) (lv' := [(2, .int (x_53 + 1)), (0, .ref (ad 0)), (1, .int p1)]) hx hb dX8_restore_59 hl (k := 2) rfl (syc syi_1) (by decide) rfl (fun ls hl => ?_)
            refine lv_goto (tgt := 32) hx hb dX8_restore_62 rfl ?_
            obtain rfl := Option.some.inj hF
            exact ih (x_53 + 1) a_all_57 hY32 _ _ _ hH (lv_sub hl [1, 2, 0] rfl)
      exact l32 nn32 0 a_all en32 _ _ _ hH (lv_sub hl [1, 2, 0] rfl)
    · have hF := itp c_49 hF
      refine lv_bipush (v := (-5)) hx hb dX8_restore_27 syb_m5 ?_
      obtain ⟨rfl, rfl⟩ := re2 hF
      exact hret _ _ _ _ hH dX8_restore_29
  · have hF := itp c_47 hF
    refine lv_bipush (v := (-2)) hx hb dX8_restore_15 syb_m2 ?_
    obtain ⟨rfl, rfl⟩ := re2 hF
    exact hret _ _ _ _ hH dX8_restore_17
abbrev rm_X8_count : Room := { frames := 1, cells := 0, slots := 0, locals := 22 }
set_option maxHeartbeats 4000000 in
theorem met_X8_count {l : Launch} {D : va_G} {ad : Nat → Nat} {cA : Nat → ClassId} {a_all : Nat → Int32} {a_hasImage : Nat → Int32} {a_tape : Nat → Int32} {a_fresh : Nat → Int32} {v_taped : Int32} {v_at : Int32} {v_behind : Int32} {v_size : Int32} {v_kind : Int32} {v_number : Int32} {v_wrong : Int32} {v_wrongAt : Int32} {v_depth : Int32} {v_steps : Int32} {v_faultKind : Int32} {v_faultPlace : Int32} {a_on : Nat → Int32} {a_many : Nat → Int32} {v_moved : Int32} {a_pile : Nat → Int32} {v_aside : Int32} {v_judgedBy : Int32} {v_judgedYear : Int32} {a_leastCost : Nat → Int32} {a_matched : Nat → Int32} {a_order : Nat → Int32} {a_lies : Nat → Int64} {a_movedThen : Nat → Int32} {a_yearTable : Nat → Int32} {a_yearMark : Nat → Int32} {a_beginTable : Nat → Int32} {a_beginMark : Nat → Int32} {v_statesTold : Int32} {v_found : Int32} {v_yearFrom : Int32} {v_mark : Int32} {v_beginsMark : Int32} {v_begins : Int32} {a_began : Nat → Int64} {v_isSpent : Int32} {a_wants : Nat → Int32} {a_rowSort : Nat → Int32} {a_rowMany : Nat → Int32} {a_numbers : Nat → Int64}  {p1 : Int32} {res : Int32} {ak av fo : Nat} {E : EvT} (hE : EvM E ak av fo) (hF : FX8_count a_all v_taped p1 = some res) : MM l yX8_count (ws_ yX8_count cX8_count 2 (Option.some Jvm.ClassFile.FieldType.int)) rm_X8_count D vwA (mT cA) E [.ref (ad 0), .int p1] (mW ad cA a_all a_hasImage a_tape a_fresh v_taped v_at v_behind v_size v_kind v_number v_wrong v_wrongAt v_depth v_steps v_faultKind v_faultPlace a_on a_many v_moved a_pile v_aside v_judgedBy v_judgedYear a_leastCost a_matched a_order a_lies a_movedThen a_yearTable a_yearMark a_beginTable a_beginMark v_statesTold v_found v_yearFrom v_mark v_beginsMark v_begins a_began v_isSpent a_wants a_rowSort a_rowMany a_numbers) (mW ad cA a_all a_hasImage a_tape a_fresh v_taped v_at v_behind v_size v_kind v_number v_wrong v_wrongAt v_depth v_steps v_faultKind v_faultPlace a_on a_many v_moved a_pile v_aside v_judgedBy v_judgedYear a_leastCost a_matched a_order a_lies a_movedThen a_yearTable a_yearMark a_beginTable a_beginMark v_statesTold v_found v_yearFrom v_mark v_beginsMark v_begins a_began v_isSpent a_wants a_rowSort a_rowMany a_numbers) (some (.int res)) := by
  refine MM.ofI (by decide) (Nat.le_of_ble_eq_true rfl) ?_
  intro p e s m args below meth c Q A hX hK hE0 hret H locs ls hH hl
  have hX : CallFix p m c cX8_count 2 s args lw_all RX8 := hX
  have hx := hX.1
  have hb := hX.2.1
  have hown := hX.2.2.2.1
  have hts := hX.2.2.2.2
  have hl : lv_has ls 2 [(0, .ref (ad 0)), (1, .int p1)] := hl
  have hEv := hE.1
  delta FX8_count at hF
  refine lv_aload_n hx hb dX8_count_0 rfl (lv_at hl 0 rfl) ?_
  refine lv_iconst (v := 0) hx hb dX8_count_1 syi_0 ?_
  refine mp_thrown hX hK hH dX8_count_2 (fun H locs hH => ?_)
  refine lv_iload_n hx hb dX8_count_5 rfl (lv_at hl 1 rfl) ?_
  by_cases c_46_0 : p1 = 0
  · have hF := itp c_46_0 hF
    refine lv_tableIn (tgt := 68) hx hb dX8_count_6 (by rw [c_46_0]; decide) (by rw [c_46_0]; decide) (by rw [c_46_0]; rfl) rfl ?_
    refine lv_aload_n hx hb dX8_count_68 rfl (lv_at hl 0 rfl) ?_
    refine mg_all hX hK hH dX8_count_69 ?_
    refine lv_iconst (v := 0) hx hb dX8_count_72 syi_0 ?_
    obtain ⟨x_58, he, hF⟩ := bd1e hF
    refine ml_all hX hK hH he dX8_count_73 ?_
    obtain rfl := Option.some.inj hF
    exact hret _ _ _ _ hH dX8_count_74
  · have hF := itn c_46_0 hF
    by_cases c_46_1 : p1 = 1
    · have hF := itp c_46_1 hF
      refine lv_tableIn (tgt := 75) hx hb dX8_count_6 (by rw [c_46_1]; decide) (by rw [c_46_1]; decide) (by rw [c_46_1]; rfl) rfl ?_
      refine lv_aload_n hx hb dX8_count_75 rfl (lv_at hl 0 rfl) ?_
      refine mg_all hX hK hH dX8_count_76 ?_
      refine lv_bipush (v := 6) hx hb dX8_count_79 syb_6 ?_
      obtain ⟨x_57, he, hF⟩ := bd1e hF
      refine ml_all hX hK hH he dX8_count_81 ?_
      obtain rfl := Option.some.inj hF
      exact hret _ _ _ _ hH dX8_count_82
    · have hF := itn c_46_1 hF
      by_cases c_46_2 : p1 = 2
      · have hF := itp c_46_2 hF
        refine lv_tableIn (tgt := 83) hx hb dX8_count_6 (by rw [c_46_2]; decide) (by rw [c_46_2]; decide) (by rw [c_46_2]; rfl) rfl ?_
        refine lv_aload_n hx hb dX8_count_83 rfl (lv_at hl 0 rfl) ?_
        refine mg_all hX hK hH dX8_count_84 ?_
        refine lv_bipush (v := 56) hx hb dX8_count_87 syb_56 ?_
        obtain ⟨x_56, he, hF⟩ := bd1e hF
        refine ml_all hX hK hH he dX8_count_89 ?_
        obtain rfl := Option.some.inj hF
        exact hret _ _ _ _ hH dX8_count_90
      · have hF := itn c_46_2 hF
        by_cases c_46_3 : p1 = 3
        · have hF := itp c_46_3 hF
          refine lv_tableIn (tgt := 91) hx hb dX8_count_6 (by rw [c_46_3]; decide) (by rw [c_46_3]; decide) (by rw [c_46_3]; rfl) rfl ?_
          refine lv_aload_n hx hb dX8_count_91 rfl (lv_at hl 0 rfl) ?_
          refine mg_all hX hK hH dX8_count_92 ?_
          refine lv_bipush (v := 114) hx hb dX8_count_95 syb_114 ?_
          obtain ⟨x_55, he, hF⟩ := bd1e hF
          refine ml_all hX hK hH he dX8_count_97 ?_
          obtain rfl := Option.some.inj hF
          exact hret _ _ _ _ hH dX8_count_98
        · have hF := itn c_46_3 hF
          by_cases c_46_4 : p1 = 4
          · have hF := itp c_46_4 hF
            refine lv_tableIn (tgt := 99) hx hb dX8_count_6 (by rw [c_46_4]; decide) (by rw [c_46_4]; decide) (by rw [c_46_4]; rfl) rfl ?_
            refine lv_aload_n hx hb dX8_count_99 rfl (lv_at hl 0 rfl) ?_
            refine mg_all hX hK hH dX8_count_100 ?_
            refine lv_bipush (v := 112) hx hb dX8_count_103 syb_112 ?_
            obtain ⟨x_54, he, hF⟩ := bd1e hF
            refine ml_all hX hK hH he dX8_count_105 ?_
            obtain rfl := Option.some.inj hF
            exact hret _ _ _ _ hH dX8_count_106
          · have hF := itn c_46_4 hF
            by_cases c_46_5 : p1 = 5
            · have hF := itp c_46_5 hF
              refine lv_tableIn (tgt := 107) hx hb dX8_count_6 (by rw [c_46_5]; decide) (by rw [c_46_5]; decide) (by rw [c_46_5]; rfl) rfl ?_
              refine lv_aload_n hx hb dX8_count_107 rfl (lv_at hl 0 rfl) ?_
              refine mg_all hX hK hH dX8_count_108 ?_
              refine lv_bipush (v := 95) hx hb dX8_count_111 syb_95 ?_
              obtain ⟨x_52, he, hF⟩ := bd1e hF
              refine ml_all hX hK hH he dX8_count_113 ?_
              obtain ⟨x_53, he, hF⟩ := bd1e hF
              refine mcS hX hK hEv hE0 hH (met_X8_bitsOf hE he) gw_StoneYearModel_247 hd_yX8_bitsOf ⟨Nat.le_of_ble_eq_true rfl, Nat.le_of_ble_eq_true rfl⟩ rfl rfl hl (Nat.le_of_ble_eq_true rfl) dX8_count_114 ⟨Nat.le_of_ble_eq_true rfl, Nat.le_of_ble_eq_true rfl⟩ (fun H locs hH => ?_)
              obtain rfl := Option.some.inj hF
              exact hret _ _ _ _ hH dX8_count_117
            · have hF := itn c_46_5 hF
              by_cases c_46_6 : p1 = 6
              · have hF := itp c_46_6 hF
                refine lv_tableIn (tgt := 118) hx hb dX8_count_6 (by rw [c_46_6]; decide) (by rw [c_46_6]; decide) (by rw [c_46_6]; rfl) rfl ?_
                refine lv_aload_n hx hb dX8_count_118 rfl (lv_at hl 0 rfl) ?_
                refine mg_all hX hK hH dX8_count_119 ?_
                refine lv_bipush (v := 75) hx hb dX8_count_122 syb_75 ?_
                obtain ⟨x_51, he, hF⟩ := bd1e hF
                refine ml_all hX hK hH he dX8_count_124 ?_
                obtain rfl := Option.some.inj hF
                exact hret _ _ _ _ hH dX8_count_125
              · have hF := itn c_46_6 hF
                by_cases c_46_7 : p1 = 7
                · have hF := itp c_46_7 hF
                  refine lv_tableIn (tgt := 126) hx hb dX8_count_6 (by rw [c_46_7]; decide) (by rw [c_46_7]; decide) (by rw [c_46_7]; rfl) rfl ?_
                  refine lv_aload_n hx hb dX8_count_126 rfl (lv_at hl 0 rfl) ?_
                  refine mg_all hX hK hH dX8_count_127 ?_
                  refine lv_bipush (v := 76) hx hb dX8_count_130 syb_76 ?_
                  obtain ⟨x_50, he, hF⟩ := bd1e hF
                  refine ml_all hX hK hH he dX8_count_132 ?_
                  obtain rfl := Option.some.inj hF
                  exact hret _ _ _ _ hH dX8_count_133
                · have hF := itn c_46_7 hF
                  by_cases c_46_8 : p1 = 8
                  · have hF := itp c_46_8 hF
                    refine lv_tableIn (tgt := 134) hx hb dX8_count_6 (by rw [c_46_8]; decide) (by rw [c_46_8]; decide) (by rw [c_46_8]; rfl) rfl ?_
                    refine lv_aload_n hx hb dX8_count_134 rfl (lv_at hl 0 rfl) ?_
                    refine mg_all hX hK hH dX8_count_135 ?_
                    refine lv_bipush (v := 77) hx hb dX8_count_138 syb_77 ?_
                    obtain ⟨x_49, he, hF⟩ := bd1e hF
                    refine ml_all hX hK hH he dX8_count_140 ?_
                    obtain rfl := Option.some.inj hF
                    exact hret _ _ _ _ hH dX8_count_141
                  · have hF := itn c_46_8 hF
                    by_cases c_46_9 : p1 = 9
                    · have hF := itp c_46_9 hF
                      refine lv_tableIn (tgt := 142) hx hb dX8_count_6 (by rw [c_46_9]; decide) (by rw [c_46_9]; decide) (by rw [c_46_9]; rfl) rfl ?_
                      refine lv_aload_n hx hb dX8_count_142 rfl (lv_at hl 0 rfl) ?_
                      refine mg_all hX hK hH dX8_count_143 ?_
                      refine lv_bipush (v := 78) hx hb dX8_count_146 syb_78 ?_
                      obtain ⟨x_48, he, hF⟩ := bd1e hF
                      refine ml_all hX hK hH he dX8_count_148 ?_
                      obtain rfl := Option.some.inj hF
                      exact hret _ _ _ _ hH dX8_count_149
                    · have hF := itn c_46_9 hF
                      by_cases c_46_10 : p1 = 10
                      · have hF := itp c_46_10 hF
                        refine lv_tableIn (tgt := 150) hx hb dX8_count_6 (by rw [c_46_10]; decide) (by rw [c_46_10]; decide) (by rw [c_46_10]; rfl) rfl ?_
                        refine lv_aload_n hx hb dX8_count_150 rfl (lv_at hl 0 rfl) ?_
                        refine mg_taped hX hK hH dX8_count_151 ?_
                        obtain rfl := Option.some.inj hF
                        exact hret _ _ _ _ hH dX8_count_154
                      · have hF := itn c_46_10 hF
                        by_cases c_46_11 : p1 = 11
                        · have hF := itp c_46_11 hF
                          refine lv_tableIn (tgt := 155) hx hb dX8_count_6 (by rw [c_46_11]; decide) (by rw [c_46_11]; decide) (by rw [c_46_11]; rfl) rfl ?_
                          refine lv_aload_n hx hb dX8_count_155 rfl (lv_at hl 0 rfl) ?_
                          refine mg_all hX hK hH dX8_count_156 ?_
                          refine lv_bipush (v := 79) hx hb dX8_count_159 syb_79 ?_
                          obtain ⟨x_47, he, hF⟩ := bd1e hF
                          refine ml_all hX hK hH he dX8_count_161 ?_
                          obtain rfl := Option.some.inj hF
                          exact hret _ _ _ _ hH dX8_count_162
                        · have hF := itn c_46_11 hF
                          have tc_46_0 := lv_neT (a := 0) c_46_0 (by decide)
                          have tc_46_1 := lv_neT (a := 1) c_46_1 (by decide)
                          have tc_46_2 := lv_neT (a := 2) c_46_2 (by decide)
                          have tc_46_3 := lv_neT (a := 3) c_46_3 (by decide)
                          have tc_46_4 := lv_neT (a := 4) c_46_4 (by decide)
                          have tc_46_5 := lv_neT (a := 5) c_46_5 (by decide)
                          have tc_46_6 := lv_neT (a := 6) c_46_6 (by decide)
                          have tc_46_7 := lv_neT (a := 7) c_46_7 (by decide)
                          have tc_46_8 := lv_neT (a := 8) c_46_8 (by decide)
                          have tc_46_9 := lv_neT (a := 9) c_46_9 (by decide)
                          have tc_46_10 := lv_neT (a := 10) c_46_10 (by decide)
                          have tc_46_11 := lv_neT (a := 11) c_46_11 (by decide)
                          refine lv_tableOut (tgt := 163) hx hb dX8_count_6 (by omega) rfl ?_
                          refine lv_iconst (v := (-1)) hx hb dX8_count_163 syi_m1 ?_
                          obtain rfl := Option.some.inj hF
                          exact hret _ _ _ _ hH dX8_count_164