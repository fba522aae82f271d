set_option maxRecDepth 100000
abbrev rm_X8_plain_all : Room := { frames := 0, cells := 0, slots := 0, locals := 0 }
set_option maxHeartbeats 4000000 in
theorem met_X8_plain_all {l : Launch} {D : va_G} {ad : Nat → Nat} {cA : Nat → ClassId} {a_all : Nat → Int32} {a_hasImage : Nat → Int32} {a_tape : Nat → Int32} {a_fresh : Nat → Int32} {v_taped : Int32} {v_at : Int32} {v_behind : Int32} {v_size : Int32} {v_kind : Int32} {v_number : Int32} {v_wrong : Int32} {v_wrongAt : Int32} {v_depth : Int32} {v_steps : Int32} {v_faultKind : Int32} {v_faultPlace : Int32} {a_on : Nat → Int32} {a_many : Nat → Int32} {v_moved : Int32} {a_pile : Nat → Int32} {v_aside : Int32} {v_judgedBy : Int32} {v_judgedYear : Int32} {a_leastCost : Nat → Int32} {a_matched : Nat → Int32} {a_order : Nat → Int32} {a_lies : Nat → Int64} {a_movedThen : Nat → Int32} {a_yearTable : Nat → Int32} {a_yearMark : Nat → Int32} {a_beginTable : Nat → Int32} {a_beginMark : Nat → Int32} {v_statesTold : Int32} {v_found : Int32} {v_yearFrom : Int32} {v_mark : Int32} {v_beginsMark : Int32} {v_begins : Int32} {a_began : Nat → Int64} {v_isSpent : Int32} {a_wants : Nat → Int32} {a_rowSort : Nat → Int32} {a_rowMany : Nat → Int32} {a_numbers : Nat → Int64}   {ra_all : Nat → Int32} {ak av fo : Nat} {E : EvT} (hE : EvM E ak av fo) (hF : FX8_plain_all a_all = some ra_all) : MM l yX8_plain (ws_ yX8_plain cX8_plain 2 (Option.none : Option Jvm.ClassFile.FieldType)) rm_X8_plain_all D vwA (mT cA) E [.ref (ad 1)] (mW ad cA a_all a_hasImage a_tape a_fresh v_taped v_at v_behind v_size v_kind v_number v_wrong v_wrongAt v_depth v_steps v_faultKind v_faultPlace a_on a_many v_moved a_pile v_aside v_judgedBy v_judgedYear a_leastCost a_matched a_order a_lies a_movedThen a_yearTable a_yearMark a_beginTable a_beginMark v_statesTold v_found v_yearFrom v_mark v_beginsMark v_begins a_began v_isSpent a_wants a_rowSort a_rowMany a_numbers) (mW ad cA ra_all a_hasImage a_tape a_fresh v_taped v_at v_behind v_size v_kind v_number v_wrong v_wrongAt v_depth v_steps v_faultKind v_faultPlace a_on a_many v_moved a_pile v_aside v_judgedBy v_judgedYear a_leastCost a_matched a_order a_lies a_movedThen a_yearTable a_yearMark a_beginTable a_beginMark v_statesTold v_found v_yearFrom v_mark v_beginsMark v_begins a_began v_isSpent a_wants a_rowSort a_rowMany a_numbers) none := by
  refine MM.ofV (by decide) (Nat.le_of_ble_eq_true rfl) ?_
  intro p e s m args below meth c Q A hX hK hE0 hret H locs ls hH hl
  have hX : CallFix p m c cX8_plain 2 s args lw_all RX8 := hX
  have hx := hX.1
  have hb := hX.2.1
  have hown := hX.2.2.2.1
  have hts := hX.2.2.2.2
  have hl : lv_has ls 2 [(0, .ref (ad 1))] := hl
  have hEv := hE.1
  delta FX8_plain_all at hF
  refine lv_iconst (v := 0) hx hb dX8_plain_0 syi_0 ?_
  refine lv_istore_n (lv' := [(1, .int 0), (0, .ref (ad 1))]) hx hb dX8_plain_1 rfl hl (by decide) rfl (fun ls hl => ?_)
  obtain ⟨xx2, ee2, kk2_0⟩ := bd1L hF
  have k2_0 : ∀ (a_all_51 : Nat → Int32), xx2 = a_all_51 → ∀ (H : Heap) (locs : List Loc) (ls : Array Slot), MH D vwA A s.heap (mW ad cA a_all_51 a_hasImage a_tape a_fresh v_taped v_at v_behind v_size v_kind v_number v_wrong v_wrongAt v_depth v_steps v_faultKind v_faultPlace a_on a_many v_moved a_pile v_aside v_judgedBy v_judgedYear a_leastCost a_matched a_order a_lies a_movedThen a_yearTable a_yearMark a_beginTable a_beginMark v_statesTold v_found v_yearFrom v_mark v_beginsMark v_begins a_began v_isSpent a_wants a_rowSort a_rowMany a_numbers) H locs → lv_has ls 2 [(0, .ref (ad 1))] → W p l e rm_X8_plain_all s m args below meth c H locs 0 0 Q (F0 m 18 ls []) := by
    intro a_all_51 hxx H locs ls hH hl
    have hF := un1e (kk2_0 a_all_51 hxx)
    refine lv_aload_n hx hb dX8_plain_18 rfl (lv_at hl 0 rfl) ?_
    refine lv_bipush (v := 75) hx hb dX8_plain_19 syb_75 ?_
    refine lv_iconst (v := 4) hx hb dX8_plain_21 syi_4 ?_
    obtain ⟨a_all_52, he, hF⟩ := bd1e hF
    refine ms_all hX hK hH he dX8_plain_22 (fun H locs hH => ?_)
    refine lv_aload_n hx hb dX8_plain_23 rfl (lv_at hl 0 rfl) ?_
    refine lv_bipush (v := 76) hx hb dX8_plain_24 syb_76 ?_
    refine lv_bipush (v := 8) hx hb dX8_plain_26 syb_8 ?_
    obtain ⟨a_all_53, he, hF⟩ := bd1e hF
    refine ms_all hX hK hH he dX8_plain_28 (fun H locs hH => ?_)
    refine lv_iconst (v := 0) hx hb dX8_plain_29 syi_0 ?_
    refine lv_istore_n (lv' := [(1, .int 0), (0, .ref (ad 1))]) hx hb dX8_plain_30 rfl hl (by decide) rfl (fun ls hl => ?_)
    obtain ⟨xx31, ee31, kk31_0⟩ := bd1L hF
    have k31_0 : ∀ (a_all_62 : Nat → Int32), xx31 = a_all_62 → ∀ (H : Heap) (locs : List Loc) (ls : Array Slot), MH D vwA A s.heap (mW ad cA a_all_62 a_hasImage a_tape a_fresh v_taped v_at v_behind v_size v_kind v_number v_wrong v_wrongAt v_depth v_steps v_faultKind v_faultPlace a_on a_many v_moved a_pile v_aside v_judgedBy v_judgedYear a_leastCost a_matched a_order a_lies a_movedThen a_yearTable a_yearMark a_beginTable a_beginMark v_statesTold v_found v_yearFrom v_mark v_beginsMark v_begins a_began v_isSpent a_wants a_rowSort a_rowMany a_numbers) H locs → lv_has ls 2 [(0, .ref (ad 1))] → W p l e rm_X8_plain_all s m args below meth c H locs 0 0 Q (F0 m 56 ls []) := by
      intro a_all_62 hxx H locs ls hH hl
      have hF := un1e (kk31_0 a_all_62 hxx)
      refine lv_iconst (v := 0) hx hb dX8_plain_56 syi_0 ?_
      refine lv_istore_n (lv' := [(1, .int 0), (0, .ref (ad 1))]) hx hb dX8_plain_57 rfl hl (by decide) rfl (fun ls hl => ?_)
      obtain ⟨xx58, ee58, kk58_0⟩ := bd1L hF
      have k58_0 : ∀ (a_all_69 : Nat → Int32), xx58 = a_all_69 → ∀ (H : Heap) (locs : List Loc) (ls : Array Slot), MH D vwA A s.heap (mW ad cA a_all_69 a_hasImage a_tape a_fresh v_taped v_at v_behind v_size v_kind v_number v_wrong v_wrongAt v_depth v_steps v_faultKind v_faultPlace a_on a_many v_moved a_pile v_aside v_judgedBy v_judgedYear a_leastCost a_matched a_order a_lies a_movedThen a_yearTable a_yearMark a_beginTable a_beginMark v_statesTold v_found v_yearFrom v_mark v_beginsMark v_begins a_began v_isSpent a_wants a_rowSort a_rowMany a_numbers) H locs → lv_has ls 2 [(0, .ref (ad 1))] → W p l e rm_X8_plain_all s m args below meth c H locs 0 0 Q (F0 m 77 ls []) := by
        intro a_all_69 hxx H locs ls hH hl
        have hF := un1e (kk58_0 a_all_69 hxx)
        refine lv_iconst (v := 0) hx hb dX8_plain_77 syi_0 ?_
        refine lv_istore_n (lv' := [(1, .int 0), (0, .ref (ad 1))]) hx hb dX8_plain_78 rfl hl (by decide) rfl (fun ls hl => ?_)
        obtain ⟨xx79, ee79, kk79_0⟩ := bd1L hF
        have k79_0 : ∀ (a_all_76 : Nat → Int32), xx79 = a_all_76 → ∀ (H : Heap) (locs : List Loc) (ls : Array Slot), MH D vwA A s.heap (mW ad cA a_all_76 a_hasImage a_tape a_fresh v_taped v_at v_behind v_size v_kind v_number v_wrong v_wrongAt v_depth v_steps v_faultKind v_faultPlace a_on a_many v_moved a_pile v_aside v_judgedBy v_judgedYear a_leastCost a_matched a_order a_lies a_movedThen a_yearTable a_yearMark a_beginTable a_beginMark v_statesTold v_found v_yearFrom v_mark v_beginsMark v_begins a_began v_isSpent a_wants a_rowSort a_rowMany a_numbers) H locs → lv_has ls 2 [] → W p l e rm_X8_plain_all s m args below meth c H locs 0 0 Q (F0 m 98 ls []) := by
          intro a_all_76 hxx H locs ls hH hl
          have hF := un1e (kk79_0 a_all_76 hxx)
          obtain rfl := Option.some.inj hF
          exact hret _ _ _ _ hH dX8_plain_98
        obtain ⟨nn79, en79⟩ := loopC_some ee79
        have l79 : ∀ (n : Nat) (x_72 : Int32) (a_all_73 : Nat → Int32), loopN (fun s => FX8_plain_all_b79 s.1 s.2) n (x_72, a_all_73) = some xx79 → ∀ (H : Heap) (locs : List Loc) (ls : Array Slot), MH D vwA A s.heap (mW ad cA a_all_73 a_hasImage a_tape a_fresh v_taped v_at v_behind v_size v_kind v_number v_wrong v_wrongAt v_depth v_steps v_faultKind v_faultPlace a_on a_many v_moved a_pile v_aside v_judgedBy v_judgedYear a_leastCost a_matched a_order a_lies a_movedThen a_yearTable a_yearMark a_beginTable a_beginMark v_statesTold v_found v_yearFrom v_mark v_beginsMark v_begins a_began v_isSpent a_wants a_rowSort a_rowMany a_numbers) H locs → lv_has ls 2 [(0, .ref (ad 1)), (1, .int x_72)] → W p l e rm_X8_plain_all s m args below meth c H locs 0 0 Q (F0 m 79 ls []) := by
          intro n
          induction n with
          | zero =>
            intro x_72 a_all_73 hN
            exact absurd hN loopN_zero
          | succ n ih =>
            intro x_72 a_all_73 hN H locs ls hH hl
            obtain ⟨yy79, hB79, hY79⟩ := loopN_succ hN
            have hF : FX8_plain_all_b79 x_72 a_all_73 = some yy79 := hB79
            delta FX8_plain_all_b79 at hF
            refine lv_iload_n hx hb dX8_plain_79 rfl (lv_at hl 1 rfl) ?_
            refine lv_bipush (v := 8) hx hb dX8_plain_80 syb_8 ?_
            refine lv_icmp_ge (tgt := 98) hx hb dX8_plain_82 rfl (fun c_74 => ?_) (fun c_74 => ?_)
            · have hF := itp c_74 hF
              obtain rfl := Option.some.inj hF
              exact k79_0 a_all_73 hY79 _ _ _ hH (lv_sub hl [] rfl)
            · have hF := itn c_74 hF
              refine lv_aload_n hx hb dX8_plain_85 rfl (lv_at hl 0 rfl) ?_
              refine lv_bipush (v := 104) hx hb dX8_plain_86 syb_104 ?_
              refine lv_iload_n hx hb dX8_plain_88 rfl (lv_at hl 1 rfl) ?_
              refine lv_iadd hx hb dX8_plain_89 ?_
              refine lv_iconst (v := (-1)) hx hb dX8_plain_90 syi_m1 ?_
              obtain ⟨a_all_75, he, hF⟩ := bd1e hF
              refine ms_all hX hK hH he dX8_plain_91 (fun H locs hH => ?_)
              refine lv_iinc (v := (x_72 + 1)) (lv' := [(1, .int (x_72 + 1)), (0, .ref (ad 1))]) hx hb dX8_plain_92 hl (k := 1) rfl (syc syi_1) (by decide) rfl (fun ls hl => ?_)
              refine lv_goto (tgt := 79) hx hb dX8_plain_95 rfl ?_
              obtain rfl := Option.some.inj hF
              exact ih (x_72 + 1) a_all_75 hY79 _ _ _ hH (lv_sub hl [1, 0] rfl)
        exact l79 nn79 0 a_all_69 en79 _ _ _ hH (lv_sub hl [1, 0] rfl)
      obtain ⟨nn58, en58⟩ := loopC_some ee58
      have l58 : ∀ (n : Nat) (x_65 : Int32) (a_all_66 : Nat → Int32), loopN (fun s => FX8_plain_all_b58 s.1 s.2) n (x_65, a_all_66) = some xx58 → ∀ (H : Heap) (locs : List Loc) (ls : Array Slot), MH D vwA A s.heap (mW ad cA a_all_66 a_hasImage a_tape a_fresh v_taped v_at v_behind v_size v_kind v_number v_wrong v_wrongAt v_depth v_steps v_faultKind v_faultPlace a_on a_many v_moved a_pile v_aside v_judgedBy v_judgedYear a_leastCost a_matched a_order a_lies a_movedThen a_yearTable a_yearMark a_beginTable a_beginMark v_statesTold v_found v_yearFrom v_mark v_beginsMark v_begins a_began v_isSpent a_wants a_rowSort a_rowMany a_numbers) H locs → lv_has ls 2 [(0, .ref (ad 1)), (1, .int x_65)] → W p l e rm_X8_plain_all s m args below meth c H locs 0 0 Q (F0 m 58 ls []) := by
        intro n
        induction n with
        | zero =>
          intro x_65 a_all_66 hN
          exact absurd hN loopN_zero
        | succ n ih =>
          intro x_65 a_all_66 hN H locs ls hH hl
          obtain ⟨yy58, hB58, hY58⟩ := loopN_succ hN
          have hF : FX8_plain_all_b58 x_65 a_all_66 = some yy58 := hB58
          delta FX8_plain_all_b58 at hF
          refine lv_iload_n hx hb dX8_plain_58 rfl (lv_at hl 1 rfl) ?_
          refine lv_bipush (v := 15) hx hb dX8_plain_59 syb_15 ?_
          refine lv_icmp_ge (tgt := 77) hx hb dX8_plain_61 rfl (fun c_67 => ?_) (fun c_67 => ?_)
          · have hF := itp c_67 hF
            obtain rfl := Option.some.inj hF
            exact k58_0 a_all_66 hY58 _ _ _ hH (lv_sub hl [0] rfl)
          · have hF := itn c_67 hF
            refine lv_aload_n hx hb dX8_plain_64 rfl (lv_at hl 0 rfl) ?_
            refine lv_bipush (v := 41) hx hb dX8_plain_65 syb_41 ?_
            refine lv_iload_n hx hb dX8_plain_67 rfl (lv_at hl 1 rfl) ?_
            refine lv_iadd hx hb dX8_plain_68 ?_
            refine lv_iconst (v := (-1)) hx hb dX8_plain_69 syi_m1 ?_
            obtain ⟨a_all_68, he, hF⟩ := bd1e hF
            refine ms_all hX hK hH he dX8_plain_70 (fun H locs hH => ?_)
            refine lv_iinc (v := (x_65 + 1)) (lv' := [(1, .int (x_65 + 1)), (0, .ref (ad 1))]) hx hb dX8_plain_71 hl (k := 1) rfl (syc syi_1) (by decide) rfl (fun ls hl => ?_)
            refine lv_goto (tgt := 58) hx hb dX8_plain_74 rfl ?_
            obtain rfl := Option.some.inj hF
            exact ih (x_65 + 1) a_all_68 hY58 _ _ _ hH (lv_sub hl [1, 0] rfl)
      exact l58 nn58 0 a_all_62 en58 _ _ _ hH (lv_sub hl [1, 0] rfl)
    obtain ⟨nn31, en31⟩ := loopC_some ee31
    have l31 : ∀ (n : Nat) (x_57 : Int32) (a_all_58 : Nat → Int32), loopN (fun s => FX8_plain_all_b31 s.1 s.2) n (x_57, a_all_58) = some xx31 → ∀ (H : Heap) (locs : List Loc) (ls : Array Slot), MH D vwA A s.heap (mW ad cA a_all_58 a_hasImage a_tape a_fresh v_taped v_at v_behind v_size v_kind v_number v_wrong v_wrongAt v_depth v_steps v_faultKind v_faultPlace a_on a_many v_moved a_pile v_aside v_judgedBy v_judgedYear a_leastCost a_matched a_order a_lies a_movedThen a_yearTable a_yearMark a_beginTable a_beginMark v_statesTold v_found v_yearFrom v_mark v_beginsMark v_begins a_began v_isSpent a_wants a_rowSort a_rowMany a_numbers) H locs → lv_has ls 2 [(0, .ref (ad 1)), (1, .int x_57)] → W p l e rm_X8_plain_all s m args below meth c H locs 0 0 Q (F0 m 31 ls []) := by
      intro n
      induction n with
      | zero =>
        intro x_57 a_all_58 hN
        exact absurd hN loopN_zero
      | succ n ih =>
        intro x_57 a_all_58 hN H locs ls hH hl
        obtain ⟨yy31, hB31, hY31⟩ := loopN_succ hN
        have hF : FX8_plain_all_b31 x_57 a_all_58 = some yy31 := hB31
        delta FX8_plain_all_b31 at hF
        refine lv_iload_n hx hb dX8_plain_31 rfl (lv_at hl 1 rfl) ?_
        refine lv_iconst (v := 5) hx hb dX8_plain_32 syi_5 ?_
        refine lv_icmp_ge (tgt := 56) hx hb dX8_plain_33 rfl (fun c_59 => ?_) (fun c_59 => ?_)
        · have hF := itp c_59 hF
          obtain rfl := Option.some.inj hF
          exact k31_0 a_all_58 hY31 _ _ _ hH (lv_sub hl [0] rfl)
        · have hF := itn c_59 hF
          refine lv_aload_n hx hb dX8_plain_36 rfl (lv_at hl 0 rfl) ?_
          refine lv_bipush (v := 31) hx hb dX8_plain_37 syb_31 ?_
          refine lv_iload_n hx hb dX8_plain_39 rfl (lv_at hl 1 rfl) ?_
          refine lv_iadd hx hb dX8_plain_40 ?_
          refine lv_iconst (v := (-1)) hx hb dX8_plain_41 syi_m1 ?_
          obtain ⟨a_all_60, he, hF⟩ := bd1e hF
          refine ms_all hX hK hH he dX8_plain_42 (fun H locs hH => ?_)
          refine lv_aload_n hx hb dX8_plain_43 rfl (lv_at hl 0 rfl) ?_
          refine lv_bipush (v := 36) hx hb dX8_plain_44 syb_36 ?_
          refine lv_iload_n hx hb dX8_plain_46 rfl (lv_at hl 1 rfl) ?_
          refine lv_iadd hx hb dX8_plain_47 ?_
          refine lv_iconst (v := (-1)) hx hb dX8_plain_48 syi_m1 ?_
          obtain ⟨a_all_61, he, hF⟩ := bd1e hF
          refine ms_all hX hK hH he dX8_plain_49 (fun H locs hH => ?_)
          refine lv_iinc (v := (x_57 + 1)) (lv' := [(1, .int (x_57 + 1)), (0, .ref (ad 1))]) hx hb dX8_plain_50 hl (k := 1) rfl (syc syi_1) (by decide) rfl (fun ls hl => ?_)
          refine lv_goto (tgt := 31) hx hb dX8_plain_53 rfl ?_
          obtain rfl := Option.some.inj hF
          exact ih (x_57 + 1) a_all_61 hY31 _ _ _ hH (lv_sub hl [1, 0] rfl)
    exact l31 nn31 0 a_all_53 en31 _ _ _ hH (lv_sub hl [1, 0] rfl)
  obtain ⟨nn2, en2⟩ := loopC_some ee2
  have l2 : ∀ (n : Nat) (x_47 : Int32) (a_all_48 : Nat → Int32), loopN (fun s => FX8_plain_all_b2 s.1 s.2) n (x_47, a_all_48) = some xx2 → ∀ (H : Heap) (locs : List Loc) (ls : Array Slot), MH D vwA A s.heap (mW ad cA a_all_48 a_hasImage a_tape a_fresh v_taped v_at v_behind v_size v_kind v_number v_wrong v_wrongAt v_depth v_steps v_faultKind v_faultPlace a_on a_many v_moved a_pile v_aside v_judgedBy v_judgedYear a_leastCost a_matched a_order a_lies a_movedThen a_yearTable a_yearMark a_beginTable a_beginMark v_statesTold v_found v_yearFrom v_mark v_beginsMark v_begins a_began v_isSpent a_wants a_rowSort a_rowMany a_numbers) H locs → lv_has ls 2 [(0, .ref (ad 1)), (1, .int x_47)] → W p l e rm_X8_plain_all s m args below meth c H locs 0 0 Q (F0 m 2 ls []) := by
    intro n
    induction n with
    | zero =>
      intro x_47 a_all_48 hN
      exact absurd hN loopN_zero
    | succ n ih =>
      intro x_47 a_all_48 hN H locs ls hH hl
      obtain ⟨yy2, hB2, hY2⟩ := loopN_succ hN
      have hF : FX8_plain_all_b2 x_47 a_all_48 = some yy2 := hB2
      delta FX8_plain_all_b2 at hF
      refine lv_iload_n hx hb dX8_plain_2 rfl (lv_at hl 1 rfl) ?_
      refine lv_bipush (v := 113) hx hb dX8_plain_3 syb_113 ?_
      refine lv_icmp_ge (tgt := 18) hx hb dX8_plain_5 rfl (fun c_49 => ?_) (fun c_49 => ?_)
      · have hF := itp c_49 hF
        obtain rfl := Option.some.inj hF
        exact k2_0 a_all_48 hY2 _ _ _ hH (lv_sub hl [0] rfl)
      · have hF := itn c_49 hF
        refine lv_aload_n hx hb dX8_plain_8 rfl (lv_at hl 0 rfl) ?_
        refine lv_iload_n hx hb dX8_plain_9 rfl (lv_at hl 1 rfl) ?_
        refine lv_iconst (v := 0) hx hb dX8_plain_10 syi_0 ?_
        obtain ⟨a_all_50, he, hF⟩ := bd1e hF
        refine ms_all hX hK hH he dX8_plain_11 (fun H locs hH => ?_)
        refine lv_iinc (v := (x_47 + 1)) (lv' := [(1, .int (x_47 + 1)), (0, .ref (ad 1))]) hx hb dX8_plain_12 hl (k := 1) rfl (syc syi_1) (by decide) rfl (fun ls hl => ?_)
        refine lv_goto (tgt := 2) hx hb dX8_plain_15 rfl ?_
        obtain rfl := Option.some.inj hF
        exact ih (x_47 + 1) a_all_50 hY2 _ _ _ hH (lv_sub hl [1, 0] rfl)
  exact l2 nn2 0 a_all en2 _ _ _ hH (lv_sub hl [1, 0] rfl)
abbrev rm_X8_plain_fresh : Room := { frames := 0, cells := 0, slots := 0, locals := 0 }
set_option maxHeartbeats 4000000 in
theorem met_X8_plain_fresh {l : Launch} {D : va_G} {ad : Nat → Nat} {cA : Nat → ClassId} {a_all : Nat → Int32} {a_hasImage : Nat → Int32} {a_tape : Nat → Int32} {a_fresh : Nat → Int32} {v_taped : Int32} {v_at : Int32} {v_behind : Int32} {v_size : Int32} {v_kind : Int32} {v_number : Int32} {v_wrong : Int32} {v_wrongAt : Int32} {v_depth : Int32} {v_steps : Int32} {v_faultKind : Int32} {v_faultPlace : Int32} {a_on : Nat → Int32} {a_many : Nat → Int32} {v_moved : Int32} {a_pile : Nat → Int32} {v_aside : Int32} {v_judgedBy : Int32} {v_judgedYear : Int32} {a_leastCost : Nat → Int32} {a_matched : Nat → Int32} {a_order : Nat → Int32} {a_lies : Nat → Int64} {a_movedThen : Nat → Int32} {a_yearTable : Nat → Int32} {a_yearMark : Nat → Int32} {a_beginTable : Nat → Int32} {a_beginMark : Nat → Int32} {v_statesTold : Int32} {v_found : Int32} {v_yearFrom : Int32} {v_mark : Int32} {v_beginsMark : Int32} {v_begins : Int32} {a_began : Nat → Int64} {v_isSpent : Int32} {a_wants : Nat → Int32} {a_rowSort : Nat → Int32} {a_rowMany : Nat → Int32} {a_numbers : Nat → Int64}   {ra_fresh : Nat → Int32} {ak av fo : Nat} {E : EvT} (hE : EvM E ak av fo) (hF : FX8_plain_fresh a_fresh = some ra_fresh) : MM l yX8_plain (ws_ yX8_plain cX8_plain 2 (Option.none : Option Jvm.ClassFile.FieldType)) rm_X8_plain_fresh D vwA (mT cA) E [.ref (ad 4)] (mW ad cA a_all a_hasImage a_tape a_fresh v_taped v_at v_behind v_size v_kind v_number v_wrong v_wrongAt v_depth v_steps v_faultKind v_faultPlace a_on a_many v_moved a_pile v_aside v_judgedBy v_judgedYear a_leastCost a_matched a_order a_lies a_movedThen a_yearTable a_yearMark a_beginTable a_beginMark v_statesTold v_found v_yearFrom v_mark v_beginsMark v_begins a_began v_isSpent a_wants a_rowSort a_rowMany a_numbers) (mW ad cA a_all a_hasImage a_tape ra_fresh v_taped v_at v_behind v_size v_kind v_number v_wrong v_wrongAt v_depth v_steps v_faultKind v_faultPlace a_on a_many v_moved a_pile v_aside v_judgedBy v_judgedYear a_leastCost a_matched a_order a_lies a_movedThen a_yearTable a_yearMark a_beginTable a_beginMark v_statesTold v_found v_yearFrom v_mark v_beginsMark v_begins a_began v_isSpent a_wants a_rowSort a_rowMany a_numbers) none := by
  refine MM.ofV (by decide) (Nat.le_of_ble_eq_true rfl) ?_
  intro p e s m args below meth c Q A hX hK hE0 hret H locs ls hH hl
  have hX : CallFix p m c cX8_plain 2 s args lw_all RX8 := hX
  have hx := hX.1
  have hb := hX.2.1
  have hown := hX.2.2.2.1
  have hts := hX.2.2.2.2
  have hl : lv_has ls 2 [(0, .ref (ad 4))] := hl
  have hEv := hE.1
  delta FX8_plain_fresh at hF
  refine lv_iconst (v := 0) hx hb dX8_plain_0 syi_0 ?_
  refine lv_istore_n (lv' := [(1, .int 0), (0, .ref (ad 4))]) hx hb dX8_plain_1 rfl hl (by decide) rfl (fun ls hl => ?_)
  obtain ⟨xx2, ee2, kk2_0⟩ := bd1L hF
  have k2_0 : ∀ (a_fresh_51 : Nat → Int32), xx2 = a_fresh_51 → ∀ (H : Heap) (locs : List Loc) (ls : Array Slot), MH D vwA A s.heap (mW ad cA a_all a_hasImage a_tape a_fresh_51 v_taped v_at v_behind v_size v_kind v_number v_wrong v_wrongAt v_depth v_steps v_faultKind v_faultPlace a_on a_many v_moved a_pile v_aside v_judgedBy v_judgedYear a_leastCost a_matched a_order a_lies a_movedThen a_yearTable a_yearMark a_beginTable a_beginMark v_statesTold v_found v_yearFrom v_mark v_beginsMark v_begins a_began v_isSpent a_wants a_rowSort a_rowMany a_numbers) H locs → lv_has ls 2 [(0, .ref (ad 4))] → W p l e rm_X8_plain_fresh s m args below meth c H locs 0 0 Q (F0 m 18 ls []) := by
    intro a_fresh_51 hxx H locs ls hH hl
    have hF := un1e (kk2_0 a_fresh_51 hxx)
    refine lv_aload_n hx hb dX8_plain_18 rfl (lv_at hl 0 rfl) ?_
    refine lv_bipush (v := 75) hx hb dX8_plain_19 syb_75 ?_
    refine lv_iconst (v := 4) hx hb dX8_plain_21 syi_4 ?_
    obtain ⟨a_fresh_52, he, hF⟩ := bd1e hF
    refine ms_fresh hX hK hH he dX8_plain_22 (fun H locs hH => ?_)
    refine lv_aload_n hx hb dX8_plain_23 rfl (lv_at hl 0 rfl) ?_
    refine lv_bipush (v := 76) hx hb dX8_plain_24 syb_76 ?_
    refine lv_bipush (v := 8) hx hb dX8_plain_26 syb_8 ?_
    obtain ⟨a_fresh_53, he, hF⟩ := bd1e hF
    refine ms_fresh hX hK hH he dX8_plain_28 (fun H locs hH => ?_)
    refine lv_iconst (v := 0) hx hb dX8_plain_29 syi_0 ?_
    refine lv_istore_n (lv' := [(1, .int 0), (0, .ref (ad 4))]) hx hb dX8_plain_30 rfl hl (by decide) rfl (fun ls hl => ?_)
    obtain ⟨xx31, ee31, kk31_0⟩ := bd1L hF
    have k31_0 : ∀ (a_fresh_62 : Nat → Int32), xx31 = a_fresh_62 → ∀ (H : Heap) (locs : List Loc) (ls : Array Slot), MH D vwA A s.heap (mW ad cA a_all a_hasImage a_tape a_fresh_62 v_taped v_at v_behind v_size v_kind v_number v_wrong v_wrongAt v_depth v_steps v_faultKind v_faultPlace a_on a_many v_moved a_pile v_aside v_judgedBy v_judgedYear a_leastCost a_matched a_order a_lies a_movedThen a_yearTable a_yearMark a_beginTable a_beginMark v_statesTold v_found v_yearFrom v_mark v_beginsMark v_begins a_began v_isSpent a_wants a_rowSort a_rowMany a_numbers) H locs → lv_has ls 2 [(0, .ref (ad 4))] → W p l e rm_X8_plain_fresh s m args below meth c H locs 0 0 Q (F0 m 56 ls []) := by
      intro a_fresh_62 hxx H locs ls hH hl
      have hF := un1e (kk31_0 a_fresh_62 hxx)
      refine lv_iconst (v := 0) hx hb dX8_plain_56 syi_0 ?_
      refine lv_istore_n (lv' := [(1, .int 0), (0, .ref (ad 4))]) hx hb dX8_plain_57 rfl hl (by decide) rfl (fun ls hl => ?_)
      obtain ⟨xx58, ee58, kk58_0⟩ := bd1L hF
      have k58_0 : ∀ (a_fresh_69 : Nat → Int32), xx58 = a_fresh_69 → ∀ (H : Heap) (locs : List Loc) (ls : Array Slot), MH D vwA A s.heap (mW ad cA a_all a_hasImage a_tape a_fresh_69 v_taped v_at v_behind v_size v_kind v_number v_wrong v_wrongAt v_depth v_steps v_faultKind v_faultPlace a_on a_many v_moved a_pile v_aside v_judgedBy v_judgedYear a_leastCost a_matched a_order a_lies a_movedThen a_yearTable a_yearMark a_beginTable a_beginMark v_statesTold v_found v_yearFrom v_mark v_beginsMark v_begins a_began v_isSpent a_wants a_rowSort a_rowMany a_numbers) H locs → lv_has ls 2 [(0, .ref (ad 4))] → W p l e rm_X8_plain_fresh s m args below meth c H locs 0 0 Q (F0 m 77 ls []) := by
        intro a_fresh_69 hxx H locs ls hH hl
        have hF := un1e (kk58_0 a_fresh_69 hxx)
        refine lv_iconst (v := 0) hx hb dX8_plain_77 syi_0 ?_
        refine lv_istore_n (lv' := [(1, .int 0), (0, .ref (ad 4))]) hx hb dX8_plain_78 rfl hl (by decide) rfl (fun ls hl => ?_)
        obtain ⟨xx79, ee79, kk79_0⟩ := bd1L hF
        have k79_0 : ∀ (a_fresh_76 : Nat → Int32), xx79 = a_fresh_76 → ∀ (H : Heap) (locs : List Loc) (ls : Array Slot), MH D vwA A s.heap (mW ad cA a_all a_hasImage a_tape a_fresh_76 v_taped v_at v_behind v_size v_kind v_number v_wrong v_wrongAt v_depth v_steps v_faultKind v_faultPlace a_on a_many v_moved a_pile v_aside v_judgedBy v_judgedYear a_leastCost a_matched a_order a_lies a_movedThen a_yearTable a_yearMark a_beginTable a_beginMark v_statesTold v_found v_yearFrom v_mark v_beginsMark v_begins a_began v_isSpent a_wants a_rowSort a_rowMany a_numbers) H locs → lv_has ls 2 [] → W p l e rm_X8_plain_fresh s m args below meth c H locs 0 0 Q (F0 m 98 ls []) := by
          intro a_fresh_76 hxx H locs ls hH hl
          have hF := un1e (kk79_0 a_fresh_76 hxx)
          obtain rfl := Option.some.inj hF
          exact hret _ _ _ _ hH dX8_plain_98
        obtain ⟨nn79, en79⟩ := loopC_some ee79
        have l79 : ∀ (n : Nat) (x_72 : Int32) (a_fresh_73 : Nat → Int32), loopN (fun s => FX8_plain_fresh_b79 s.1 s.2) n (x_72, a_fresh_73) = some xx79 → ∀ (H : Heap) (locs : List Loc) (ls : Array Slot), MH D vwA A s.heap (mW ad cA a_all a_hasImage a_tape a_fresh_73 v_taped v_at v_behind v_size v_kind v_number v_wrong v_wrongAt v_depth v_steps v_faultKind v_faultPlace a_on a_many v_moved a_pile v_aside v_judgedBy v_judgedYear a_leastCost a_matched a_order a_lies a_movedThen a_yearTable a_yearMark a_beginTable a_beginMark v_statesTold v_found v_yearFrom v_mark v_beginsMark v_begins a_began v_isSpent a_wants a_rowSort a_rowMany a_numbers) H locs → lv_has ls 2 [(0, .ref (ad 4)), (1, .int x_72)] → W p l e rm_X8_plain_fresh s m args below meth c H locs 0 0 Q (F0 m 79 ls []) := by
          intro n
          induction n with
          | zero =>
            intro x_72 a_fresh_73 hN
            exact absurd hN loopN_zero
          | succ n ih =>
            intro x_72 a_fresh_73 hN H locs ls hH hl
            obtain ⟨yy79, hB79, hY79⟩ := loopN_succ hN
            have hF : FX8_plain_fresh_b79 x_72 a_fresh_73 = some yy79 := hB79
            delta FX8_plain_fresh_b79 at hF
            refine lv_iload_n hx hb dX8_plain_79 rfl (lv_at hl 1 rfl) ?_
            refine lv_bipush (v := 8) hx hb dX8_plain_80 syb_8 ?_
            refine lv_icmp_ge (tgt := 98) hx hb dX8_plain_82 rfl (fun c_74 => ?_) (fun c_74 => ?_)
            · have hF := itp c_74 hF
              obtain rfl := Option.some.inj hF
              exact k79_0 a_fresh_73 hY79 _ _ _ hH (lv_sub hl [] rfl)
            · have hF := itn c_74 hF
              refine lv_aload_n hx hb dX8_plain_85 rfl (lv_at hl 0 rfl) ?_
              refine lv_bipush (v := 104) hx hb dX8_plain_86 syb_104 ?_
              refine lv_iload_n hx hb dX8_plain_88 rfl (lv_at hl 1 rfl) ?_
              refine lv_iadd hx hb dX8_plain_89 ?_
              refine lv_iconst (v := (-1)) hx hb dX8_plain_90 syi_m1 ?_
              obtain ⟨a_fresh_75, he, hF⟩ := bd1e hF
              refine ms_fresh hX hK hH he dX8_plain_91 (fun H locs hH => ?_)
              refine lv_iinc (v := (x_72 + 1)) (lv' := [(1, .int (x_72 + 1)), (0, .ref (ad 4))]) hx hb dX8_plain_92 hl (k := 1) rfl (syc syi_1) (by decide) rfl (fun ls hl => ?_)
              refine lv_goto (tgt := 79) hx hb dX8_plain_95 rfl ?_
              obtain rfl := Option.some.inj hF
              exact ih (x_72 + 1) a_fresh_75 hY79 _ _ _ hH (lv_sub hl [1, 0] rfl)
        exact l79 nn79 0 a_fresh_69 en79 _ _ _ hH (lv_sub hl [1, 0] rfl)
      obtain ⟨nn58, en58⟩ := loopC_some ee58
      have l58 : ∀ (n : Nat) (x_65 : Int32) (a_fresh_66 : Nat → Int32), loopN (fun s => FX8_plain_fresh_b58 s.1 s.2) n (x_65, a_fresh_66) = some xx58 → ∀ (H : Heap) (locs : List Loc) (ls : Array Slot), MH D vwA A s.heap (mW ad cA a_all a_hasImage a_tape a_fresh_66 v_taped v_at v_behind v_size v_kind v_number v_wrong v_wrongAt v_depth v_steps v_faultKind v_faultPlace a_on a_many v_moved a_pile v_aside v_judgedBy v_judgedYear a_leastCost a_matched a_order a_lies a_movedThen a_yearTable a_yearMark a_beginTable a_beginMark v_statesTold v_found v_yearFrom v_mark v_beginsMark v_begins a_began v_isSpent a_wants a_rowSort a_rowMany a_numbers) H locs → lv_has ls 2 [(0, .ref (ad 4)), (1, .int x_65)] → W p l e rm_X8_plain_fresh s m args below meth c H locs 0 0 Q (F0 m 58 ls []) := by
        intro n
        induction n with
        | zero =>
          intro x_65 a_fresh_66 hN
          exact absurd hN loopN_zero
        | succ n ih =>
          intro x_65 a_fresh_66 hN H locs ls hH hl
          obtain ⟨yy58, hB58, hY58⟩ := loopN_succ hN
          have hF : FX8_plain_fresh_b58 x_65 a_fresh_66 = some yy58 := hB58
          delta FX8_plain_fresh_b58 at hF
          refine lv_iload_n hx hb dX8_plain_58 rfl (lv_at hl 1 rfl) ?_
          refine lv_bipush (v := 15) hx hb dX8_plain_59 syb_15 ?_
          refine lv_icmp_ge (tgt := 77) hx hb dX8_plain_61 rfl (fun c_67 => ?_) (fun c_67 => ?_)
          · have hF := itp c_67 hF
            obtain rfl := Option.some.inj hF
            exact k58_0 a_fresh_66 hY58 _ _ _ hH (lv_sub hl [0] rfl)
          · have hF := itn c_67 hF
            refine lv_aload_n hx hb dX8_plain_64 rfl (lv_at hl 0 rfl) ?_
            refine lv_bipush (v := 41) hx hb dX8_plain_65 syb_41 ?_
            refine lv_iload_n hx hb dX8_plain_67 rfl (lv_at hl 1 rfl) ?_
            refine lv_iadd hx hb dX8_plain_68 ?_
            refine lv_iconst (v := (-1)) hx hb dX8_plain_69 syi_m1 ?_
            obtain ⟨a_fresh_68, he, hF⟩ := bd1e hF
            refine ms_fresh hX hK hH he dX8_plain_70 (fun H locs hH => ?_)
            refine lv_iinc (v := (x_65 + 1)) (lv' := [(1, .int (x_65 + 1)), (0, .ref (ad 4))]) hx hb dX8_plain_71 hl (k := 1) rfl (syc syi_1) (by decide) rfl (fun ls hl => ?_)
            refine lv_goto (tgt := 58) hx hb dX8_plain_74 rfl ?_
            obtain rfl := Option.some.inj hF
            exact ih (x_65 + 1) a_fresh_68 hY58 _ _ _ hH (lv_sub hl [1, 0] rfl)
      exact l58 nn58 0 a_fresh_62 en58 _ _ _ hH (lv_sub hl [1, 0] rfl)
    obtain ⟨nn31, en31⟩ := loopC_some ee31
    have l31 : ∀ (n : Nat) (x_57 : Int32) (a_fresh_58 : Nat → Int32), loopN (fun s => FX8_plain_fresh_b31 s.1 s.2) n (x_57, a_fresh_58) = some xx31 → ∀ (H : Heap) (locs : List Loc) (ls : Array Slot), MH D vwA A s.heap (mW ad cA a_all a_hasImage a_tape a_fresh_58 v_taped v_at v_behind v_size v_kind v_number v_wrong v_wrongAt v_depth v_steps v_faultKind v_faultPlace a_on a_many v_moved a_pile v_aside v_judgedBy v_judgedYear a_leastCost a_matched a_order a_lies a_movedThen a_yearTable a_yearMark a_beginTable a_beginMark v_statesTold v_found v_yearFrom v_mark v_beginsMark v_begins a_began v_isSpent a_wants a_rowSort a_rowMany a_numbers) H locs → lv_has ls 2 [(0, .ref (ad 4)), (1, .int x_57)] → W p l e rm_X8_plain_fresh s m args below meth c H locs 0 0 Q (F0 m 31 ls []) := by
      intro n
      induction n with
      | zero =>
        intro x_57 a_fresh_58 hN
        exact absurd hN loopN_zero
      | succ n ih =>
        intro x_57 a_fresh_58 hN H locs ls hH hl
        obtain ⟨yy31, hB31, hY31⟩ := loopN_succ hN
        have hF : FX8_plain_fresh_b31 x_57 a_fresh_58 = some yy31 := hB31
        delta FX8_plain_fresh_b31 at hF
        refine lv_iload_n hx hb dX8_plain_31 rfl (lv_at hl 1 rfl) ?_
        refine lv_iconst (v := 5) hx hb dX8_plain_32 syi_5 ?_
        refine lv_icmp_ge (tgt := 56) hx hb dX8_plain_33 rfl (fun c_59 => ?_) (fun c_59 => ?_)
        · have hF := itp c_59 hF
          obtain rfl := Option.some.inj hF
          exact k31_0 a_fresh_58 hY31 _ _ _ hH (lv_sub hl [0] rfl)
        · have hF := itn c_59 hF
          refine lv_aload_n hx hb dX8_plain_36 rfl (lv_at hl 0 rfl) ?_
          refine lv_bipush (v := 31) hx hb dX8_plain_37 syb_31 ?_
          refine lv_iload_n hx hb dX8_plain_39 rfl (lv_at hl 1 rfl) ?_
          refine lv_iadd hx hb dX8_plain_40 ?_
          refine lv_iconst (v := (-1)) hx hb dX8_plain_41 syi_m1 ?_
          obtain ⟨a_fresh_60, he, hF⟩ := bd1e hF
          refine ms_fresh hX hK hH he dX8_plain_42 (fun H locs hH => ?_)
          refine lv_aload_n hx hb dX8_plain_43 rfl (lv_at hl 0 rfl) ?_
          refine lv_bipush (v := 36) hx hb dX8_plain_44 syb_36 ?_
          refine lv_iload_n hx hb dX8_plain_46 rfl (lv_at hl 1 rfl) ?_
          refine lv_iadd hx hb dX8_plain_47 ?_
          refine lv_iconst (v := (-1)) hx hb dX8_plain_48 syi_m1 ?_
          obtain ⟨a_fresh_61, he, hF⟩ := bd1e hF
          refine ms_fresh hX hK hH he dX8_plain_49 (fun H locs hH => ?_)
          refine lv_iinc (v := (x_57 + 1)) (lv' := [(1, .int (x_57 + 1)), (0, .ref (ad 4))]) hx hb dX8_plain_50 hl (k := 1) rfl (syc syi_1) (by decide) rfl (fun ls hl => ?_)
          refine lv_goto (tgt := 31) hx hb dX8_plain_53 rfl ?_
          obtain rfl := Option.some.inj hF
          exact ih (x_57 + 1) a_fresh_61 hY31 _ _ _ hH (lv_sub hl [1, 0] rfl)
    exact l31 nn31 0 a_fresh_53 en31 _ _ _ hH (lv_sub hl [1, 0] rfl)
  obtain ⟨nn2, en2⟩ := loopC_some ee2
  have l2 : ∀ (n : Nat) (x_47 : Int32) (a_fresh_48 : Nat → Int32), loopN (fun s => FX8_plain_fresh_b2 s.1 s.2) n (x_47, a_fresh_48) = some xx2 → ∀ (H : Heap) (locs : List Loc) (ls : Array Slot), MH D vwA A s.heap (mW ad cA a_all a_hasImage a_tape a_fresh_48 v_taped v_at v_behind v_size v_kind v_number v_wrong v_wrongAt v_depth v_steps v_faultKind v_faultPlace a_on a_many v_moved a_pile v_aside v_judgedBy v_judgedYear a_leastCost a_matched a_order a_lies a_movedThen a_yearTable a_yearMark a_beginTable a_beginMark v_statesTold v_found v_yearFrom v_mark v_beginsMark v_begins a_began v_isSpent a_wants a_rowSort a_rowMany a_numbers) H locs → lv_has ls 2 [(0, .ref (ad 4)), (1, .int x_47)] → W p l e rm_X8_plain_fresh s m args below meth c H locs 0 0 Q (F0 m 2 ls []) := by
    intro n
    induction n with
    | zero =>
      intro x_47 a_fresh_48 hN
      exact absurd hN loopN_zero
    | succ n ih =>
      intro x_47 a_fresh_48 hN H locs ls hH hl
      obtain ⟨yy2, hB2, hY2⟩ := loopN_succ hN
      have hF : FX8_plain_fresh_b2 x_47 a_fresh_48 = some yy2 := hB2
      delta FX8_plain_fresh_b2 at hF
      refine lv_iload_n hx hb dX8_plain_2 rfl (lv_at hl 1 rfl) ?_
      refine lv_bipush (v := 113) hx hb dX8_plain_3 syb_113 ?_
      refine lv_icmp_ge (tgt := 18) hx hb dX8_plain_5 rfl (fun c_49 => ?_) (fun c_49 => ?_)
      · have hF := itp c_49 hF
        obtain rfl := Option.some.inj hF
        exact k2_0 a_fresh_48 hY2 _ _ _ hH (lv_sub hl [0] rfl)
      · have hF := itn c_49 hF
        refine lv_aload_n hx hb dX8_plain_8 rfl (lv_at hl 0 rfl) ?_
        refine lv_iload_n hx hb dX8_plain_9 rfl (lv_at hl 1 rfl) ?_
        refine lv_iconst (v := 0) hx hb dX8_plain_10 syi_0 ?_
        obtain ⟨a_fresh_50, he, hF⟩ := bd1e hF
        refine ms_fresh hX hK hH he dX8_plain_11 (fun H locs hH => ?_)
        refine lv_iinc (v := (x_47 + 1)) (lv' := [(1, .int (x_47 + 1)), (0, .ref (ad 4))]) hx hb dX8_plain_12 hl (k := 1) rfl (syc syi_1) (by decide) rfl (fun ls hl => ?_)
        refine lv_goto (tgt := 2) hx hb dX8_plain_15 rfl ?_
        obtain rfl := Option.some.inj hF
        exact ih (x_47 + 1) a_fresh_50 hY2 _ _ _ hH (lv_sub hl [1, 0] rfl)
  exact l2 nn2 0 a_fresh en2 _ _ _ hH (lv_sub hl [1, 0] rfl)
abbrev rm_X8_feed : Room := { frames := 0, cells := 0, slots := 0, locals := 0 }
set_option maxHeartbeats 4000000 in
theorem met_X8_feed {l : Launch} {D : va_G} {ad : Nat → Nat} {cA : Nat → ClassId} {a_all : Nat → Int32} {a_hasImage : Nat → Int32} {a_tape : Nat → Int32} {a_fresh : Nat → Int32} {v_taped : Int32} {v_at : Int32} {v_behind : Int32} {v_size : Int32} {v_kind : Int32} {v_number : Int32} {v_wrong : Int32} {v_wrongAt : Int32} {v_depth : Int32} {v_steps : Int32} {v_faultKind : Int32} {v_faultPlace : Int32} {a_on : Nat → Int32} {a_many : Nat → Int32} {v_moved : Int32} {a_pile : Nat → Int32} {v_aside : Int32} {v_judgedBy : Int32} {v_judgedYear : Int32} {a_leastCost : Nat → Int32} {a_matched : Nat → Int32} {a_order : Nat → Int32} {a_lies : Nat → Int64} {a_movedThen : Nat → Int32} {a_yearTable : Nat → Int32} {a_yearMark : Nat → Int32} {a_beginTable : Nat → Int32} {a_beginMark : Nat → Int32} {v_statesTold : Int32} {v_found : Int32} {v_yearFrom : Int32} {v_mark : Int32} {v_beginsMark : Int32} {v_begins : Int32} {a_began : Nat → Int64} {v_isSpent : Int32} {a_wants : Nat → Int32} {a_rowSort : Nat → Int32} {a_rowMany : Nat → Int32} {a_numbers : Nat → Int64}  {p1 : Int32} {p2 : Int32} {p3 : Int32} {p4 : Int32} {p5 : Int32} {res : Int32} {ra_tape : Nat → Int32} {rv_taped : Int32} {ak av fo : Nat} {E : EvT} (hE : EvM E ak av fo) (hF : FX8_feed a_tape v_taped p1 p2 p3 p4 p5 = some (res, ra_tape, rv_taped)) : MM l yX8_feed (ws_ yX8_feed cX8_feed 8 (Option.some Jvm.ClassFile.FieldType.int)) rm_X8_feed D vwA (mT cA) E [.ref (ad 0), .int p1, .int p2, .int p3, .int p4, .int p5] (mW ad cA a_all a_hasImage a_tape a_fresh v_taped v_at v_behind v_size v_kind v_number v_wrong v_wrongAt v_depth v_steps v_faultKind v_faultPlace a_on a_many v_moved a_pile v_aside v_judgedBy v_judgedYear a_leastCost a_matched a_order a_lies a_movedThen a_yearTable a_yearMark a_beginTable a_beginMark v_statesTold v_found v_yearFrom v_mark v_beginsMark v_begins a_began v_isSpent a_wants a_rowSort a_rowMany a_numbers) (mW ad cA a_all a_hasImage ra_tape a_fresh rv_taped v_at v_behind v_size v_kind v_number v_wrong v_wrongAt v_depth v_steps v_faultKind v_faultPlace a_on a_many v_moved a_pile v_aside v_judgedBy v_judgedYear a_leastCost a_matched a_order a_lies a_movedThen a_yearTable a_yearMark a_beginTable a_beginMark v_statesTold v_found v_yearFrom v_mark v_beginsMark v_begins a_began v_isSpent a_wants a_rowSort a_rowMany a_numbers) (some (.int res)) := by
  refine MM.ofI (by decide) (Nat.le_of_ble_eq_true rfl) ?_
  intro p e s m args below meth c Q A hX hK hE0 hret H locs ls hH hl
  have hX : CallFix p m c cX8_feed 8 s args lw_all RX8 := hX
  have hx := hX.1
  have hb := hX.2.1
  have hown := hX.2.2.2.1
  have hts := hX.2.2.2.2
  have hl : lv_has ls 8 [(0, .ref (ad 0)), (1, .int p1), (2, .int p2), (3, .int p3), (4, .int p4), (5, .int p5)] := hl
  have hEv := hE.1
  delta FX8_feed at hF
  refine lv_aload_n hx hb dX8_feed_0 rfl (lv_at hl 0 rfl) ?_
  refine lv_iconst (v := 0) hx hb dX8_feed_1 syi_0 ?_
  refine mp_thrown hX hK hH dX8_feed_2 (fun H locs hH => ?_)
  refine lv_aload_n hx hb dX8_feed_5 rfl (lv_at hl 0 rfl) ?_
  refine mg_taped hX hK hH dX8_feed_6 ?_
  refine lv_bipush (v := 20) hx hb dX8_feed_9 syb_20 ?_
  refine lv_iadd hx hb dX8_feed_11 ?_
  refine lv_sipush (v := 400) hx hb dX8_feed_12 sys_400 ?_
  refine lv_icmp_le (tgt := 21) hx hb dX8_feed_15 rfl (fun c_50 => ?_) (fun c_50 => ?_)
  · have hF := itp c_50 hF
    refine lv_iconst (v := 0) hx hb dX8_feed_21 syi_0 ?_
    refine lv_istore (lv' := [(6, .int 0), (0, .ref (ad 0)), (1, .int p1), (2, .int p2), (3, .int p3), (4, .int p4), (5, .int p5)]) hx hb dX8_feed_22 hl (by decide) rfl (fun ls hl => ?_)
    obtain ⟨xx24, ee24, kk24_0⟩ := bd2L hF
    have k24_0 : ∀ (a_tape_68 : Nat → Int32) (v_taped_69 : Int32), xx24 = (a_tape_68, v_taped_69) → ∀ (H : Heap) (locs : List Loc) (ls : Array Slot), MH D vwA A s.heap (mW ad cA a_all a_hasImage a_tape_68 a_fresh v_taped_69 v_at v_behind v_size v_kind v_number v_wrong v_wrongAt v_depth v_steps v_faultKind v_faultPlace a_on a_many v_moved a_pile v_aside v_judgedBy v_judgedYear a_leastCost a_matched a_order a_lies a_movedThen a_yearTable a_yearMark a_beginTable a_beginMark v_statesTold v_found v_yearFrom v_mark v_beginsMark v_begins a_began v_isSpent a_wants a_rowSort a_rowMany a_numbers) H locs → lv_has ls 8 [(0, .ref (ad 0))] → W p l e rm_X8_feed s m args below meth c H locs 0 0 Q (F0 m 121 ls []) := by
      intro a_tape_68 v_taped_69 hxx H locs ls hH hl
      have hF := un2e (kk24_0 (a_tape_68, v_taped_69) hxx)
      refine lv_aload_n hx hb dX8_feed_121 rfl (lv_at hl 0 rfl) ?_
      refine mg_taped hX hK hH dX8_feed_122 ?_
      obtain ⟨rfl, rfl, rfl⟩ := re3 hF
      exact hret _ _ _ _ hH dX8_feed_125
    obtain ⟨nn24, en24⟩ := loopC_some ee24
    have l24 : ∀ (n : Nat) (x_58 : Int32) (a_tape_59 : Nat → Int32) (v_taped_60 : Int32), loopN (fun s => FX8_feed_b24 p1 p2 p3 p4 p5 s.1 s.2.1 s.2.2) n (x_58, a_tape_59, v_taped_60) = some xx24 → ∀ (H : Heap) (locs : List Loc) (ls : Array Slot), MH D vwA A s.heap (mW ad cA a_all a_hasImage a_tape_59 a_fresh v_taped_60 v_at v_behind v_size v_kind v_number v_wrong v_wrongAt v_depth v_steps v_faultKind v_faultPlace a_on a_many v_moved a_pile v_aside v_judgedBy v_judgedYear a_leastCost a_matched a_order a_lies a_movedThen a_yearTable a_yearMark a_beginTable a_beginMark v_statesTold v_found v_yearFrom v_mark v_beginsMark v_begins a_began v_isSpent a_wants a_rowSort a_rowMany a_numbers) H locs → lv_has ls 8 [(0, .ref (ad 0)), (1, .int p1), (2, .int p2), (3, .int p3), (4, .int p4), (5, .int p5), (6, .int x_58)] → W p l e rm_X8_feed s m args below meth c H locs 0 0 Q (F0 m 24 ls []) := by
      intro n
      induction n with
      | zero =>
        intro x_58 a_tape_59 v_taped_60 hN
        exact absurd hN loopN_zero
      | succ n ih =>
        intro x_58 a_tape_59 v_taped_60 hN H locs ls hH hl
        obtain ⟨yy24, hB24, hY24⟩ := loopN_succ hN
        have hF : FX8_feed_b24 p1 p2 p3 p4 p5 x_58 a_tape_59 v_taped_60 = some yy24 := hB24
        delta FX8_feed_b24 at hF
        refine lv_iload hx hb dX8_feed_24 (lv_at hl 6 rfl) ?_
        refine lv_bipush (v := 20) hx hb dX8_feed_26 syb_20 ?_
        refine lv_icmp_ge (tgt := 121) hx hb dX8_feed_28 rfl (fun c_61 => ?_) (fun c_61 => ?_)
        · have hF := itp c_61 hF
          obtain rfl := Option.some.inj hF
          exact k24_0 a_tape_59 v_taped_60 hY24 _ _ _ hH (lv_sub hl [0] rfl)
        · have hF := itn c_61 hF
          refine lv_iload hx hb dX8_feed_31 (lv_at hl 6 rfl) ?_
          refine lv_iconst (v := 4) hx hb dX8_feed_33 syi_4 ?_
          have j77 : ∀ (x_66 : Int32), FX8_feed_j77 x_58 a_tape_59 v_taped_60 x_66 = some yy24 → ∀ (H : Heap) (locs : List Loc) (ls : Array Slot), MH D vwA A s.heap (mW ad cA a_all a_hasImage a_tape_59 a_fresh v_taped_60 v_at v_behind v_size v_kind v_number v_wrong v_wrongAt v_depth v_steps v_faultKind v_faultPlace a_on a_many v_moved a_pile v_aside v_judgedBy v_judgedYear a_leastCost a_matched a_order a_lies a_movedThen a_yearTable a_yearMark a_beginTable a_beginMark v_statesTold v_found v_yearFrom v_mark v_beginsMark v_begins a_began v_isSpent a_wants a_rowSort a_rowMany a_numbers) H locs → lv_has ls 8 [(0, .ref (ad 0)), (1, .int p1), (2, .int p2), (3, .int p3), (4, .int p4), (5, .int p5), (6, .int x_58)] → W p l e rm_X8_feed s m args below meth c H locs 0 0 Q (F0 m 77 ls [.int x_66]) := by
            intro x_66 hF H locs ls hH hl
            delta FX8_feed_j77 at hF
            refine lv_istore (lv' := [(7, .int x_66), (0, .ref (ad 0)), (1, .int p1), (2, .int p2), (3, .int p3), (4, .int p4), (5, .int p5), (6, .int x_58)]) hx hb dX8_feed_77 hl (by decide) rfl (fun ls hl => ?_)
            refine lv_aload_n hx hb dX8_feed_79 rfl (lv_at hl 1 rfl) ?_
            refine mg_tape hX hK hH dX8_feed_80 ?_
            refine lv_aload_n hx hb dX8_feed_83 rfl (lv_at hl 1 rfl) ?_
            refine mg_taped hX hK hH dX8_feed_84 ?_
            refine lv_iload hx hb dX8_feed_87 (lv_at hl 0 rfl) ?_
            refine lv_bipush (v := 24) hx hb dX8_feed_89 syb_24 ?_
            refine lv_bipush (v := 8) hx hb dX8_feed_91 syb_8 ?_
            refine lv_iload hx hb dX8_feed_93 (lv_at hl 7 rfl) ?_
            refine lv_iconst (v := 4) hx hb dX8_feed_95 syi_4 ?_
            refine lv_irem hx hb dX8_feed_96 (by decide) ?_
            refine lv_imul hx hb dX8_feed_97 ?_
            refine lv_isub hx hb dX8_feed_98 ?_
            refine lv_ishr hx hb dX8_feed_99 ?_
            refine lv_sipush (v := 255) hx hb dX8_feed_100 sys_255 ?_
            refine lv_iand hx hb dX8_feed_103 ?_
            obtain ⟨a_tape_67, he, hF⟩ := bd1e hF
            refine ms_tape hX hK hH he dX8_feed_104 (fun H locs hH => ?_)
            refine lv_aload_n hx hb dX8_feed_105 rfl (lv_at hl 1 rfl) ?_
            refine lv_dup hx hb dX8_feed_106 rfl ?_
            refine mg_taped hX hK hH dX8_feed_107 ?_
            refine lv_iconst (v := 1) hx hb dX8_feed_110 syi_1 ?_
            refine lv_iadd hx hb dX8_feed_111 ?_
            refine mp_taped hX hK hH dX8_feed_112 (fun H locs hH => ?_)
            refine lv_iinc (v := (x_58 + 1)) (lv' := [(6, .int (x_58 + 1)), (7, .int x_66), (0, .ref (ad 0)), (1, .int p1), (2, .int p2), (3, .int p3), (4, .int p4), (5, .int p5)]) hx hb dX8_feed_115 hl (k := 7) rfl (syc syi_1) (by decide) rfl (fun ls hl => ?_)
            refine lv_goto (tgt := 24) hx hb dX8_feed_118 rfl ?_
            obtain rfl := Option.some.inj hF
            exact ih (x_58 + 1) a_tape_67 (v_taped_60 + 1) hY24 _ _ _ hH (lv_sub hl [2, 3, 4, 5, 6, 7, 0] rfl)
          refine lv_icmp_ge (tgt := 41) hx hb dX8_feed_34 rfl (fun c_62 => ?_) (fun c_62 => ?_)
          · have hF := itp c_62 hF
            refine lv_iload hx hb dX8_feed_41 (lv_at hl 6 rfl) ?_
            refine lv_bipush (v := 8) hx hb dX8_feed_43 syb_8 ?_
            refine lv_icmp_ge (tgt := 52) hx hb dX8_feed_45 rfl (fun c_63 => ?_) (fun c_63 => ?_)
            · have hF := itp c_63 hF
              refine lv_iload hx hb dX8_feed_52 (lv_at hl 6 rfl) ?_
              refine lv_bipush (v := 12) hx hb dX8_feed_54 syb_12 ?_
              refine lv_icmp_ge (tgt := 63) hx hb dX8_feed_56 rfl (fun c_64 => ?_) (fun c_64 => ?_)
              · have hF := itp c_64 hF
                refine lv_iload hx hb dX8_feed_63 (lv_at hl 6 rfl) ?_
                refine lv_bipush (v := 16) hx hb dX8_feed_65 syb_16 ?_
                refine lv_icmp_ge (tgt := 75) hx hb dX8_feed_67 rfl (fun c_65 => ?_) (fun c_65 => ?_)
                · have hF := itp c_65 hF
                  refine lv_iload hx hb dX8_feed_75 (lv_at hl 5 rfl) ?_
                  exact j77 p5 hF _ _ _ hH (lv_sub hl [0, 1, 2, 3, 4, 5, 6] rfl)
                · have hF := itn c_65 hF
                  refine lv_iload hx hb dX8_feed_70 (lv_at hl 4 rfl) ?_
                  refine lv_goto (tgt := 77) hx hb dX8_feed_72 rfl ?_
                  exact j77 p4 hF _ _ _ hH (lv_sub hl [0, 1, 2, 3, 4, 5, 6] rfl)
              · have hF := itn c_64 hF
                refine lv_iload_n hx hb dX8_feed_59 rfl (lv_at hl 3 rfl) ?_
                refine lv_goto (tgt := 77) hx hb dX8_feed_60 rfl ?_
                exact j77 p3 hF _ _ _ hH (lv_sub hl [0, 1, 2, 3, 4, 5, 6] rfl)
            · have hF := itn c_63 hF
              refine lv_iload_n hx hb dX8_feed_48 rfl (lv_at hl 2 rfl) ?_
              refine lv_goto (tgt := 77) hx hb dX8_feed_49 rfl ?_
              exact j77 p2 hF _ _ _ hH (lv_sub hl [0, 1, 2, 3, 4, 5, 6] rfl)
          · have hF := itn c_62 hF
            refine lv_iload_n hx hb dX8_feed_37 rfl (lv_at hl 1 rfl) ?_
            refine lv_goto (tgt := 77) hx hb dX8_feed_38 rfl ?_
            exact j77 p1 hF _ _ _ hH (lv_sub hl [0, 1, 2, 3, 4, 5, 6] rfl)
    exact l24 nn24 0 a_tape v_taped en24 _ _ _ hH (lv_sub hl [1, 2, 3, 4, 5, 6, 0] rfl)
  · have hF := itn c_50 hF
    refine lv_bipush (v := (-5)) hx hb dX8_feed_18 syb_m5 ?_
    obtain ⟨rfl, rfl, rfl⟩ := re3 hF
    exact hret _ _ _ _ hH dX8_feed_20
abbrev rm_X8_isDigit : Room := { frames := 0, cells := 0, slots := 0, locals := 0 }
set_option maxHeartbeats 4000000 in
theorem met_X8_isDigit {l : Launch} {D : va_G} {ad : Nat → Nat} {cA : Nat → ClassId} {a_all : Nat → Int32} {a_hasImage : Nat → Int32} {a_tape : Nat → Int32} {a_fresh : Nat → Int32} {v_taped : Int32} {v_at : Int32} {v_behind : Int32} {v_size : Int32} {v_kind : Int32} {v_number : Int32} {v_wrong : Int32} {v_wrongAt : Int32} {v_depth : Int32} {v_steps : Int32} {v_faultKind : Int32} {v_faultPlace : Int32} {a_on : Nat → Int32} {a_many : Nat → Int32} {v_moved : Int32} {a_pile : Nat → Int32} {v_aside : Int32} {v_judgedBy : Int32} {v_judgedYear : Int32} {a_leastCost : Nat → Int32} {a_matched : Nat → Int32} {a_order : Nat → Int32} {a_lies : Nat → Int64} {a_movedThen : Nat → Int32} {a_yearTable : Nat → Int32} {a_yearMark : Nat → Int32} {a_beginTable : Nat → Int32} {a_beginMark : Nat → Int32} {v_statesTold : Int32} {v_found : Int32} {v_yearFrom : Int32} {v_mark : Int32} {v_beginsMark : Int32} {v_begins : Int32} {a_began : Nat → Int64} {v_isSpent : Int32} {a_wants : Nat → Int32} {a_rowSort : Nat → Int32} {a_rowMany : Nat → Int32} {a_numbers : Nat → Int64}  {p0 : Int32} {res : Bool} {ak av fo : Nat} {E : EvT} (hE : EvM E ak av fo) (hF : FX8_isDigit p0 = some res) : MM l yX8_isDigit (ws_ yX8_isDigit cX8_isDigit 1 (Option.some Jvm.ClassFile.FieldType.boolean)) rm_X8_isDigit D vwA (mT cA) E [.int p0] (mW ad cA a_all a_hasImage a_tape a_fresh v_taped v_at v_behind v_size v_kind v_number v_wrong v_wrongAt v_depth v_steps v_faultKind v_faultPlace a_on a_many v_moved a_pile v_aside v_judgedBy v_judgedYear a_leastCost a_matched a_order a_lies a_movedThen a_yearTable a_yearMark a_beginTable a_beginMark v_statesTold v_found v_yearFrom v_mark v_beginsMark v_begins a_began v_isSpent a_wants a_rowSort a_rowMany a_numbers) (mW ad cA a_all a_hasImage a_tape a_fresh v_taped v_at v_behind v_size v_kind v_number v_wrong v_wrongAt v_depth v_steps v_faultKind v_faultPlace a_on a_many v_moved a_pile v_aside v_judgedBy v_judgedYear a_leastCost a_matched a_order a_lies a_movedThen a_yearTable a_yearMark a_beginTable a_beginMark v_statesTold v_found v_yearFrom v_mark v_beginsMark v_begins a_began v_isSpent a_wants a_rowSort a_rowMany a_numbers) (some (.int (b2i res))) := by
  refine MM.ofZ (by decide) (Nat.le_of_ble_eq_true rfl) ?_
  intro p e s m args below meth c Q A hX hK hE0 hret H locs ls hH hl
  have hX : CallFix p m c cX8_isDigit 1 s args lw_all RX8 := hX
  have hx := hX.1
  have hb := hX.2.1
  have hown := hX.2.2.2.1
  have hts := hX.2.2.2.2
  have hl : lv_has ls 1 [(0, .int p0)] := hl
  have hEv := hE.1
  delta FX8_isDigit at hF
  refine lv_iload_n hx hb dX8_isDigit_0 rfl (lv_at hl 0 rfl) ?_
  refine lv_bipush (v := 48) hx hb dX8_isDigit_1 syb_48 ?_
  refine lv_icmp_lt (tgt := 16) hx hb dX8_isDigit_3 rfl (fun c_46 => ?_) (fun c_46 => ?_)
  · have hF := itp c_46 hF
    refine lv_iconst (v := 0) hx hb dX8_isDigit_16 syi_0 ?_
    obtain rfl := Option.some.inj hF
    exact hret _ _ _ _ hH dX8_isDigit_17
  · have hF := itn c_46 hF
    refine lv_iload_n hx hb dX8_isDigit_6 rfl (lv_at hl 0 rfl) ?_
    refine lv_bipush (v := 57) hx hb dX8_isDigit_7 syb_57 ?_
    refine lv_icmp_gt (tgt := 16) hx hb dX8_isDigit_9 rfl (fun c_47 => ?_) (fun c_47 => ?_)
    · have hF := itp c_47 hF
      refine lv_iconst (v := 0) hx hb dX8_isDigit_16 syi_0 ?_
      obtain rfl := Option.some.inj hF
      exact hret _ _ _ _ hH dX8_isDigit_17
    · have hF := itn c_47 hF
      refine lv_iconst (v := 1) hx hb dX8_isDigit_12 syi_1 ?_
      refine lv_goto (tgt := 17) hx hb dX8_isDigit_13 rfl ?_
      obtain rfl := Option.some.inj hF
      exact hret _ _ _ _ hH dX8_isDigit_17
abbrev rm_X8_isSmall : Room := { frames := 0, cells := 0, slots := 0, locals := 0 }
set_option maxHeartbeats 4000000 in
theorem met_X8_isSmall {l : Launch} {D : va_G} {ad : Nat → Nat} {cA : Nat → ClassId} {a_all : Nat → Int32} {a_hasImage : Nat → Int32} {a_tape : Nat → Int32} {a_fresh : Nat → Int32} {v_taped : Int32} {v_at : Int32} {v_behind : Int32} {v_size : Int32} {v_kind : Int32} {v_number : Int32} {v_wrong : Int32} {v_wrongAt : Int32} {v_depth : Int32} {v_steps : Int32} {v_faultKind : Int32} {v_faultPlace : Int32} {a_on : Nat → Int32} {a_many : Nat → Int32} {v_moved : Int32} {a_pile : Nat → Int32} {v_aside : Int32} {v_judgedBy : Int32} {v_judgedYear : Int32} {a_leastCost : Nat → Int32} {a_matched : Nat → Int32} {a_order : Nat → Int32} {a_lies : Nat → Int64} {a_movedThen : Nat → Int32} {a_yearTable : Nat → Int32} {a_yearMark : Nat → Int32} {a_beginTable : Nat → Int32} {a_beginMark : Nat → Int32} {v_statesTold : Int32} {v_found : Int32} {v_yearFrom : Int32} {v_mark : Int32} {v_beginsMark : Int32} {v_begins : Int32} {a_began : Nat → Int64} {v_isSpent : Int32} {a_wants : Nat → Int32} {a_rowSort : Nat → Int32} {a_rowMany : Nat → Int32} {a_numbers : Nat → Int64}  {p0 : Int32} {res : Bool} {ak av fo : Nat} {E : EvT} (hE : EvM E ak av fo) (hF : FX8_isSmall p0 = some res) : MM l yX8_isSmall (ws_ yX8_isSmall cX8_isSmall 1 (Option.some Jvm.ClassFile.FieldType.boolean)) rm_X8_isSmall D vwA (mT cA) E [.int p0] (mW ad cA a_all a_hasImage a_tape a_fresh v_taped v_at v_behind v_size v_kind v_number v_wrong v_wrongAt v_depth v_steps v_faultKind v_faultPlace a_on a_many v_moved a_pile v_aside v_judgedBy v_judgedYear a_leastCost a_matched a_order a_lies a_movedThen a_yearTable a_yearMark a_beginTable a_beginMark v_statesTold v_found v_yearFrom v_mark v_beginsMark v_begins a_began v_isSpent a_wants a_rowSort a_rowMany a_numbers) (mW ad cA a_all a_hasImage a_tape a_fresh v_taped v_at v_behind v_size v_kind v_number v_wrong v_wrongAt v_depth v_steps v_faultKind v_faultPlace a_on a_many v_moved a_pile v_aside v_judgedBy v_judgedYear a_leastCost a_matched a_order a_lies a_movedThen a_yearTable a_yearMark a_beginTable a_beginMark v_statesTold v_found v_yearFrom v_mark v_beginsMark v_begins a_began v_isSpent a_wants a_rowSort a_rowMany a_numbers) (some (.int (b2i res))) := by
  refine MM.ofZ (by decide) (Nat.le_of_ble_eq_true rfl) ?_
  intro p e s m args below meth c Q A hX hK hE0 hret H locs ls hH hl
  have hX : CallFix p m c cX8_isSmall 1 s args lw_all RX8 := hX
  have hx := hX.1
  have hb := hX.2.1
  have hown := hX.2.2.2.1
  have hts := hX.2.2.2.2
  have hl : lv_has ls 1 [(0, .int p0)] := hl
  have hEv := hE.1
  delta FX8_isSmall at hF
  refine lv_iload_n hx hb dX8_isSmall_0 rfl (lv_at hl 0 rfl) ?_
  refine lv_bipush (v := 97) hx hb dX8_isSmall_1 syb_97 ?_
  refine lv_icmp_lt (tgt := 16) hx hb dX8_isSmall_3 rfl (fun c_46 => ?_) (fun c_46 => ?_)
  · have hF := itp c_46 hF
    refine lv_iconst (v := 0) hx hb dX8_isSmall_16 syi_0 ?_
    obtain rfl := Option.some.inj hF
    exact hret _ _ _ _ hH dX8_isSmall_17
  · have hF := itn c_46 hF
    refine lv_iload_n hx hb dX8_isSmall_6 rfl (lv_at hl 0 rfl) ?_
    refine lv_bipush (v := 122) hx hb dX8_isSmall_7 syb_122 ?_
    refine lv_icmp_gt (tgt := 16) hx hb dX8_isSmall_9 rfl (fun c_47 => ?_) (fun c_47 => ?_)
    · have hF := itp c_47 hF
      refine lv_iconst (v := 0) hx hb dX8_isSmall_16 syi_0 ?_
      obtain rfl := Option.some.inj hF
      exact hret _ _ _ _ hH dX8_isSmall_17
    · have hF := itn c_47 hF
      refine lv_iconst (v := 1) hx hb dX8_isSmall_12 syi_1 ?_
      refine lv_goto (tgt := 17) hx hb dX8_isSmall_13 rfl ?_
      obtain rfl := Option.some.inj hF
      exact hret _ _ _ _ hH dX8_isSmall_17
abbrev rm_X8_keyAt : Room := { frames := 4, cells := 0, slots := 0, locals := 85 }
set_option maxHeartbeats 4000000 in
theorem met_X8_keyAt {l : Launch} {D : va_G} {ad : Nat → Nat} {cA : Nat → ClassId} {a_all : Nat → Int32} {a_hasImage : Nat → Int32} {a_tape : Nat → Int32} {a_fresh : Nat → Int32} {v_taped : Int32} {v_at : Int32} {v_behind : Int32} {v_size : Int32} {v_kind : Int32} {v_number : Int32} {v_wrong : Int32} {v_wrongAt : Int32} {v_depth : Int32} {v_steps : Int32} {v_faultKind : Int32} {v_faultPlace : Int32} {a_on : Nat → Int32} {a_many : Nat → Int32} {v_moved : Int32} {a_pile : Nat → Int32} {v_aside : Int32} {v_judgedBy : Int32} {v_judgedYear : Int32} {a_leastCost : Nat → Int32} {a_matched : Nat → Int32} {a_order : Nat → Int32} {a_lies : Nat → Int64} {a_movedThen : Nat → Int32} {a_yearTable : Nat → Int32} {a_yearMark : Nat → Int32} {a_beginTable : Nat → Int32} {a_beginMark : Nat → Int32} {v_statesTold : Int32} {v_found : Int32} {v_yearFrom : Int32} {v_mark : Int32} {v_beginsMark : Int32} {v_begins : Int32} {a_began : Nat → Int64} {v_isSpent : Int32} {a_wants : Nat → Int32} {a_rowSort : Nat → Int32} {a_rowMany : Nat → Int32} {a_numbers : Nat → Int64}   {res : Int32} {ak av fo : Nat} {E : EvT} (hE : EvM E ak av fo) (hF : FX8_keyAt a_tape v_at v_behind = some res) : MM l yX8_keyAt (ws_ yX8_keyAt cX8_keyAt 4 (Option.some Jvm.ClassFile.FieldType.int)) rm_X8_keyAt D vwA (mT cA) E [.ref (ad 0)] (mW ad cA a_all a_hasImage a_tape a_fresh v_taped v_at v_behind v_size v_kind v_number v_wrong v_wrongAt v_depth v_steps v_faultKind v_faultPlace a_on a_many v_moved a_pile v_aside v_judgedBy v_judgedYear a_leastCost a_matched a_order a_lies a_movedThen a_yearTable a_yearMark a_beginTable a_beginMark v_statesTold v_found v_yearFrom v_mark v_beginsMark v_begins a_began v_isSpent a_wants a_rowSort a_rowMany a_numbers) (mW ad cA a_all a_hasImage a_tape a_fresh v_taped v_at v_behind v_size v_kind v_number v_wrong v_wrongAt v_depth v_steps v_faultKind v_faultPlace a_on a_many v_moved a_pile v_aside v_judgedBy v_judgedYear a_leastCost a_matched a_order a_lies a_movedThen a_yearTable a_yearMark a_beginTable a_beginMark v_statesTold v_found v_yearFrom v_mark v_beginsMark v_begins a_began v_isSpent a_wants a_rowSort a_rowMany a_numbers) (some (.int res)) := by
  refine MM.ofI (by decide) (Nat.le_of_ble_eq_true rfl) ?_
  intro p e s m args below meth c Q A hX hK hE0 hret H locs ls hH hl
  have hX : CallFix p m c cX8_keyAt 4 s args lw_all RX8 := hX
  have hx := hX.1
  have hb := hX.2.1
  have hown := hX.2.2.2.1
  have hts := hX.2.2.2.2
  have hl : lv_has ls 4 [(0, .ref (ad 0))] := hl
  have hEv := hE.1
  delta FX8_keyAt at hF
  refine lv_iconst (v := 0) hx hb dX8_keyAt_0 syi_0 ?_
  refine lv_istore_n (lv' := [(1, .int 0), (0, .ref (ad 0))]) hx hb dX8_keyAt_1 rfl hl (by decide) rfl (fun ls hl => ?_)
  refine lv_iconst (v := 1) hx hb dX8_keyAt_2 syi_1 ?_
  refine lv_istore_n (lv' := [(2, .int 1), (1, .int 0), (0, .ref (ad 0))]) hx hb dX8_keyAt_3 rfl hl (by decide) rfl (fun ls hl => ?_)
  obtain ⟨xx4, ee4, kk4_0, kk4_1⟩ := bdS2e hF
  have k4_0 : ∀ (x_97 : Int32), xx4 = (.inl x_97) → ∀ (H : Heap) (locs : List Loc) (ls : Array Slot), MH D vwA A s.heap (mW ad cA a_all a_hasImage a_tape a_fresh v_taped v_at v_behind v_size v_kind v_number v_wrong v_wrongAt v_depth v_steps v_faultKind v_faultPlace a_on a_many v_moved a_pile v_aside v_judgedBy v_judgedYear a_leastCost a_matched a_order a_lies a_movedThen a_yearTable a_yearMark a_beginTable a_beginMark v_statesTold v_found v_yearFrom v_mark v_beginsMark v_begins a_began v_isSpent a_wants a_rowSort a_rowMany a_numbers) H locs → lv_has ls 4 [(1, .int x_97)] → W p l e rm_X8_keyAt s m args below meth c H locs 0 0 Q (F0 m 95 ls []) := by
    intro x_97 hxx H locs ls hH hl
    have hF := un1e (kk4_0 x_97 hxx)
    refine lv_iload_n hx hb dX8_keyAt_95 rfl (lv_at hl 0 rfl) ?_
    obtain rfl := Option.some.inj hF
    exact hret _ _ _ _ hH dX8_keyAt_96
  have k4_1 : xx4 = (.inr ()) → ∀ (H : Heap) (locs : List Loc) (ls : Array Slot), MH D vwA A s.heap (mW ad cA a_all a_hasImage a_tape a_fresh v_taped v_at v_behind v_size v_kind v_number v_wrong v_wrongAt v_depth v_steps v_faultKind v_faultPlace a_on a_many v_moved a_pile v_aside v_judgedBy v_judgedYear a_leastCost a_matched a_order a_lies a_movedThen a_yearTable a_yearMark a_beginTable a_beginMark v_statesTold v_found v_yearFrom v_mark v_beginsMark v_begins a_began v_isSpent a_wants a_rowSort a_rowMany a_numbers) H locs → lv_has ls 4 [] → W p l e rm_X8_keyAt s m args below meth c H locs 0 0 Q (F0 m 123 ls []) := by
    intro hxx H locs ls hH hl
    have hF := un0e (kk4_1 () hxx)
    refine lv_bipush (v := 24) hx hb dX8_keyAt_123 syb_24 ?_
    obtain rfl := Option.some.inj hF
    exact hret _ _ _ _ hH dX8_keyAt_125
  obtain ⟨nn4, en4⟩ := loopC_some ee4
  have l4 : ∀ (n : Nat) (x_70 : Int32) (x_71 : Int32), loopN (fun s => FX8_keyAt_b4 a_tape v_at v_behind s.1 s.2) n (x_70, x_71) = some xx4 → ∀ (H : Heap) (locs : List Loc) (ls : Array Slot), MH D vwA A s.heap (mW ad cA a_all a_hasImage a_tape a_fresh v_taped v_at v_behind v_size v_kind v_number v_wrong v_wrongAt v_depth v_steps v_faultKind v_faultPlace a_on a_many v_moved a_pile v_aside v_judgedBy v_judgedYear a_leastCost a_matched a_order a_lies a_movedThen a_yearTable a_yearMark a_beginTable a_beginMark v_statesTold v_found v_yearFrom v_mark v_beginsMark v_begins a_began v_isSpent a_wants a_rowSort a_rowMany a_numbers) H locs → lv_has ls 4 [(0, .ref (ad 0)), (1, .int x_70), (2, .int x_71)] → W p l e rm_X8_keyAt s m args below meth c H locs 0 0 Q (F0 m 4 ls []) := by
    intro n
    induction n with
    | zero =>
      intro x_70 x_71 hN
      exact absurd hN loopN_zero
    | succ n ih =>
      intro x_70 x_71 hN H locs ls hH hl
      obtain ⟨yy4, hB4, hY4⟩ := loopN_succ hN
      have hF : FX8_keyAt_b4 a_tape v_at v_behind x_70 x_71 = some yy4 := hB4
      delta FX8_keyAt_b4 at hF
      refine lv_iload_n hx hb dX8_keyAt_4 rfl (lv_at hl 2 rfl) ?_
      refine va_ldcS (tx := keyT) hx hb hown (hE.2.2 _ _ _ hE0) dX8_keyAt_5 ?_
      obtain ⟨x_72, he, hF⟩ := bd1e hF
      refine mcV hX hK hEv hE0 hH (met_J5_length hE.2.1 he) (srecv (hE.2.1.2 _ _ _ hE0) hH) gw_StoneYearModel_98 hd_yJ5_length ⟨Nat.le_of_ble_eq_true rfl, Nat.le_of_ble_eq_true rfl⟩ rfl rfl hl (Nat.le_of_ble_eq_true rfl) dX8_keyAt_7 ⟨Nat.le_of_ble_eq_true rfl, Nat.le_of_ble_eq_true rfl⟩ (fun H locs hH => ?_)
      refine lv_icmp_ge (tgt := 123) hx hb dX8_keyAt_10 rfl (fun c_73 => ?_) (fun c_73 => ?_)
      · have hF := itp c_73 hF
        obtain rfl := Option.some.inj hF
        exact k4_1 hY4 _ _ _ hH (lv_sub hl [] rfl)
      · have hF := itn c_73 hF
        refine lv_iconst (v := 0) hx hb dX8_keyAt_13 syi_0 ?_
        refine lv_istore_n (lv' := [(3, .int 0), (0, .ref (ad 0)), (1, .int x_70), (2, .int x_71)]) hx hb dX8_keyAt_14 rfl hl (by decide) rfl (fun ls hl => ?_)
        obtain ⟨xx15, ee15, kk15_0⟩ := bd1L hF
        have k15_0 : ∀ (x_87 : Int32), xx15 = x_87 → ∀ (H : Heap) (locs : List Loc) (ls : Array Slot), MH D vwA A s.heap (mW ad cA a_all a_hasImage a_tape a_fresh v_taped v_at v_behind v_size v_kind v_number v_wrong v_wrongAt v_depth v_steps v_faultKind v_faultPlace a_on a_many v_moved a_pile v_aside v_judgedBy v_judgedYear a_leastCost a_matched a_order a_lies a_movedThen a_yearTable a_yearMark a_beginTable a_beginMark v_statesTold v_found v_yearFrom v_mark v_beginsMark v_begins a_began v_isSpent a_wants a_rowSort a_rowMany a_numbers) H locs → lv_has ls 4 [(0, .ref (ad 0)), (1, .int x_70), (2, .int x_71), (3, .int x_87)] → W p l e rm_X8_keyAt s m args below meth c H locs 0 0 Q (F0 m 69 ls []) := by
          intro x_87 hxx H locs ls hH hl
          have hF := un1e (kk15_0 x_87 hxx)
          refine va_ldcS (tx := keyT) hx hb hown (hE.2.2 _ _ _ hE0) dX8_keyAt_69 ?_
          refine lv_iload_n hx hb dX8_keyAt_71 rfl (lv_at hl 2 rfl) ?_
          refine lv_iload_n hx hb dX8_keyAt_72 rfl (lv_at hl 3 rfl) ?_
          refine lv_iadd hx hb dX8_keyAt_73 ?_
          obtain ⟨x_88, he, hF⟩ := bd1e hF
          refine mcV hX hK hEv hE0 hH (met_J5_charAt (nar_J5_charAt he) hE.2.1 he) (srecv (hE.2.1.2 _ _ _ hE0) hH) gw_StoneYearModel_104 hd_yJ5_charAt ⟨Nat.le_of_ble_eq_true rfl, Nat.le_of_ble_eq_true rfl⟩ rfl rfl hl (Nat.le_of_ble_eq_true rfl) dX8_keyAt_74 ⟨Nat.le_of_ble_eq_true rfl, Nat.le_of_ble_eq_true rfl⟩ (fun H locs hH => ?_)
          refine lv_bipush (v := 32) hx hb dX8_keyAt_77 syb_32 ?_
          have j97 : FX8_keyAt_j97 x_70 x_71 = some yy4 → ∀ (H : Heap) (locs : List Loc) (ls : Array Slot), MH D vwA A s.heap (mW ad cA a_all a_hasImage a_tape a_fresh v_taped v_at v_behind v_size v_kind v_number v_wrong v_wrongAt v_depth v_steps v_faultKind v_faultPlace a_on a_many v_moved a_pile v_aside v_judgedBy v_judgedYear a_leastCost a_matched a_order a_lies a_movedThen a_yearTable a_yearMark a_beginTable a_beginMark v_statesTold v_found v_yearFrom v_mark v_beginsMark v_begins a_began v_isSpent a_wants a_rowSort a_rowMany a_numbers) H locs → lv_has ls 4 [(0, .ref (ad 0)), (1, .int x_70), (2, .int x_71)] → W p l e rm_X8_keyAt s m args below meth c H locs 0 0 Q (F0 m 97 ls []) := by
            intro hF H locs ls hH hl
            delta FX8_keyAt_j97 at hF
            obtain ⟨xx97, ee97, kk97_0⟩ := bd1L hF
            have k97_0 : ∀ (x_96 : Int32), xx97 = x_96 → ∀ (H : Heap) (locs : List Loc) (ls : Array Slot), MH D vwA A s.heap (mW ad cA a_all a_hasImage a_tape a_fresh v_taped v_at v_behind v_size v_kind v_number v_wrong v_wrongAt v_depth v_steps v_faultKind v_faultPlace a_on a_many v_moved a_pile v_aside v_judgedBy v_judgedYear a_leastCost a_matched a_order a_lies a_movedThen a_yearTable a_yearMark a_beginTable a_beginMark v_statesTold v_found v_yearFrom v_mark v_beginsMark v_begins a_began v_isSpent a_wants a_rowSort a_rowMany a_numbers) H locs → lv_has ls 4 [(0, .ref (ad 0)), (1, .int x_70), (2, .int x_96)] → W p l e rm_X8_keyAt s m args below meth c H locs 0 0 Q (F0 m 114 ls []) := by
              intro x_96 hxx H locs ls hH hl
              have hF := un1e (kk97_0 x_96 hxx)
              refine lv_iinc (v := (x_96 + 1)) (lv' := [(2, .int (x_96 + 1)), (0, .ref (ad 0)), (1, .int x_70)]) hx hb dX8_keyAt_114 hl (k := 2) rfl (syc syi_1) (by decide) rfl (fun ls hl => ?_)
              refine lv_iinc (v := (x_70 + 1)) (lv' := [(1, .int (x_70 + 1)), (2, .int (x_96 + 1)), (0, .ref (ad 0))]) hx hb dX8_keyAt_117 hl (k := 2) rfl (syc syi_1) (by decide) rfl (fun ls hl => ?_)
              refine lv_goto (tgt := 4) hx hb dX8_keyAt_120 rfl ?_
              obtain rfl := Option.some.inj hF
              exact ih (x_70 + 1) (x_96 + 1) hY4 _ _ _ hH (lv_sub hl [2, 0, 1] rfl)
            obtain ⟨nn97, en97⟩ := loopC_some ee97
            have l97 : ∀ (n : Nat) (x_93 : Int32), loopN (fun s => FX8_keyAt_b97 s) n x_93 = some xx97 → ∀ (H : Heap) (locs : List Loc) (ls : Array Slot), MH D vwA A s.heap (mW ad cA a_all a_hasImage a_tape a_fresh v_taped v_at v_behind v_size v_kind v_number v_wrong v_wrongAt v_depth v_steps v_faultKind v_faultPlace a_on a_many v_moved a_pile v_aside v_judgedBy v_judgedYear a_leastCost a_matched a_order a_lies a_movedThen a_yearTable a_yearMark a_beginTable a_beginMark v_statesTold v_found v_yearFrom v_mark v_beginsMark v_begins a_began v_isSpent a_wants a_rowSort a_rowMany a_numbers) H locs → lv_has ls 4 [(0, .ref (ad 0)), (1, .int x_70), (2, .int x_93)] → W p l e rm_X8_keyAt s m args below meth c H locs 0 0 Q (F0 m 97 ls []) := by
              intro n
              induction n with
              | zero =>
                intro x_93 hN
                exact absurd hN loopN_zero
              | succ n ih =>
                intro x_93 hN H locs ls hH hl
                obtain ⟨yy97, hB97, hY97⟩ := loopN_succ hN
                have hF : FX8_keyAt_b97 x_93 = some yy97 := hB97
                delta FX8_keyAt_b97 at hF
                refine va_ldcS (tx := keyT) hx hb hown (hE.2.2 _ _ _ hE0) dX8_keyAt_97 ?_
                refine lv_iload_n hx hb dX8_keyAt_99 rfl (lv_at hl 2 rfl) ?_
                obtain ⟨x_94, he, hF⟩ := bd1e hF
                refine mcV hX hK hEv hE0 hH (met_J5_charAt (nar_J5_charAt he) hE.2.1 he) (srecv (hE.2.1.2 _ _ _ hE0) hH) gw_StoneYearModel_104 hd_yJ5_charAt ⟨Nat.le_of_ble_eq_true rfl, Nat.le_of_ble_eq_true rfl⟩ rfl rfl hl (Nat.le_of_ble_eq_true rfl) dX8_keyAt_100 ⟨Nat.le_of_ble_eq_true rfl, Nat.le_of_ble_eq_true rfl⟩ (fun H locs hH => ?_)
                refine lv_bipush (v := 32) hx hb dX8_keyAt_103 syb_32 ?_
                refine lv_icmp_eq (tgt := 114) hx hb dX8_keyAt_105 rfl (fun c_95 => ?_) (fun c_95 => ?_)
                · have hF := itp c_95 hF
                  obtain rfl := Option.some.inj hF
                  exact k97_0 x_93 hY97 _ _ _ hH (lv_sub hl [0, 1, 2] rfl)
                · have hF := itn c_95 hF
                  refine lv_iinc (v := (x_93 + 1)) (lv' := [(2, .int (x_93 + 1)), (0, .ref (ad 0)), (1, .int x_70)]) hx hb dX8_keyAt_108 hl (k := 2) rfl (syc syi_1) (by decide) rfl (fun ls hl => ?_)
                  refine lv_goto (tgt := 97) hx hb dX8_keyAt_111 rfl ?_
                  obtain rfl := Option.some.inj hF
                  exact ih (x_93 + 1) hY97 _ _ _ hH (lv_sub hl [1, 2, 0] rfl)
            exact l97 nn97 x_71 en97 _ _ _ hH (lv_sub hl [0, 1, 2] rfl)
          refine lv_icmp_ne (tgt := 97) hx hb dX8_keyAt_79 rfl (fun c_89 => ?_) (fun c_89 => ?_)
          · have hF := itn c_89 hF
            exact j97 hF _ _ _ hH (lv_sub hl [0, 1, 2] rfl)
          · have hF := itp c_89 hF
            refine lv_aload_n hx hb dX8_keyAt_82 rfl (lv_at hl 0 rfl) ?_
            refine mg_at hX hK hH dX8_keyAt_83 ?_
            refine lv_iload_n hx hb dX8_keyAt_86 rfl (lv_at hl 3 rfl) ?_
            refine lv_iadd hx hb dX8_keyAt_87 ?_
            refine lv_aload_n hx hb dX8_keyAt_88 rfl (lv_at hl 0 rfl) ?_
            refine mg_behind hX hK hH dX8_keyAt_89 ?_
            refine lv_icmp_ne (tgt := 97) hx hb dX8_keyAt_92 rfl (fun c_90 => ?_) (fun c_90 => ?_)
            · have hF := itn c_90 hF
              exact j97 hF _ _ _ hH (lv_sub hl [0, 1, 2] rfl)
            · have hF := itp c_90 hF
              obtain rfl := Option.some.inj hF
              exact k4_0 x_70 hY4 _ _ _ hH (lv_sub hl [1] rfl)
        obtain ⟨nn15, en15⟩ := loopC_some ee15
        have l15 : ∀ (n : Nat) (x_80 : Int32), loopN (fun s => FX8_keyAt_b15 a_tape v_at v_behind x_71 s) n x_80 = some xx15 → ∀ (H : Heap) (locs : List Loc) (ls : Array Slot), MH D vwA A s.heap (mW ad cA a_all a_hasImage a_tape a_fresh v_taped v_at v_behind v_size v_kind v_number v_wrong v_wrongAt v_depth v_steps v_faultKind v_faultPlace a_on a_many v_moved a_pile v_aside v_judgedBy v_judgedYear a_leastCost a_matched a_order a_lies a_movedThen a_yearTable a_yearMark a_beginTable a_beginMark v_statesTold v_found v_yearFrom v_mark v_beginsMark v_begins a_began v_isSpent a_wants a_rowSort a_rowMany a_numbers) H locs → lv_has ls 4 [(0, .ref (ad 0)), (1, .int x_70), (2, .int x_71), (3, .int x_80)] → W p l e rm_X8_keyAt s m args below meth c H locs 0 0 Q (F0 m 15 ls []) := by
          intro n
          induction n with
          | zero =>
            intro x_80 hN
            exact absurd hN loopN_zero
          | succ n ih =>
            intro x_80 hN H locs ls hH hl
            obtain ⟨yy15, hB15, hY15⟩ := loopN_succ hN
            have hF : FX8_keyAt_b15 a_tape v_at v_behind x_71 x_80 = some yy15 := hB15
            delta FX8_keyAt_b15 at hF
            refine va_ldcS (tx := keyT) hx hb hown (hE.2.2 _ _ _ hE0) dX8_keyAt_15 ?_
            refine lv_iload_n hx hb dX8_keyAt_17 rfl (lv_at hl 2 rfl) ?_
            refine lv_iload_n hx hb dX8_keyAt_18 rfl (lv_at hl 3 rfl) ?_
            refine lv_iadd hx hb dX8_keyAt_19 ?_
            obtain ⟨x_81, he, hF⟩ := bd1e hF
            refine mcV hX hK hEv hE0 hH (met_J5_charAt (nar_J5_charAt he) hE.2.1 he) (srecv (hE.2.1.2 _ _ _ hE0) hH) gw_StoneYearModel_104 hd_yJ5_charAt ⟨Nat.le_of_ble_eq_true rfl, Nat.le_of_ble_eq_true rfl⟩ rfl rfl hl (Nat.le_of_ble_eq_true rfl) dX8_keyAt_20 ⟨Nat.le_of_ble_eq_true rfl, Nat.le_of_ble_eq_true rfl⟩ (fun H locs hH => ?_)
            refine lv_bipush (v := 32) hx hb dX8_keyAt_23 syb_32 ?_
            refine lv_icmp_eq (tgt := 69) hx hb dX8_keyAt_25 rfl (fun c_82 => ?_) (fun c_82 => ?_)
            · have hF := itp c_82 hF
              obtain rfl := Option.some.inj hF
              exact k15_0 x_80 hY15 _ _ _ hH (lv_sub hl [0, 1, 2, 3] rfl)
            · have hF := itn c_82 hF
              refine lv_aload_n hx hb dX8_keyAt_28 rfl (lv_at hl 0 rfl) ?_
              refine mg_at hX hK hH dX8_keyAt_29 ?_
              refine lv_iload_n hx hb dX8_keyAt_32 rfl (lv_at hl 3 rfl) ?_
              refine lv_iadd hx hb dX8_keyAt_33 ?_
              refine lv_aload_n hx hb dX8_keyAt_34 rfl (lv_at hl 0 rfl) ?_
              refine mg_behind hX hK hH dX8_keyAt_35 ?_
              refine lv_icmp_ge (tgt := 69) hx hb dX8_keyAt_38 rfl (fun c_83 => ?_) (fun c_83 => ?_)
              · have hF := itp c_83 hF
                obtain rfl := Option.some.inj hF
                exact k15_0 x_80 hY15 _ _ _ hH (lv_sub hl [0, 1, 2, 3] rfl)
              · have hF := itn c_83 hF
                refine lv_aload_n hx hb dX8_keyAt_41 rfl (lv_at hl 0 rfl) ?_
                refine mg_tape hX hK hH dX8_keyAt_42 ?_
                refine lv_aload_n hx hb dX8_keyAt_45 rfl (lv_at hl 0 rfl) ?_
                refine mg_at hX hK hH dX8_keyAt_46 ?_
                refine lv_iload_n hx hb dX8_keyAt_49 rfl (lv_at hl 3 rfl) ?_
                refine lv_iadd hx hb dX8_keyAt_50 ?_
                obtain ⟨x_84, he, hF⟩ := bd1e hF
                refine ml_tape hX hK hH he dX8_keyAt_51 ?_
                refine va_ldcS (tx := keyT) hx hb hown (hE.2.2 _ _ _ hE0) dX8_keyAt_52 ?_
                refine lv_iload_n hx hb dX8_keyAt_54 rfl (lv_at hl 2 rfl) ?_
                refine lv_iload_n hx hb dX8_keyAt_55 rfl (lv_at hl 3 rfl) ?_
                refine lv_iadd hx hb dX8_keyAt_56 ?_
                obtain ⟨x_85, he, hF⟩ := bd1e hF
                refine mcV hX hK hEv hE0 hH (met_J5_charAt (nar_J5_charAt he) hE.2.1 he) (srecv (hE.2.1.2 _ _ _ hE0) hH) gw_StoneYearModel_104 hd_yJ5_charAt ⟨Nat.le_of_ble_eq_true rfl, Nat.le_of_ble_eq_true rfl⟩ rfl rfl hl (Nat.le_of_ble_eq_true rfl) dX8_keyAt_57 ⟨Nat.le_of_ble_eq_true rfl, Nat.le_of_ble_eq_true rfl⟩ (fun H locs hH => ?_)
                refine lv_icmp_ne (tgt := 69) hx hb dX8_keyAt_60 rfl (fun c_86 => ?_) (fun c_86 => ?_)
                · have hF := itn c_86 hF
                  obtain rfl := Option.some.inj hF
                  exact k15_0 x_80 hY15 _ _ _ hH (lv_sub hl [0, 1, 2, 3] rfl)
                · have hF := itp c_86 hF
                  refine lv_iinc (v := (x_80 + 1)) (lv' := [(3, .int (x_80 + 1)), (0, .ref (ad 0)), (1, .int x_70), (2, .int x_71)]) hx hb dX8_keyAt_63 hl (k := 3) rfl (syc syi_1) (by decide) rfl (fun ls hl => ?_)
                  refine lv_goto (tgt := 15) hx hb dX8_keyAt_66 rfl ?_
                  obtain rfl := Option.some.inj hF
                  exact ih (x_80 + 1) hY15 _ _ _ hH (lv_sub hl [1, 2, 3, 0] rfl)
        exact l15 nn15 0 en15 _ _ _ hH (lv_sub hl [1, 2, 3, 0] rfl)
  exact l4 nn4 0 1 en4 _ _ _ hH (lv_sub hl [2, 1, 0] rfl)
abbrev rm_X8_see : Room := { frames := 0, cells := 0, slots := 0, locals := 0 }
set_option maxHeartbeats 4000000 in
theorem met_X8_see {l : Launch} {D : va_G} {ad : Nat → Nat} {cA : Nat → ClassId} {a_all : Nat → Int32} {a_hasImage : Nat → Int32} {a_tape : Nat → Int32} {a_fresh : Nat → Int32} {v_taped : Int32} {v_at : Int32} {v_behind : Int32} {v_size : Int32} {v_kind : Int32} {v_number : Int32} {v_wrong : Int32} {v_wrongAt : Int32} {v_depth : Int32} {v_steps : Int32} {v_faultKind : Int32} {v_faultPlace : Int32} {a_on : Nat → Int32} {a_many : Nat → Int32} {v_moved : Int32} {a_pile : Nat → Int32} {v_aside : Int32} {v_judgedBy : Int32} {v_judgedYear : Int32} {a_leastCost : Nat → Int32} {a_matched : Nat → Int32} {a_order : Nat → Int32} {a_lies : Nat → Int64} {a_movedThen : Nat → Int32} {a_yearTable : Nat → Int32} {a_yearMark : Nat → Int32} {a_beginTable : Nat → Int32} {a_beginMark : Nat → Int32} {v_statesTold : Int32} {v_found : Int32} {v_yearFrom : Int32} {v_mark : Int32} {v_beginsMark : Int32} {v_begins : Int32} {a_began : Nat → Int64} {v_isSpent : Int32} {a_wants : Nat → Int32} {a_rowSort : Nat → Int32} {a_rowMany : Nat → Int32} {a_numbers : Nat → Int64}  {p1 : Int32} {res : Int32} {ak av fo : Nat} {E : EvT} (hE : EvM E ak av fo) (hF : FX8_see a_tape v_size p1 = some res) : MM l yX8_see (ws_ yX8_see cX8_see 2 (Option.some Jvm.ClassFile.FieldType.int)) rm_X8_see D vwA (mT cA) E [.ref (ad 0), .int p1] (mW ad cA a_all a_hasImage a_tape a_fresh v_taped v_at v_behind v_size v_kind v_number v_wrong v_wrongAt v_depth v_steps v_faultKind v_faultPlace a_on a_many v_moved a_pile v_aside v_judgedBy v_judgedYear a_leastCost a_matched a_order a_lies a_movedThen a_yearTable a_yearMark a_beginTable a_beginMark v_statesTold v_found v_yearFrom v_mark v_beginsMark v_begins a_began v_isSpent a_wants a_rowSort a_rowMany a_numbers) (mW ad cA a_all a_hasImage a_tape a_fresh v_taped v_at v_behind v_size v_kind v_number v_wrong v_wrongAt v_depth v_steps v_faultKind v_faultPlace a_on a_many v_moved a_pile v_aside v_judgedBy v_judgedYear a_leastCost a_matched a_order a_lies a_movedThen a_yearTable a_yearMark a_beginTable a_beginMark v_statesTold v_found v_yearFrom v_mark v_beginsMark v_begins a_began v_isSpent a_wants a_rowSort a_rowMany a_numbers) (some (.int res)) := by
  refine MM.ofI (by decide) (Nat.le_of_ble_eq_true rfl) ?_
  intro p e s m args below meth c Q A hX hK hE0 hret H locs ls hH hl
  have hX : CallFix p m c cX8_see 2 s args lw_all RX8 := hX
  have hx := hX.1
  have hb := hX.2.1
  have hown := hX.2.2.2.1
  have hts := hX.2.2.2.2
  have hl : lv_has ls 2 [(0, .ref (ad 0)), (1, .int p1)] := hl
  have hEv := hE.1
  delta FX8_see at hF
  refine lv_iload_n hx hb dX8_see_0 rfl (lv_at hl 1 rfl) ?_
  refine lv_aload_n hx hb dX8_see_1 rfl (lv_at hl 0 rfl) ?_
  refine mg_size hX hK hH dX8_see_2 ?_
  refine lv_icmp_ge (tgt := 17) hx hb dX8_see_5 rfl (fun c_46 => ?_) (fun c_46 => ?_)
  · have hF := itp c_46 hF
    refine lv_iconst (v := (-1)) hx hb dX8_see_17 syi_m1 ?_
    obtain rfl := Option.some.inj hF
    exact hret _ _ _ _ hH dX8_see_18
  · have hF := itn c_46 hF
    refine lv_aload_n hx hb dX8_see_8 rfl (lv_at hl 0 rfl) ?_
    refine mg_tape hX hK hH dX8_see_9 ?_
    refine lv_iload_n hx hb dX8_see_12 rfl (lv_at hl 1 rfl) ?_
    obtain ⟨x_47, he, hF⟩ := bd1e hF
    refine ml_tape hX hK hH he dX8_see_13 ?_
    refine lv_goto (tgt := 18) hx hb dX8_see_14 rfl ?_
    obtain rfl := Option.some.inj hF
    exact hret _ _ _ _ hH dX8_see_18
abbrev rm_X8_next : Room := { frames := 5, cells := 0, slots := 0, locals := 108 }
set_option maxHeartbeats 4000000 in
theorem met_X8_next {l : Launch} {D : va_G} {ad : Nat → Nat} {cA : Nat → ClassId} {a_all : Nat → Int32} {a_hasImage : Nat → Int32} {a_tape : Nat → Int32} {a_fresh : Nat → Int32} {v_taped : Int32} {v_at : Int32} {v_behind : Int32} {v_size : Int32} {v_kind : Int32} {v_number : Int32} {v_wrong : Int32} {v_wrongAt : Int32} {v_depth : Int32} {v_steps : Int32} {v_faultKind : Int32} {v_faultPlace : Int32} {a_on : Nat → Int32} {a_many : Nat → Int32} {v_moved : Int32} {a_pile : Nat → Int32} {v_aside : Int32} {v_judgedBy : Int32} {v_judgedYear : Int32} {a_leastCost : Nat → Int32} {a_matched : Nat → Int32} {a_order : Nat → Int32} {a_lies : Nat → Int64} {a_movedThen : Nat → Int32} {a_yearTable : Nat → Int32} {a_yearMark : Nat → Int32} {a_beginTable : Nat → Int32} {a_beginMark : Nat → Int32} {v_statesTold : Int32} {v_found : Int32} {v_yearFrom : Int32} {v_mark : Int32} {v_beginsMark : Int32} {v_begins : Int32} {a_began : Nat → Int64} {v_isSpent : Int32} {a_wants : Nat → Int32} {a_rowSort : Nat → Int32} {a_rowMany : Nat → Int32} {a_numbers : Nat → Int64}   {rv_at : Int32} {rv_behind : Int32} {rv_kind : Int32} {rv_number : Int32} {ak av fo : Nat} {E : EvT} (hE : EvM E ak av fo) (hF : FX8_next a_tape v_behind v_size v_number = some (rv_at, rv_behind, rv_kind, rv_number)) : MM l yX8_next (ws_ yX8_next cX8_next 1 (Option.none : Option Jvm.ClassFile.FieldType)) rm_X8_next D vwA (mT cA) E [.ref (ad 0)] (mW ad cA a_all a_hasImage a_tape a_fresh v_taped v_at v_behind v_size v_kind v_number v_wrong v_wrongAt v_depth v_steps v_faultKind v_faultPlace a_on a_many v_moved a_pile v_aside v_judgedBy v_judgedYear a_leastCost a_matched a_order a_lies a_movedThen a_yearTable a_yearMark a_beginTable a_beginMark v_statesTold v_found v_yearFrom v_mark v_beginsMark v_begins a_began v_isSpent a_wants a_rowSort a_rowMany a_numbers) (mW ad cA a_all a_hasImage a_tape a_fresh v_taped rv_at rv_behind v_size rv_kind rv_number v_wrong v_wrongAt v_depth v_steps v_faultKind v_faultPlace a_on a_many v_moved a_pile v_aside v_judgedBy v_judgedYear a_leastCost a_matched a_order a_lies a_movedThen a_yearTable a_yearMark a_beginTable a_beginMark v_statesTold v_found v_yearFrom v_mark v_beginsMark v_begins a_began v_isSpent a_wants a_rowSort a_rowMany a_numbers) none := by
  refine MM.ofV (by decide) (Nat.le_of_ble_eq_true rfl) ?_
  intro p e s m args below meth c Q A hX hK hE0 hret H locs ls hH hl
  have hX : CallFix p m c cX8_next 1 s args lw_all RX8 := hX
  have hx := hX.1
  have hb := hX.2.1
  have hown := hX.2.2.2.1
  have hts := hX.2.2.2.2
  have hl : lv_has ls 1 [(0, .ref (ad 0))] := hl
  have hEv := hE.1
  delta FX8_next at hF
  refine lv_aload_n hx hb dX8_next_0 rfl (lv_at hl 0 rfl) ?_
  refine lv_aload_n hx hb dX8_next_1 rfl (lv_at hl 0 rfl) ?_
  refine mg_behind hX hK hH dX8_next_2 ?_
  refine mp_at hX hK hH dX8_next_5 (fun H locs hH => ?_)
  obtain ⟨xx8, ee8, kk8_0⟩ := bd1L hF
  have k8_0 : ∀ (v_at_54 : Int32), xx8 = v_at_54 → ∀ (H : Heap) (locs : List Loc) (ls : Array Slot), MH D vwA A s.heap (mW ad cA a_all a_hasImage a_tape a_fresh v_taped v_at_54 v_behind v_size v_kind v_number v_wrong v_wrongAt v_depth v_steps v_faultKind v_faultPlace a_on a_many v_moved a_pile v_aside v_judgedBy v_judgedYear a_leastCost a_matched a_order a_lies a_movedThen a_yearTable a_yearMark a_beginTable a_beginMark v_statesTold v_found v_yearFrom v_mark v_beginsMark v_begins a_began v_isSpent a_wants a_rowSort a_rowMany a_numbers) H locs → lv_has ls 1 [(0, .ref (ad 0))] → W p l e rm_X8_next s m args below meth c H locs 0 0 Q (F0 m 47 ls []) := by
    intro v_at_54 hxx H locs ls hH hl
    have hF := un1e (kk8_0 v_at_54 hxx)
    refine lv_aload_n hx hb dX8_next_47 rfl (lv_at hl 0 rfl) ?_
    refine lv_aload_n hx hb dX8_next_48 rfl (lv_at hl 0 rfl) ?_
    refine mg_at hX hK hH dX8_next_49 ?_
    refine mp_behind hX hK hH dX8_next_52 (fun H locs hH => ?_)
    refine lv_aload_n hx hb dX8_next_55 rfl (lv_at hl 0 rfl) ?_
    refine mg_at hX hK hH dX8_next_56 ?_
    refine lv_aload_n hx hb dX8_next_59 rfl (lv_at hl 0 rfl) ?_
    refine mg_size hX hK hH dX8_next_60 ?_
    refine lv_icmp_lt (tgt := 75) hx hb dX8_next_63 rfl (fun c_55 => ?_) (fun c_55 => ?_)
    · have hF := itp c_55 hF
      refine lv_aload_n hx hb dX8_next_75 rfl (lv_at hl 0 rfl) ?_
      refine lv_aload_n hx hb dX8_next_76 rfl (lv_at hl 0 rfl) ?_
      refine mg_at hX hK hH dX8_next_77 ?_
      obtain ⟨x_56, he, hF⟩ := bd1e hF
      refine mcV hX hK hEv hE0 hH (met_X8_see hE he) (mrecv hK hH) gw_StoneYearModel_114 hd_yX8_see ⟨Nat.le_of_ble_eq_true rfl, Nat.le_of_ble_eq_true rfl⟩ rfl rfl hl (Nat.le_of_ble_eq_true rfl) dX8_next_80 ⟨Nat.le_of_ble_eq_true rfl, Nat.le_of_ble_eq_true rfl⟩ (fun H locs hH => ?_)
      obtain ⟨b_57, he, hF⟩ := bd1e hF
      refine mcS hX hK hEv hE0 hH (met_X8_isSmall hE he) gw_StoneYearModel_121 hd_yX8_isSmall ⟨Nat.le_of_ble_eq_true rfl, Nat.le_of_ble_eq_true rfl⟩ rfl rfl hl (Nat.le_of_ble_eq_true rfl) dX8_next_83 ⟨Nat.le_of_ble_eq_true rfl, Nat.le_of_ble_eq_true rfl⟩ (fun H locs hH => ?_)
      refine lv_if_eq (tgt := 127) hx hb dX8_next_86 rfl (fun c_58 => ?_) (fun c_58 => ?_)
      · have hF := itp c_58 hF
        refine lv_aload_n hx hb dX8_next_127 rfl (lv_at hl 0 rfl) ?_
        refine lv_aload_n hx hb dX8_next_128 rfl (lv_at hl 0 rfl) ?_
        refine mg_at hX hK hH dX8_next_129 ?_
        obtain ⟨x_68, he, hF⟩ := bd1e hF
        refine mcV hX hK hEv hE0 hH (met_X8_see hE he) (mrecv hK hH) gw_StoneYearModel_114 hd_yX8_see ⟨Nat.le_of_ble_eq_true rfl, Nat.le_of_ble_eq_true rfl⟩ rfl rfl hl (Nat.le_of_ble_eq_true rfl) dX8_next_132 ⟨Nat.le_of_ble_eq_true rfl, Nat.le_of_ble_eq_true rfl⟩ (fun H locs hH => ?_)
        obtain ⟨b_69, he, hF⟩ := bd1e hF
        refine mcS hX hK hEv hE0 hH (met_X8_isDigit hE he) gw_StoneYearModel_128 hd_yX8_isDigit ⟨Nat.le_of_ble_eq_true rfl, Nat.le_of_ble_eq_true rfl⟩ rfl rfl hl (Nat.le_of_ble_eq_true rfl) dX8_next_135 ⟨Nat.le_of_ble_eq_true rfl, Nat.le_of_ble_eq_true rfl⟩ (fun H locs hH => ?_)
        refine lv_if_eq (tgt := 236) hx hb dX8_next_138 rfl (fun c_70 => ?_) (fun c_70 => ?_)
        · have hF := itp c_70 hF
          refine lv_aload_n hx hb dX8_next_236 rfl (lv_at hl 0 rfl) ?_
          refine lv_dup hx hb dX8_next_237 rfl ?_
          refine mg_behind hX hK hH dX8_next_238 ?_
          refine lv_iconst (v := 1) hx hb dX8_next_241 syi_1 ?_
          refine lv_iadd hx hb dX8_next_242 ?_
          refine mp_behind hX hK hH dX8_next_243 (fun H locs hH => ?_)
          refine lv_aload_n hx hb dX8_next_246 rfl (lv_at hl 0 rfl) ?_
          refine lv_aload_n hx hb dX8_next_247 rfl (lv_at hl 0 rfl) ?_
          refine lv_aload_n hx hb dX8_next_248 rfl (lv_at hl 0 rfl) ?_
          refine mg_at hX hK hH dX8_next_249 ?_
          obtain ⟨x_89, he, hF⟩ := bd1e hF
          refine mcV hX hK hEv hE0 hH (met_X8_see hE he) (mrecv hK hH) gw_StoneYearModel_114 hd_yX8_see ⟨Nat.le_of_ble_eq_true rfl, Nat.le_of_ble_eq_true rfl⟩ rfl rfl hl (Nat.le_of_ble_eq_true rfl) dX8_next_252 ⟨Nat.le_of_ble_eq_true rfl, Nat.le_of_ble_eq_true rfl⟩ (fun H locs hH => ?_)
          refine lv_bipush (v := 59) hx hb dX8_next_255 syb_59 ?_
          have j303 : ∀ (x_95 : Int32), FX8_next_j303 v_number v_at_54 x_95 = some (rv_at, rv_behind, rv_kind, rv_number) → ∀ (H : Heap) (locs : List Loc) (ls : Array Slot), MH D vwA A s.heap (mW ad cA a_all a_hasImage a_tape a_fresh v_taped v_at_54 (v_at_54 + 1) v_size v_kind v_number v_wrong v_wrongAt v_depth v_steps v_faultKind v_faultPlace a_on a_many v_moved a_pile v_aside v_judgedBy v_judgedYear a_leastCost a_matched a_order a_lies a_movedThen a_yearTable a_yearMark a_beginTable a_beginMark v_statesTold v_found v_yearFrom v_mark v_beginsMark v_begins a_began v_isSpent a_wants a_rowSort a_rowMany a_numbers) H locs → lv_has ls 1 [] → W p l e rm_X8_next s m args below meth c H locs 0 0 Q (F0 m 303 ls [.int x_95, .ref (ad 0)]) := by
            intro x_95 hF H locs ls hH hl
            delta FX8_next_j303 at hF
            refine mp_kind hX hK hH dX8_next_303 (fun H locs hH => ?_)
            obtain ⟨rfl, rfl, rfl, rfl⟩ := re4 hF
            exact hret _ _ _ _ hH dX8_next_306
          refine lv_icmp_ne (tgt := 265) hx hb dX8_next_257 rfl (fun c_90 => ?_) (fun c_90 => ?_)
          · have hF := itn c_90 hF
            refine lv_aload_n hx hb dX8_next_265 rfl (lv_at hl 0 rfl) ?_
            refine lv_aload_n hx hb dX8_next_266 rfl (lv_at hl 0 rfl) ?_
            refine mg_at hX hK hH dX8_next_267 ?_
            obtain ⟨x_91, he, hF⟩ := bd1e hF
            refine mcV hX hK hEv hE0 hH (met_X8_see hE he) (mrecv hK hH) gw_StoneYearModel_114 hd_yX8_see ⟨Nat.le_of_ble_eq_true rfl, Nat.le_of_ble_eq_true rfl⟩ rfl rfl hl (Nat.le_of_ble_eq_true rfl) dX8_next_270 ⟨Nat.le_of_ble_eq_true rfl, Nat.le_of_ble_eq_true rfl⟩ (fun H locs hH => ?_)
            refine lv_bipush (v := 40) hx hb dX8_next_273 syb_40 ?_
            refine lv_icmp_ne (tgt := 283) hx hb dX8_next_275 rfl (fun c_92 => ?_) (fun c_92 => ?_)
            · have hF := itn c_92 hF
              refine lv_aload_n hx hb dX8_next_283 rfl (lv_at hl 0 rfl) ?_
              refine lv_aload_n hx hb dX8_next_284 rfl (lv_at hl 0 rfl) ?_
              refine mg_at hX hK hH dX8_next_285 ?_
              obtain ⟨x_93, he, hF⟩ := bd1e hF
              refine mcV hX hK hEv hE0 hH (met_X8_see hE he) (mrecv hK hH) gw_StoneYearModel_114 hd_yX8_see ⟨Nat.le_of_ble_eq_true rfl, Nat.le_of_ble_eq_true rfl⟩ rfl rfl hl (Nat.le_of_ble_eq_true rfl) dX8_next_288 ⟨Nat.le_of_ble_eq_true rfl, Nat.le_of_ble_eq_true rfl⟩ (fun H locs hH => ?_)
              refine lv_bipush (v := 41) hx hb dX8_next_291 syb_41 ?_
              refine lv_icmp_ne (tgt := 301) hx hb dX8_next_293 rfl (fun c_94 => ?_) (fun c_94 => ?_)
              · have hF := itn c_94 hF
                refine lv_bipush (v := 30) hx hb dX8_next_301 syb_30 ?_
                exact j303 30 hF _ _ _ hH (lv_sub hl [] rfl)
              · have hF := itp c_94 hF
                refine lv_bipush (v := 28) hx hb dX8_next_296 syb_28 ?_
                refine lv_goto (tgt := 303) hx hb dX8_next_298 rfl ?_
                exact j303 28 hF _ _ _ hH (lv_sub hl [] rfl)
            · have hF := itp c_92 hF
              refine lv_bipush (v := 27) hx hb dX8_next_278 syb_27 ?_
              refine lv_goto (tgt := 303) hx hb dX8_next_280 rfl ?_
              exact j303 27 hF _ _ _ hH (lv_sub hl [] rfl)
          · have hF := itp c_90 hF
            refine lv_bipush (v := 26) hx hb dX8_next_260 syb_26 ?_
            refine lv_goto (tgt := 303) hx hb dX8_next_262 rfl ?_
            exact j303 26 hF _ _ _ hH (lv_sub hl [] rfl)
        · have hF := itn c_70 hF
          refine lv_aload_n hx hb dX8_next_141 rfl (lv_at hl 0 rfl) ?_
          refine lv_iconst (v := 0) hx hb dX8_next_142 syi_0 ?_
          refine mp_number hX hK hH dX8_next_143 (fun H locs hH => ?_)
          obtain ⟨xx146, ee146, kk146_0⟩ := bd2L hF
          have k146_0 : ∀ (v_behind_85 : Int32) (v_number_86 : Int32), xx146 = (v_behind_85, v_number_86) → ∀ (H : Heap) (locs : List Loc) (ls : Array Slot), MH D vwA A s.heap (mW ad cA a_all a_hasImage a_tape a_fresh v_taped v_at_54 v_behind_85 v_size v_kind v_number_86 v_wrong v_wrongAt v_depth v_steps v_faultKind v_faultPlace a_on a_many v_moved a_pile v_aside v_judgedBy v_judgedYear a_leastCost a_matched a_order a_lies a_movedThen a_yearTable a_yearMark a_beginTable a_beginMark v_statesTold v_found v_yearFrom v_mark v_beginsMark v_begins a_began v_isSpent a_wants a_rowSort a_rowMany a_numbers) H locs → lv_has ls 1 [(0, .ref (ad 0))] → W p l e rm_X8_next s m args below meth c H locs 0 0 Q (F0 m 209 ls []) := by
            intro v_behind_85 v_number_86 hxx H locs ls hH hl
            have hF := un2e (kk146_0 (v_behind_85, v_number_86) hxx)
            refine lv_aload_n hx hb dX8_next_209 rfl (lv_at hl 0 rfl) ?_
            refine lv_aload_n hx hb dX8_next_210 rfl (lv_at hl 0 rfl) ?_
            refine mg_behind hX hK hH dX8_next_211 ?_
            refine lv_aload_n hx hb dX8_next_214 rfl (lv_at hl 0 rfl) ?_
            refine mg_at hX hK hH dX8_next_215 ?_
            refine lv_isub hx hb dX8_next_218 ?_
            refine lv_iconst (v := 3) hx hb dX8_next_219 syi_3 ?_
            have j230 : ∀ (x_88 : Int32), FX8_next_j230 v_at_54 v_behind_85 v_number_86 x_88 = some (rv_at, rv_behind, rv_kind, rv_number) → ∀ (H : Heap) (locs : List Loc) (ls : Array Slot), MH D vwA A s.heap (mW ad cA a_all a_hasImage a_tape a_fresh v_taped v_at_54 v_behind_85 v_size v_kind v_number_86 v_wrong v_wrongAt v_depth v_steps v_faultKind v_faultPlace a_on a_many v_moved a_pile v_aside v_judgedBy v_judgedYear a_leastCost a_matched a_order a_lies a_movedThen a_yearTable a_yearMark a_beginTable a_beginMark v_statesTold v_found v_yearFrom v_mark v_beginsMark v_begins a_began v_isSpent a_wants a_rowSort a_rowMany a_numbers) H locs → lv_has ls 1 [] → W p l e rm_X8_next s m args below meth c H locs 0 0 Q (F0 m 230 ls [.int x_88, .ref (ad 0)]) := by
              intro x_88 hF H locs ls hH hl
              delta FX8_next_j230 at hF
              refine mp_kind hX hK hH dX8_next_230 (fun H locs hH => ?_)
              refine lv_goto (tgt := 306) hx hb dX8_next_233 rfl ?_
              obtain ⟨rfl, rfl, rfl, rfl⟩ := re4 hF
              exact hret _ _ _ _ hH dX8_next_306
            refine lv_icmp_le (tgt := 228) hx hb dX8_next_220 rfl (fun c_87 => ?_) (fun c_87 => ?_)
            · have hF := itp c_87 hF
              refine lv_bipush (v := 25) hx hb dX8_next_228 syb_25 ?_
              exact j230 25 hF _ _ _ hH (lv_sub hl [] rfl)
            · have hF := itn c_87 hF
              refine lv_bipush (v := 30) hx hb dX8_next_223 syb_30 ?_
              refine lv_goto (tgt := 230) hx hb dX8_next_225 rfl ?_
              exact j230 30 hF _ _ _ hH (lv_sub hl [] rfl)
          obtain ⟨nn146, en146⟩ := loopC_some ee146
          have l146 : ∀ (n : Nat) (v_behind_77 : Int32) (v_number_78 : Int32), loopN (fun s => FX8_next_b146 a_tape v_size v_at_54 s.1 s.2) n (v_behind_77, v_number_78) = some xx146 → ∀ (H : Heap) (locs : List Loc) (ls : Array Slot), MH D vwA A s.heap (mW ad cA a_all a_hasImage a_tape a_fresh v_taped v_at_54 v_behind_77 v_size v_kind v_number_78 v_wrong v_wrongAt v_depth v_steps v_faultKind v_faultPlace a_on a_many v_moved a_pile v_aside v_judgedBy v_judgedYear a_leastCost a_matched a_order a_lies a_movedThen a_yearTable a_yearMark a_beginTable a_beginMark v_statesTold v_found v_yearFrom v_mark v_beginsMark v_begins a_began v_isSpent a_wants a_rowSort a_rowMany a_numbers) H locs → lv_has ls 1 [(0, .ref (ad 0))] → W p l e rm_X8_next s m args below meth c H locs 0 0 Q (F0 m 146 ls []) := by
            intro n
            induction n with
            | zero =>
              intro v_behind_77 v_number_78 hN
              exact absurd hN loopN_zero
            | succ n ih =>
              intro v_behind_77 v_number_78 hN H locs ls hH hl
              obtain ⟨yy146, hB146, hY146⟩ := loopN_succ hN
              have hF : FX8_next_b146 a_tape v_size v_at_54 v_behind_77 v_number_78 = some yy146 := hB146
              delta FX8_next_b146 at hF
              refine lv_aload_n hx hb dX8_next_146 rfl (lv_at hl 0 rfl) ?_
              refine lv_aload_n hx hb dX8_next_147 rfl (lv_at hl 0 rfl) ?_
              refine mg_behind hX hK hH dX8_next_148 ?_
              obtain ⟨x_79, he, hF⟩ := bd1e hF
              refine mcV hX hK hEv hE0 hH (met_X8_see hE he) (mrecv hK hH) gw_StoneYearModel_114 hd_yX8_see ⟨Nat.le_of_ble_eq_true rfl, Nat.le_of_ble_eq_true rfl⟩ rfl rfl hl (Nat.le_of_ble_eq_true rfl) dX8_next_151 ⟨Nat.le_of_ble_eq_true rfl, Nat.le_of_ble_eq_true rfl⟩ (fun H locs hH => ?_)
              obtain ⟨b_80, he, hF⟩ := bd1e hF
              refine mcS hX hK hEv hE0 hH (met_X8_isDigit hE he) gw_StoneYearModel_128 hd_yX8_isDigit ⟨Nat.le_of_ble_eq_true rfl, Nat.le_of_ble_eq_true rfl⟩ rfl rfl hl (Nat.le_of_ble_eq_true rfl) dX8_next_154 ⟨Nat.le_of_ble_eq_true rfl, Nat.le_of_ble_eq_true rfl⟩ (fun H locs hH => ?_)
              refine lv_if_eq (tgt := 209) hx hb dX8_next_157 rfl (fun c_81 => ?_) (fun c_81 => ?_)
              · have hF := itp c_81 hF
                obtain rfl := Option.some.inj hF
                exact k146_0 v_behind_77 v_number_78 hY146 _ _ _ hH (lv_sub hl [0] rfl)
              · have hF := itn c_81 hF
                refine lv_aload_n hx hb dX8_next_160 rfl (lv_at hl 0 rfl) ?_
                refine mg_behind hX hK hH dX8_next_161 ?_
                refine lv_aload_n hx hb dX8_next_164 rfl (lv_at hl 0 rfl) ?_
                refine mg_at hX hK hH dX8_next_165 ?_
                refine lv_isub hx hb dX8_next_168 ?_
                refine lv_iconst (v := 3) hx hb dX8_next_169 syi_3 ?_
                have j196 : ∀ (v_number_84 : Int32), FX8_next_j196 v_behind_77 v_number_84 = some yy146 → ∀ (H : Heap) (locs : List Loc) (ls : Array Slot), MH D vwA A s.heap (mW ad cA a_all a_hasImage a_tape a_fresh v_taped v_at_54 v_behind_77 v_size v_kind v_number_84 v_wrong v_wrongAt v_depth v_steps v_faultKind v_faultPlace a_on a_many v_moved a_pile v_aside v_judgedBy v_judgedYear a_leastCost a_matched a_order a_lies a_movedThen a_yearTable a_yearMark a_beginTable a_beginMark v_statesTold v_found v_yearFrom v_mark v_beginsMark v_begins a_began v_isSpent a_wants a_rowSort a_rowMany a_numbers) H locs → lv_has ls 1 [(0, .ref (ad 0))] → W p l e rm_X8_next s m args below meth c H locs 0 0 Q (F0 m 196 ls []) := by
                  intro v_number_84 hF H locs ls hH hl
                  delta FX8_next_j196 at hF
                  refine lv_aload_n hx hb dX8_next_196 rfl (lv_at hl 0 rfl) ?_
                  refine lv_dup hx hb dX8_next_197 rfl ?_
                  refine mg_behind hX hK hH dX8_next_198 ?_
                  refine lv_iconst (v := 1) hx hb dX8_next_201 syi_1 ?_
                  refine lv_iadd hx hb dX8_next_202 ?_
                  refine mp_behind hX hK hH dX8_next_203 (fun H locs hH => ?_)
                  refine lv_goto (tgt := 146) hx hb dX8_next_206 rfl ?_
                  obtain rfl := Option.some.inj hF
                  exact ih (v_behind_77 + 1) v_number_84 hY146 _ _ _ hH (lv_sub hl [0] rfl)
                refine lv_icmp_ge (tgt := 196) hx hb dX8_next_170 rfl (fun c_82 => ?_) (fun c_82 => ?_)
                · have hF := itp c_82 hF
                  exact j196 v_number_78 hF _ _ _ hH (lv_sub hl [0] rfl)
                · have hF := itn c_82 hF
                  refine lv_aload_n hx hb dX8_next_173 rfl (lv_at hl 0 rfl) ?_
                  refine lv_bipush (v := 10) hx hb dX8_next_174 syb_10 ?_
                  refine lv_aload_n hx hb dX8_next_176 rfl (lv_at hl 0 rfl) ?_
                  refine mg_number hX hK hH dX8_next_177 ?_
                  refine lv_imul hx hb dX8_next_180 ?_
                  refine lv_aload_n hx hb dX8_next_181 rfl (lv_at hl 0 rfl) ?_
                  refine lv_aload_n hx hb dX8_next_182 rfl (lv_at hl 0 rfl) ?_
                  refine mg_behind hX hK hH dX8_next_183 ?_
                  obtain ⟨x_83, he, hF⟩ := bd1e hF
                  refine mcV hX hK hEv hE0 hH (met_X8_see hE he) (mrecv hK hH) gw_StoneYearModel_114 hd_yX8_see ⟨Nat.le_of_ble_eq_true rfl, Nat.le_of_ble_eq_true rfl⟩ rfl rfl hl (Nat.le_of_ble_eq_true rfl) dX8_next_186 ⟨Nat.le_of_ble_eq_true rfl, Nat.le_of_ble_eq_true rfl⟩ (fun H locs hH => ?_)
                  refine lv_iadd hx hb dX8_next_189 ?_
                  refine lv_bipush (v := 48) hx hb dX8_next_190 syb_48 ?_
                  refine lv_isub hx hb dX8_next_192 ?_
                  refine mp_number hX hK hH dX8_next_193 (fun H locs hH => ?_)
                  exact j196 (((10 * v_number_78) + x_83) - 48) hF _ _ _ hH (lv_sub hl [0] rfl)
          exact l146 nn146 v_at_54 0 en146 _ _ _ hH (lv_sub hl [0] rfl)
      · have hF := itn c_58 hF
        obtain ⟨xx89, ee89, kk89_0⟩ := bd1L hF
        have k89_0 : ∀ (v_behind_66 : Int32), xx89 = v_behind_66 → ∀ (H : Heap) (locs : List Loc) (ls : Array Slot), MH D vwA A s.heap (mW ad cA a_all a_hasImage a_tape a_fresh v_taped v_at_54 v_behind_66 v_size v_kind v_number v_wrong v_wrongAt v_depth v_steps v_faultKind v_faultPlace a_on a_many v_moved a_pile v_aside v_judgedBy v_judgedYear a_leastCost a_matched a_order a_lies a_movedThen a_yearTable a_yearMark a_beginTable a_beginMark v_statesTold v_found v_yearFrom v_mark v_beginsMark v_begins a_began v_isSpent a_wants a_rowSort a_rowMany a_numbers) H locs → lv_has ls 1 [(0, .ref (ad 0))] → W p l e rm_X8_next s m args below meth c H locs 0 0 Q (F0 m 116 ls []) := by
          intro v_behind_66 hxx H locs ls hH hl
          have hF := un1e (kk89_0 v_behind_66 hxx)
          refine lv_aload_n hx hb dX8_next_116 rfl (lv_at hl 0 rfl) ?_
          refine lv_aload_n hx hb dX8_next_117 rfl (lv_at hl 0 rfl) ?_
          obtain ⟨x_67, he, hF⟩ := bd1e hF
          refine mcV hX hK hEv hE0 hH (met_X8_keyAt hE he) (mrecv hK hH) gw_StoneYearModel_125 hd_yX8_keyAt ⟨Nat.le_of_ble_eq_true rfl, Nat.le_of_ble_eq_true rfl⟩ rfl rfl hl (Nat.le_of_ble_eq_true rfl) dX8_next_118 ⟨Nat.le_of_ble_eq_true rfl, Nat.le_of_ble_eq_true rfl⟩ (fun H locs hH => ?_)
          refine mp_kind hX hK hH dX8_next_121 (fun H locs hH => ?_)
          refine lv_goto (tgt := 306) hx hb dX8_next_124 rfl ?_
          obtain ⟨rfl, rfl, rfl, rfl⟩ := re4 hF
          exact hret _ _ _ _ hH dX8_next_306
        obtain ⟨nn89, en89⟩ := loopC_some ee89
        have l89 : ∀ (n : Nat) (v_behind_62 : Int32), loopN (fun s => FX8_next_b89 a_tape v_size s) n v_behind_62 = some xx89 → ∀ (H : Heap) (locs : List Loc) (ls : Array Slot), MH D vwA A s.heap (mW ad cA a_all a_hasImage a_tape a_fresh v_taped v_at_54 v_behind_62 v_size v_kind v_number v_wrong v_wrongAt v_depth v_steps v_faultKind v_faultPlace a_on a_many v_moved a_pile v_aside v_judgedBy v_judgedYear a_leastCost a_matched a_order a_lies a_movedThen a_yearTable a_yearMark a_beginTable a_beginMark v_statesTold v_found v_yearFrom v_mark v_beginsMark v_begins a_began v_isSpent a_wants a_rowSort a_rowMany a_numbers) H locs → lv_has ls 1 [(0, .ref (ad 0))] → W p l e rm_X8_next s m args below meth c H locs 0 0 Q (F0 m 89 ls []) := by
          intro n
          induction n with
          | zero =>
            intro v_behind_62 hN
            exact absurd hN loopN_zero
          | succ n ih =>
            intro v_behind_62 hN H locs ls hH hl
            obtain ⟨yy89, hB89, hY89⟩ := loopN_succ hN
            have hF : FX8_next_b89 a_tape v_size v_behind_62 = some yy89 := hB89
            delta FX8_next_b89 at hF
            refine lv_aload_n hx hb dX8_next_89 rfl (lv_at hl 0 rfl) ?_
            refine lv_aload_n hx hb dX8_next_90 rfl (lv_at hl 0 rfl) ?_
            refine mg_behind hX hK hH dX8_next_91 ?_
            obtain ⟨x_63, he, hF⟩ := bd1e hF
            refine mcV hX hK hEv hE0 hH (met_X8_see hE he) (mrecv hK hH) gw_StoneYearModel_114 hd_yX8_see ⟨Nat.le_of_ble_eq_true rfl, Nat.le_of_ble_eq_true rfl⟩ rfl rfl hl (Nat.le_of_ble_eq_true rfl) dX8_next_94 ⟨Nat.le_of_ble_eq_true rfl, Nat.le_of_ble_eq_true rfl⟩ (fun H locs hH => ?_)
            obtain ⟨b_64, he, hF⟩ := bd1e hF
            refine mcS hX hK hEv hE0 hH (met_X8_isSmall hE he) gw_StoneYearModel_121 hd_yX8_isSmall ⟨Nat.le_of_ble_eq_true rfl, Nat.le_of_ble_eq_true rfl⟩ rfl rfl hl (Nat.le_of_ble_eq_true rfl) dX8_next_97 ⟨Nat.le_of_ble_eq_true rfl, Nat.le_of_ble_eq_true rfl⟩ (fun H locs hH => ?_)
            refine lv_if_eq (tgt := 116) hx hb dX8_next_100 rfl (fun c_65 => ?_) (fun c_65 => ?_)
            · have hF := itp c_65 hF
              obtain rfl := Option.some.inj hF
              exact k89_0 v_behind_62 hY89 _ _ _ hH (lv_sub hl [0] rfl)
            · have hF := itn c_65 hF
              refine lv_aload_n hx hb dX8_next_103 rfl (lv_at hl 0 rfl) ?_
              refine lv_dup hx hb dX8_next_104 rfl ?_
              refine mg_behind hX hK hH dX8_next_105 ?_
              refine lv_iconst (v := 1) hx hb dX8_next_108 syi_1 ?_
              refine lv_iadd hx hb dX8_next_109 ?_
              refine mp_behind hX hK hH dX8_next_110 (fun H locs hH => ?_)
              refine lv_goto (tgt := 89) hx hb dX8_next_113 rfl ?_
              obtain rfl := Option.some.inj hF
              exact ih (v_behind_62 + 1) hY89 _ _ _ hH (lv_sub hl [0] rfl)
        exact l89 nn89 v_at_54 en89 _ _ _ hH (lv_sub hl [0] rfl)
    · have hF := itn c_55 hF
      refine lv_aload_n hx hb dX8_next_66 rfl (lv_at hl 0 rfl) ?_
      refine lv_bipush (v := 29) hx hb dX8_next_67 syb_29 ?_
      refine mp_kind hX hK hH dX8_next_69 (fun H locs hH => ?_)
      refine lv_goto (tgt := 306) hx hb dX8_next_72 rfl ?_
      obtain ⟨rfl, rfl, rfl, rfl⟩ := re4 hF
      exact hret _ _ _ _ hH dX8_next_306
  obtain ⟨nn8, en8⟩ := loopC_some ee8
  have l8 : ∀ (n : Nat) (v_at_49 : Int32), loopN (fun s => FX8_next_b8 a_tape v_size s) n v_at_49 = some xx8 → ∀ (H : Heap) (locs : List Loc) (ls : Array Slot), MH D vwA A s.heap (mW ad cA a_all a_hasImage a_tape a_fresh v_taped v_at_49 v_behind v_size v_kind v_number v_wrong v_wrongAt v_depth v_steps v_faultKind v_faultPlace a_on a_many v_moved a_pile v_aside v_judgedBy v_judgedYear a_leastCost a_matched a_order a_lies a_movedThen a_yearTable a_yearMark a_beginTable a_beginMark v_statesTold v_found v_yearFrom v_mark v_beginsMark v_begins a_began v_isSpent a_wants a_rowSort a_rowMany a_numbers) H locs → lv_has ls 1 [(0, .ref (ad 0))] → W p l e rm_X8_next s m args below meth c H locs 0 0 Q (F0 m 8 ls []) := by
    intro n
    induction n with
    | zero =>
      intro v_at_49 hN
      exact absurd hN loopN_zero
    | succ n ih =>
      intro v_at_49 hN H locs ls hH hl
      obtain ⟨yy8, hB8, hY8⟩ := loopN_succ hN
      have hF : FX8_next_b8 a_tape v_size v_at_49 = some yy8 := hB8
      delta FX8_next_b8 at hF
      refine lv_aload_n hx hb dX8_next_8 rfl (lv_at hl 0 rfl) ?_
      refine lv_aload_n hx hb dX8_next_9 rfl (lv_at hl 0 rfl) ?_
      refine mg_at hX hK hH dX8_next_10 ?_
      obtain ⟨x_50, he, hF⟩ := bd1e hF
      refine mcV hX hK hEv hE0 hH (met_X8_see hE he) (mrecv hK hH) gw_StoneYearModel_114 hd_yX8_see ⟨Nat.le_of_ble_eq_true rfl, Nat.le_of_ble_eq_true rfl⟩ rfl rfl hl (Nat.le_of_ble_eq_true rfl) dX8_next_13 ⟨Nat.le_of_ble_eq_true rfl, Nat.le_of_ble_eq_true rfl⟩ (fun H locs hH => ?_)
      refine lv_bipush (v := 10) hx hb dX8_next_16 syb_10 ?_
      have j34 : FX8_next_j34 v_at_49 = some yy8 → ∀ (H : Heap) (locs : List Loc) (ls : Array Slot), MH D vwA A s.heap (mW ad cA a_all a_hasImage a_tape a_fresh v_taped v_at_49 v_behind v_size v_kind v_number v_wrong v_wrongAt v_depth v_steps v_faultKind v_faultPlace a_on a_many v_moved a_pile v_aside v_judgedBy v_judgedYear a_leastCost a_matched a_order a_lies a_movedThen a_yearTable a_yearMark a_beginTable a_beginMark v_statesTold v_found v_yearFrom v_mark v_beginsMark v_begins a_began v_isSpent a_wants a_rowSort a_rowMany a_numbers) H locs → lv_has ls 1 [(0, .ref (ad 0))] → W p l e rm_X8_next s m args below meth c H locs 0 0 Q (F0 m 34 ls []) := by
        intro hF H locs ls hH hl
        delta FX8_next_j34 at hF
        refine lv_aload_n hx hb dX8_next_34 rfl (lv_at hl 0 rfl) ?_
        refine lv_dup hx hb dX8_next_35 rfl ?_
        refine mg_at hX hK hH dX8_next_36 ?_
        refine lv_iconst (v := 1) hx hb dX8_next_39 syi_1 ?_
        refine lv_iadd hx hb dX8_next_40 ?_
        refine mp_at hX hK hH dX8_next_41 (fun H locs hH => ?_)
        refine lv_goto (tgt := 8) hx hb dX8_next_44 rfl ?_
        obtain rfl := Option.some.inj hF
        exact ih (v_at_49 + 1) hY8 _ _ _ hH (lv_sub hl [0] rfl)
      refine lv_icmp_eq (tgt := 34) hx hb dX8_next_18 rfl (fun c_51 => ?_) (fun c_51 => ?_)
      · have hF := itp c_51 hF
        exact j34 hF _ _ _ hH (lv_sub hl [0] rfl)
      · have hF := itn c_51 hF
        refine lv_aload_n hx hb dX8_next_21 rfl (lv_at hl 0 rfl) ?_
        refine lv_aload_n hx hb dX8_next_22 rfl (lv_at hl 0 rfl) ?_
        refine mg_at hX hK hH dX8_next_23 ?_
        obtain ⟨x_52, he, hF⟩ := bd1e hF
        refine mcV hX hK hEv hE0 hH (met_X8_see hE he) (mrecv hK hH) gw_StoneYearModel_114 hd_yX8_see ⟨Nat.le_of_ble_eq_true rfl, Nat.le_of_ble_eq_true rfl⟩ rfl rfl hl (Nat.le_of_ble_eq_true rfl) dX8_next_26 ⟨Nat.le_of_ble_eq_true rfl, Nat.le_of_ble_eq_true rfl⟩ (fun H locs hH => ?_)
        refine lv_bipush (v := 32) hx hb dX8_next_29 syb_32 ?_
        refine lv_icmp_ne (tgt := 47) hx hb dX8_next_31 rfl (fun c_53 => ?_) (fun c_53 => ?_)
        · have hF := itn c_53 hF
          obtain rfl := Option.some.inj hF
          exact k8_0 v_at_49 hY8 _ _ _ hH (lv_sub hl [0] rfl)
        · have hF := itp c_53 hF
          exact j34 hF _ _ _ hH (lv_sub hl [0] rfl)
  exact l8 nn8 v_behind en8 _ _ _ hH (lv_sub hl [0] rfl)
abbrev rm_X8_fails : Room := { frames := 0, cells := 0, slots := 0, locals := 0 }
set_option maxHeartbeats 4000000 in
theorem met_X8_fails {l : Launch} {D : va_G} {ad : Nat → Nat} {cA : Nat → ClassId} {a_all : Nat → Int32} {a_hasImage : Nat → Int32} {a_tape : Nat → Int32} {a_fresh : Nat → Int32} {v_taped : Int32} {v_at : Int32} {v_behind : Int32} {v_size : Int32} {v_kind : Int32} {v_number : Int32} {v_wrong : Int32} {v_wrongAt : Int32} {v_depth : Int32} {v_steps : Int32} {v_faultKind : Int32} {v_faultPlace : Int32} {a_on : Nat → Int32} {a_many : Nat → Int32} {v_moved : Int32} {a_pile : Nat → Int32} {v_aside : Int32} {v_judgedBy : Int32} {v_judgedYear : Int32} {a_leastCost : Nat → Int32} {a_matched : Nat → Int32} {a_order : Nat → Int32} {a_lies : Nat → Int64} {a_movedThen : Nat → Int32} {a_yearTable : Nat → Int32} {a_yearMark : Nat → Int32} {a_beginTable : Nat → Int32} {a_beginMark : Nat → Int32} {v_statesTold : Int32} {v_found : Int32} {v_yearFrom : Int32} {v_mark : Int32} {v_beginsMark : Int32} {v_begins : Int32} {a_began : Nat → Int64} {v_isSpent : Int32} {a_wants : Nat → Int32} {a_rowSort : Nat → Int32} {a_rowMany : Nat → Int32} {a_numbers : Nat → Int64}  {p1 : Int32} {rv_wrong : Int32} {rv_wrongAt : Int32} {ak av fo : Nat} {E : EvT} (hE : EvM E ak av fo) (hF : FX8_fails v_at v_kind v_wrong v_wrongAt p1 = some (rv_wrong, rv_wrongAt)) : MM l yX8_fails (ws_ yX8_fails cX8_fails 2 (Option.none : Option Jvm.ClassFile.FieldType)) rm_X8_fails D vwA (mT cA) E [.ref (ad 0), .int p1] (mW ad cA a_all a_hasImage a_tape a_fresh v_taped v_at v_behind v_size v_kind v_number v_wrong v_wrongAt v_depth v_steps v_faultKind v_faultPlace a_on a_many v_moved a_pile v_aside v_judgedBy v_judgedYear a_leastCost a_matched a_order a_lies a_movedThen a_yearTable a_yearMark a_beginTable a_beginMark v_statesTold v_found v_yearFrom v_mark v_beginsMark v_begins a_began v_isSpent a_wants a_rowSort a_rowMany a_numbers) (mW ad cA a_all a_hasImage a_tape a_fresh v_taped v_at v_behind v_size v_kind v_number rv_wrong rv_wrongAt v_depth v_steps v_faultKind v_faultPlace a_on a_many v_moved a_pile v_aside v_judgedBy v_judgedYear a_leastCost a_matched a_order a_lies a_movedThen a_yearTable a_yearMark a_beginTable a_beginMark v_statesTold v_found v_yearFrom v_mark v_beginsMark v_begins a_began v_isSpent a_wants a_rowSort a_rowMany a_numbers) none := by
  refine MM.ofV (by decide) (Nat.le_of_ble_eq_true rfl) ?_
  intro p e s m args below meth c Q A hX hK hE0 hret H locs ls hH hl
  have hX : CallFix p m c cX8_fails 2 s args lw_all RX8 := hX
  have hx := hX.1
  have hb := hX.2.1
  have hown := hX.2.2.2.1
  have hts := hX.2.2.2.2
  have hl : lv_has ls 2 [(0, .ref (ad 0)), (1, .int p1)] := hl
  have hEv := hE.1
  delta FX8_fails at hF
  refine lv_aload_n hx hb dX8_fails_0 rfl (lv_at hl 0 rfl) ?_
  refine mg_wrong hX hK hH dX8_fails_1 ?_
  refine lv_if_eq (tgt := 8) hx hb dX8_fails_4 rfl (fun c_46 => ?_) (fun c_46 => ?_)
  · have hF := itp c_46 hF
    refine lv_aload_n hx hb dX8_fails_8 rfl (lv_at hl 0 rfl) ?_
    refine lv_aload_n hx hb dX8_fails_9 rfl (lv_at hl 0 rfl) ?_
    refine mg_kind hX hK hH dX8_fails_10 ?_
    refine lv_bipush (v := 30) hx hb dX8_fails_13 syb_30 ?_
    have j23 : ∀ (x_48 : Int32), FX8_fails_j23 v_at x_48 = some (rv_wrong, rv_wrongAt) → ∀ (H : Heap) (locs : List Loc) (ls : Array Slot), MH D vwA A s.heap (mW ad cA a_all a_hasImage a_tape a_fresh v_taped v_at v_behind v_size v_kind v_number v_wrong v_wrongAt v_depth v_steps v_faultKind v_faultPlace a_on a_many v_moved a_pile v_aside v_judgedBy v_judgedYear a_leastCost a_matched a_order a_lies a_movedThen a_yearTable a_yearMark a_beginTable a_beginMark v_statesTold v_found v_yearFrom v_mark v_beginsMark v_begins a_began v_isSpent a_wants a_rowSort a_rowMany a_numbers) H locs → lv_has ls 2 [(0, .ref (ad 0))] → W p l e rm_X8_fails s m args below meth c H locs 0 0 Q (F0 m 23 ls [.int x_48, .ref (ad 0)]) := by
      intro x_48 hF H locs ls hH hl
      delta FX8_fails_j23 at hF
      refine mp_wrong hX hK hH dX8_fails_23 (fun H locs hH => ?_)
      refine lv_aload_n hx hb dX8_fails_26 rfl (lv_at hl 0 rfl) ?_
      refine lv_aload_n hx hb dX8_fails_27 rfl (lv_at hl 0 rfl) ?_
      refine mg_at hX hK hH dX8_fails_28 ?_
      refine mp_wrongAt hX hK hH dX8_fails_31 (fun H locs hH => ?_)
      obtain ⟨rfl, rfl⟩ := re2 hF
      exact hret _ _ _ _ hH dX8_fails_34
    refine lv_icmp_ne (tgt := 22) hx hb dX8_fails_15 rfl (fun c_47 => ?_) (fun c_47 => ?_)
    · have hF := itn c_47 hF
      refine lv_iload_n hx hb dX8_fails_22 rfl (lv_at hl 1 rfl) ?_
      exact j23 p1 hF _ _ _ hH (lv_sub hl [0] rfl)
    · have hF := itp c_47 hF
      refine lv_iconst (v := 1) hx hb dX8_fails_18 syi_1 ?_
      refine lv_goto (tgt := 23) hx hb dX8_fails_19 rfl ?_
      exact j23 1 hF _ _ _ hH (lv_sub hl [0] rfl)
  · have hF := itn c_46 hF
    obtain ⟨rfl, rfl⟩ := re2 hF
    exact hret _ _ _ _ hH dX8_fails_7
abbrev rm_X8_is : Room := { frames := 0, cells := 0, slots := 0, locals := 0 }
set_option maxHeartbeats 4000000 in
theorem met_X8_is {l : Launch} {D : va_G} {ad : Nat → Nat} {cA : Nat → ClassId} {a_all : Nat → Int32} {a_hasImage : Nat → Int32} {a_tape : Nat → Int32} {a_fresh : Nat → Int32} {v_taped : Int32} {v_at : Int32} {v_behind : Int32} {v_size : Int32} {v_kind : Int32} {v_number : Int32} {v_wrong : Int32} {v_wrongAt : Int32} {v_depth : Int32} {v_steps : Int32} {v_faultKind : Int32} {v_faultPlace : Int32} {a_on : Nat → Int32} {a_many : Nat → Int32} {v_moved : Int32} {a_pile : Nat → Int32} {v_aside : Int32} {v_judgedBy : Int32} {v_judgedYear : Int32} {a_leastCost : Nat → Int32} {a_matched : Nat → Int32} {a_order : Nat → Int32} {a_lies : Nat → Int64} {a_movedThen : Nat → Int32} {a_yearTable : Nat → Int32} {a_yearMark : Nat → Int32} {a_beginTable : Nat → Int32} {a_beginMark : Nat → Int32} {v_statesTold : Int32} {v_found : Int32} {v_yearFrom : Int32} {v_mark : Int32} {v_beginsMark : Int32} {v_begins : Int32} {a_began : Nat → Int64} {v_isSpent : Int32} {a_wants : Nat → Int32} {a_rowSort : Nat → Int32} {a_rowMany : Nat → Int32} {a_numbers : Nat → Int64}  {p1 : Int32} {res : Bool} {ak av fo : Nat} {E : EvT} (hE : EvM E ak av fo) (hF : FX8_is v_kind v_wrong p1 = some res) : MM l yX8_is (ws_ yX8_is cX8_is 2 (Option.some Jvm.ClassFile.FieldType.boolean)) rm_X8_is D vwA (mT cA) E [.ref (ad 0), .int p1] (mW ad cA a_all a_hasImage a_tape a_fresh v_taped v_at v_behind v_size v_kind v_number v_wrong v_wrongAt v_depth v_steps v_faultKind v_faultPlace a_on a_many v_moved a_pile v_aside v_judgedBy v_judgedYear a_leastCost a_matched a_order a_lies a_movedThen a_yearTable a_yearMark a_beginTable a_beginMark v_statesTold v_found v_yearFrom v_mark v_beginsMark v_begins a_began v_isSpent a_wants a_rowSort a_rowMany a_numbers) (mW ad cA a_all a_hasImage a_tape a_fresh v_taped v_at v_behind v_size v_kind v_number v_wrong v_wrongAt v_depth v_steps v_faultKind v_faultPlace a_on a_many v_moved a_pile v_aside v_judgedBy v_judgedYear a_leastCost a_matched a_order a_lies a_movedThen a_yearTable a_yearMark a_beginTable a_beginMark v_statesTold v_found v_yearFrom v_mark v_beginsMark v_begins a_began v_isSpent a_wants a_rowSort a_rowMany a_numbers) (some (.int (b2i res))) := by
  refine MM.ofZ (by decide) (Nat.le_of_ble_eq_true rfl) ?_
  intro p e s m args below meth c Q A hX hK hE0 hret H locs ls hH hl
  have hX : CallFix p m c cX8_is 2 s args lw_all RX8 := hX
  have hx := hX.1
  have hb := hX.2.1
  have hown := hX.2.2.2.1
  have hts := hX.2.2.2.2
  have hl : lv_has ls 2 [(0, .ref (ad 0)), (1, .int p1)] := hl
  have hEv := hE.1
  delta FX8_is at hF
  refine lv_aload_n hx hb dX8_is_0 rfl (lv_at hl 0 rfl) ?_
  refine mg_wrong hX hK hH dX8_is_1 ?_
  refine lv_if_ne (tgt := 19) hx hb dX8_is_4 rfl (fun c_46 => ?_) (fun c_46 => ?_)
  · have hF := itn c_46 hF
    refine lv_iconst (v := 0) hx hb dX8_is_19 syi_0 ?_
    obtain rfl := Option.some.inj hF
    exact hret _ _ _ _ hH dX8_is_20
  · have hF := itp c_46 hF
    refine lv_aload_n hx hb dX8_is_7 rfl (lv_at hl 0 rfl) ?_
    refine mg_kind hX hK hH dX8_is_8 ?_
    refine lv_iload_n hx hb dX8_is_11 rfl (lv_at hl 1 rfl) ?_
    refine lv_icmp_ne (tgt := 19) hx hb dX8_is_12 rfl (fun c_47 => ?_) (fun c_47 => ?_)
    · have hF := itn c_47 hF
      refine lv_iconst (v := 0) hx hb dX8_is_19 syi_0 ?_
      obtain rfl := Option.some.inj hF
      exact hret _ _ _ _ hH dX8_is_20
    · have hF := itp c_47 hF
      refine lv_iconst (v := 1) hx hb dX8_is_15 syi_1 ?_
      refine lv_goto (tgt := 20) hx hb dX8_is_16 rfl ?_
      obtain rfl := Option.some.inj hF
      exact hret _ _ _ _ hH dX8_is_20
abbrev rm_X8_eats : Room := { frames := 6, cells := 0, slots := 0, locals := 128 }
set_option maxHeartbeats 4000000 in
theorem met_X8_eats {l : Launch} {D : va_G} {ad : Nat → Nat} {cA : Nat → ClassId} {a_all : Nat → Int32} {a_hasImage : Nat → Int32} {a_tape : Nat → Int32} {a_fresh : Nat → Int32} {v_taped : Int32} {v_at : Int32} {v_behind : Int32} {v_size : Int32} {v_kind : Int32} {v_number : Int32} {v_wrong : Int32} {v_wrongAt : Int32} {v_depth : Int32} {v_steps : Int32} {v_faultKind : Int32} {v_faultPlace : Int32} {a_on : Nat → Int32} {a_many : Nat → Int32} {v_moved : Int32} {a_pile : Nat → Int32} {v_aside : Int32} {v_judgedBy : Int32} {v_judgedYear : Int32} {a_leastCost : Nat → Int32} {a_matched : Nat → Int32} {a_order : Nat → Int32} {a_lies : Nat → Int64} {a_movedThen : Nat → Int32} {a_yearTable : Nat → Int32} {a_yearMark : Nat → Int32} {a_beginTable : Nat → Int32} {a_beginMark : Nat → Int32} {v_statesTold : Int32} {v_found : Int32} {v_yearFrom : Int32} {v_mark : Int32} {v_beginsMark : Int32} {v_begins : Int32} {a_began : Nat → Int64} {v_isSpent : Int32} {a_wants : Nat → Int32} {a_rowSort : Nat → Int32} {a_rowMany : Nat → Int32} {a_numbers : Nat → Int64}  {p1 : Int32} {res : Bool} {rv_at : Int32} {rv_behind : Int32} {rv_kind : Int32} {rv_number : Int32} {ak av fo : Nat} {E : EvT} (hE : EvM E ak av fo) (hF : FX8_eats a_tape v_at v_behind v_size v_kind v_number v_wrong p1 = some (res, rv_at, rv_behind, rv_kind, rv_number)) : MM l yX8_eats (ws_ yX8_eats cX8_eats 2 (Option.some Jvm.ClassFile.FieldType.boolean)) rm_X8_eats D vwA (mT cA) E [.ref (ad 0), .int p1] (mW ad cA a_all a_hasImage a_tape a_fresh v_taped v_at v_behind v_size v_kind v_number v_wrong v_wrongAt v_depth v_steps v_faultKind v_faultPlace a_on a_many v_moved a_pile v_aside v_judgedBy v_judgedYear a_leastCost a_matched a_order a_lies a_movedThen a_yearTable a_yearMark a_beginTable a_beginMark v_statesTold v_found v_yearFrom v_mark v_beginsMark v_begins a_began v_isSpent a_wants a_rowSort a_rowMany a_numbers) (mW ad cA a_all a_hasImage a_tape a_fresh v_taped rv_at rv_behind v_size rv_kind rv_number v_wrong v_wrongAt v_depth v_steps v_faultKind v_faultPlace a_on a_many v_moved a_pile v_aside v_judgedBy v_judgedYear a_leastCost a_matched a_order a_lies a_movedThen a_yearTable a_yearMark a_beginTable a_beginMark v_statesTold v_found v_yearFrom v_mark v_beginsMark v_begins a_began v_isSpent a_wants a_rowSort a_rowMany a_numbers) (some (.int (b2i res))) := by
  refine MM.ofZ (by decide) (Nat.le_of_ble_eq_true rfl) ?_
  intro p e s m args below meth c Q A hX hK hE0 hret H locs ls hH hl
  have hX : CallFix p m c cX8_eats 2 s args lw_all RX8 := hX
  have hx := hX.1
  have hb := hX.2.1
  have hown := hX.2.2.2.1
  have hts := hX.2.2.2.2
  have hl : lv_has ls 2 [(0, .ref (ad 0)), (1, .int p1)] := hl
  have hEv := hE.1
  delta FX8_eats at hF
  refine lv_aload_n hx hb dX8_eats_0 rfl (lv_at hl 0 rfl) ?_
  refine lv_iload_n hx hb dX8_eats_1 rfl (lv_at hl 1 rfl) ?_
  obtain ⟨b_46, he, hF⟩ := bd1e hF
  refine mcV hX hK hEv hE0 hH (met_X8_is hE he) (mrecv hK hH) gw_StoneYearModel_140 hd_yX8_is ⟨Nat.le_of_ble_eq_true rfl, Nat.le_of_ble_eq_true rfl⟩ rfl rfl hl (Nat.le_of_ble_eq_true rfl) dX8_eats_2 ⟨Nat.le_of_ble_eq_true rfl, Nat.le_of_ble_eq_true rfl⟩ (fun H locs hH => ?_)
  refine lv_if_ne (tgt := 10) hx hb dX8_eats_5 rfl (fun c_47 => ?_) (fun c_47 => ?_)
  · have hF := itn c_47 hF
    refine lv_aload_n hx hb dX8_eats_10 rfl (lv_at hl 0 rfl) ?_
    obtain ⟨v_at_48, v_behind_49, v_kind_50, v_number_51, he, hF⟩ := bd4e hF
    refine mcV hX hK hEv hE0 hH (met_X8_next hE he) (mrecv hK hH) gw_StoneYearModel_143 hd_yX8_next ⟨Nat.le_of_ble_eq_true rfl, Nat.le_of_ble_eq_true rfl⟩ rfl rfl hl (Nat.le_of_ble_eq_true rfl) dX8_eats_11 ⟨Nat.le_of_ble_eq_true rfl, Nat.le_of_ble_eq_true rfl⟩ (fun H locs hH => ?_)
    refine lv_iconst (v := 1) hx hb dX8_eats_14 syi_1 ?_
    obtain ⟨rfl, rfl, rfl, rfl, rfl⟩ := re5 hF
    exact hret _ _ _ _ hH dX8_eats_15
  · have hF := itp c_47 hF
    refine lv_iconst (v := 0) hx hb dX8_eats_8 syi_0 ?_
    obtain ⟨rfl, rfl, rfl, rfl, rfl⟩ := re5 hF
    exact hret _ _ _ _ hH dX8_eats_9
abbrev rm_X8_needs : Room := { frames := 7, cells := 0, slots := 0, locals := 149 }
set_option maxHeartbeats 4000000 in
theorem met_X8_needs {l : Launch} {D : va_G} {ad : Nat → Nat} {cA : Nat → ClassId} {a_all : Nat → Int32} {a_hasImage : Nat → Int32} {a_tape : Nat → Int32} {a_fresh : Nat → Int32} {v_taped : Int32} {v_at : Int32} {v_behind : Int32} {v_size : Int32} {v_kind : Int32} {v_number : Int32} {v_wrong : Int32} {v_wrongAt : Int32} {v_depth : Int32} {v_steps : Int32} {v_faultKind : Int32} {v_faultPlace : Int32} {a_on : Nat → Int32} {a_many : Nat → Int32} {v_moved : Int32} {a_pile : Nat → Int32} {v_aside : Int32} {v_judgedBy : Int32} {v_judgedYear : Int32} {a_leastCost : Nat → Int32} {a_matched : Nat → Int32} {a_order : Nat → Int32} {a_lies : Nat → Int64} {a_movedThen : Nat → Int32} {a_yearTable : Nat → Int32} {a_yearMark : Nat → Int32} {a_beginTable : Nat → Int32} {a_beginMark : Nat → Int32} {v_statesTold : Int32} {v_found : Int32} {v_yearFrom : Int32} {v_mark : Int32} {v_beginsMark : Int32} {v_begins : Int32} {a_began : Nat → Int64} {v_isSpent : Int32} {a_wants : Nat → Int32} {a_rowSort : Nat → Int32} {a_rowMany : Nat → Int32} {a_numbers : Nat → Int64}  {p1 : Int32} {rv_at : Int32} {rv_behind : Int32} {rv_kind : Int32} {rv_number : Int32} {rv_wrong : Int32} {rv_wrongAt : Int32} {ak av fo : Nat} {E : EvT} (hE : EvM E ak av fo) (hF : FX8_needs a_tape v_at v_behind v_size v_kind v_number v_wrong v_wrongAt p1 = some (rv_at, rv_behind, rv_kind, rv_number, rv_wrong, rv_wrongAt)) : MM l yX8_needs (ws_ yX8_needs cX8_needs 2 (Option.none : Option Jvm.ClassFile.FieldType)) rm_X8_needs D vwA (mT cA) E [.ref (ad 0), .int p1] (mW ad cA a_all a_hasImage a_tape a_fresh v_taped v_at v_behind v_size v_kind v_number v_wrong v_wrongAt v_depth v_steps v_faultKind v_faultPlace a_on a_many v_moved a_pile v_aside v_judgedBy v_judgedYear a_leastCost a_matched a_order a_lies a_movedThen a_yearTable a_yearMark a_beginTable a_beginMark v_statesTold v_found v_yearFrom v_mark v_beginsMark v_begins a_began v_isSpent a_wants a_rowSort a_rowMany a_numbers) (mW ad cA a_all a_hasImage a_tape a_fresh v_taped rv_at rv_behind v_size rv_kind rv_number rv_wrong rv_wrongAt v_depth v_steps v_faultKind v_faultPlace a_on a_many v_moved a_pile v_aside v_judgedBy v_judgedYear a_leastCost a_matched a_order a_lies a_movedThen a_yearTable a_yearMark a_beginTable a_beginMark v_statesTold v_found v_yearFrom v_mark v_beginsMark v_begins a_began v_isSpent a_wants a_rowSort a_rowMany a_numbers) none := by
  refine MM.ofV (by decide) (Nat.le_of_ble_eq_true rfl) ?_
  intro p e s m args below meth c Q A hX hK hE0 hret H locs ls hH hl
  have hX : CallFix p m c cX8_needs 2 s args lw_all RX8 := hX
  have hx := hX.1
  have hb := hX.2.1
  have hown := hX.2.2.2.1
  have hts := hX.2.2.2.2
  have hl : lv_has ls 2 [(0, .ref (ad 0)), (1, .int p1)] := hl
  have hEv := hE.1
  delta FX8_needs at hF
  refine lv_aload_n hx hb dX8_needs_0 rfl (lv_at hl 0 rfl) ?_
  refine lv_iload_n hx hb dX8_needs_1 rfl (lv_at hl 1 rfl) ?_
  obtain ⟨b_46, v_at_47, v_behind_48, v_kind_49, v_number_50, he, hF⟩ := bd5e hF
  refine mcV hX hK hEv hE0 hH (met_X8_eats hE he) (mrecv hK hH) gw_StoneYearModel_146 hd_yX8_eats ⟨Nat.le_of_ble_eq_true rfl, Nat.le_of_ble_eq_true rfl⟩ rfl rfl hl (Nat.le_of_ble_eq_true rfl) dX8_needs_2 ⟨Nat.le_of_ble_eq_true rfl, Nat.le_of_ble_eq_true rfl⟩ (fun H locs hH => ?_)
  refine lv_if_ne (tgt := 13) hx hb dX8_needs_5 rfl (fun c_51 => ?_) (fun c_51 => ?_)
  · have hF := itn c_51 hF
    obtain ⟨rfl, rfl, rfl, rfl, rfl, rfl⟩ := re6 hF
    exact hret _ _ _ _ hH dX8_needs_13
  · have hF := itp c_51 hF
    refine lv_aload_n hx hb dX8_needs_8 rfl (lv_at hl 0 rfl) ?_
    refine lv_iconst (v := 2) hx hb dX8_needs_9 syi_2 ?_
    obtain ⟨v_wrong_52, v_wrongAt_53, he, hF⟩ := bd2e hF
    refine mcV hX hK hEv hE0 hH (met_X8_fails hE he) (mrecv hK hH) gw_StoneYearModel_149 hd_yX8_fails ⟨Nat.le_of_ble_eq_true rfl, Nat.le_of_ble_eq_true rfl⟩ rfl rfl hl (Nat.le_of_ble_eq_true rfl) dX8_needs_10 ⟨Nat.le_of_ble_eq_true rfl, Nat.le_of_ble_eq_true rfl⟩ (fun H locs hH => ?_)
    obtain ⟨rfl, rfl, rfl, rfl, rfl, rfl⟩ := re6 hF
    exact hret _ _ _ _ hH dX8_needs_13
abbrev rm_X8_emit : Room := { frames := 0, cells := 0, slots := 0, locals := 0 }
set_option maxHeartbeats 4000000 in
theorem met_X8_emit {l : Launch} {D : va_G} {ad : Nat → Nat} {cA : Nat → ClassId} {a_all : Nat → Int32} {a_hasImage : Nat → Int32} {a_tape : Nat → Int32} {a_fresh : Nat → Int32} {v_taped : Int32} {v_at : Int32} {v_behind : Int32} {v_size : Int32} {v_kind : Int32} {v_number : Int32} {v_wrong : Int32} {v_wrongAt : Int32} {v_depth : Int32} {v_steps : Int32} {v_faultKind : Int32} {v_faultPlace : Int32} {a_on : Nat → Int32} {a_many : Nat → Int32} {v_moved : Int32} {a_pile : Nat → Int32} {v_aside : Int32} {v_judgedBy : Int32} {v_judgedYear : Int32} {a_leastCost : Nat → Int32} {a_matched : Nat → Int32} {a_order : Nat → Int32} {a_lies : Nat → Int64} {a_movedThen : Nat → Int32} {a_yearTable : Nat → Int32} {a_yearMark : Nat → Int32} {a_beginTable : Nat → Int32} {a_beginMark : Nat → Int32} {v_statesTold : Int32} {v_found : Int32} {v_yearFrom : Int32} {v_mark : Int32} {v_beginsMark : Int32} {v_begins : Int32} {a_began : Nat → Int64} {v_isSpent : Int32} {a_wants : Nat → Int32} {a_rowSort : Nat → Int32} {a_rowMany : Nat → Int32} {a_numbers : Nat → Int64}  {p1 : Int32} {p2 : Int32} {ra_fresh : Nat → Int32} {rv_steps : Int32} {ak av fo : Nat} {E : EvT} (hE : EvM E ak av fo) (hF : FX8_emit a_fresh v_steps p1 p2 = some (ra_fresh, rv_steps)) : MM l yX8_emit (ws_ yX8_emit cX8_emit 3 (Option.none : Option Jvm.ClassFile.FieldType)) rm_X8_emit D vwA (mT cA) E [.ref (ad 0), .int p1, .int p2] (mW ad cA a_all a_hasImage a_tape a_fresh v_taped v_at v_behind v_size v_kind v_number v_wrong v_wrongAt v_depth v_steps v_faultKind v_faultPlace a_on a_many v_moved a_pile v_aside v_judgedBy v_judgedYear a_leastCost a_matched a_order a_lies a_movedThen a_yearTable a_yearMark a_beginTable a_beginMark v_statesTold v_found v_yearFrom v_mark v_beginsMark v_begins a_began v_isSpent a_wants a_rowSort a_rowMany a_numbers) (mW ad cA a_all a_hasImage a_tape ra_fresh v_taped v_at v_behind v_size v_kind v_number v_wrong v_wrongAt v_depth rv_steps v_faultKind v_faultPlace a_on a_many v_moved a_pile v_aside v_judgedBy v_judgedYear a_leastCost a_matched a_order a_lies a_movedThen a_yearTable a_yearMark a_beginTable a_beginMark v_statesTold v_found v_yearFrom v_mark v_beginsMark v_begins a_began v_isSpent a_wants a_rowSort a_rowMany a_numbers) none := by
  refine MM.ofV (by decide) (Nat.le_of_ble_eq_true rfl) ?_
  intro p e s m args below meth c Q A hX hK hE0 hret H locs ls hH hl
  have hX : CallFix p m c cX8_emit 3 s args lw_all RX8 := hX
  have hx := hX.1
  have hb := hX.2.1
  have hown := hX.2.2.2.1
  have hts := hX.2.2.2.2
  have hl : lv_has ls 3 [(0, .ref (ad 0)), (1, .int p1), (2, .int p2)] := hl
  have hEv := hE.1
  delta FX8_emit at hF
  refine lv_aload_n hx hb dX8_emit_0 rfl (lv_at hl 0 rfl) ?_
  refine mg_fresh hX hK hH dX8_emit_1 ?_
  refine lv_sipush (v := 131) hx hb dX8_emit_4 sys_131 ?_
  refine lv_iconst (v := 2) hx hb dX8_emit_7 syi_2 ?_
  refine lv_aload_n hx hb dX8_emit_8 rfl (lv_at hl 0 rfl) ?_
  refine mg_steps hX hK hH dX8_emit_9 ?_
  refine lv_imul hx hb dX8_emit_12 ?_
  refine lv_iadd hx hb dX8_emit_13 ?_
  refine lv_iload_n hx hb dX8_emit_14 rfl (lv_at hl 1 rfl) ?_
  obtain ⟨a_fresh_47, he, hF⟩ := bd1e hF
  refine ms_fresh hX hK hH he dX8_emit_15 (fun H locs hH => ?_)
  refine lv_aload_n hx hb dX8_emit_16 rfl (lv_at hl 0 rfl) ?_
  refine mg_fresh hX hK hH dX8_emit_17 ?_
  refine lv_sipush (v := 131) hx hb dX8_emit_20 sys_131 ?_
  refine lv_iconst (v := 2) hx hb dX8_emit_23 syi_2 ?_
  refine lv_aload_n hx hb dX8_emit_24 rfl (lv_at hl 0 rfl) ?_
  refine mg_steps hX hK hH dX8_emit_25 ?_
  refine lv_imul hx hb dX8_emit_28 ?_
  refine lv_iadd hx hb dX8_emit_29 ?_
  refine lv_iconst (v := 1) hx hb dX8_emit_30 syi_1 ?_
  refine lv_iadd hx hb dX8_emit_31 ?_
  refine lv_iload_n hx hb dX8_emit_32 rfl (lv_at hl 2 rfl) ?_
  obtain ⟨a_fresh_48, he, hF⟩ := bd1e hF
  refine ms_fresh hX hK hH he dX8_emit_33 (fun H locs hH => ?_)
  refine lv_aload_n hx hb dX8_emit_34 rfl (lv_at hl 0 rfl) ?_
  refine lv_dup hx hb dX8_emit_35 rfl ?_
  refine mg_steps hX hK hH dX8_emit_36 ?_
  refine lv_iconst (v := 1) hx hb dX8_emit_39 syi_1 ?_
  refine lv_iadd hx hb dX8_emit_40 ?_
  refine mp_steps hX hK hH dX8_emit_41 (fun H locs hH => ?_)
  obtain ⟨rfl, rfl⟩ := re2 hF
  exact hret _ _ _ _ hH dX8_emit_44
abbrev rm_X8_within : Room := { frames := 0, cells := 0, slots := 0, locals := 0 }
set_option maxHeartbeats 4000000 in
theorem met_X8_within {l : Launch} {D : va_G} {ad : Nat → Nat} {cA : Nat → ClassId} {a_all : Nat → Int32} {a_hasImage : Nat → Int32} {a_tape : Nat → Int32} {a_fresh : Nat → Int32} {v_taped : Int32} {v_at : Int32} {v_behind : Int32} {v_size : Int32} {v_kind : Int32} {v_number : Int32} {v_wrong : Int32} {v_wrongAt : Int32} {v_depth : Int32} {v_steps : Int32} {v_faultKind : Int32} {v_faultPlace : Int32} {a_on : Nat → Int32} {a_many : Nat → Int32} {v_moved : Int32} {a_pile : Nat → Int32} {v_aside : Int32} {v_judgedBy : Int32} {v_judgedYear : Int32} {a_leastCost : Nat → Int32} {a_matched : Nat → Int32} {a_order : Nat → Int32} {a_lies : Nat → Int64} {a_movedThen : Nat → Int32} {a_yearTable : Nat → Int32} {a_yearMark : Nat → Int32} {a_beginTable : Nat → Int32} {a_beginMark : Nat → Int32} {v_statesTold : Int32} {v_found : Int32} {v_yearFrom : Int32} {v_mark : Int32} {v_beginsMark : Int32} {v_begins : Int32} {a_began : Nat → Int64} {v_isSpent : Int32} {a_wants : Nat → Int32} {a_rowSort : Nat → Int32} {a_rowMany : Nat → Int32} {a_numbers : Nat → Int64}  {p0 : Int64} {p2 : Int64} {p4 : Int64} {res : Bool} {ak av fo : Nat} {E : EvT} (hE : EvM E ak av fo) (hF : FX8_within p0 p2 p4 = some res) : MM l yX8_within (ws_ yX8_within cX8_within 6 (Option.some Jvm.ClassFile.FieldType.boolean)) rm_X8_within D vwA (mT cA) E [.long p0, .long p2, .long p4] (mW ad cA a_all a_hasImage a_tape a_fresh v_taped v_at v_behind v_size v_kind v_number v_wrong v_wrongAt v_depth v_steps v_faultKind v_faultPlace a_on a_many v_moved a_pile v_aside v_judgedBy v_judgedYear a_leastCost a_matched a_order a_lies a_movedThen a_yearTable a_yearMark a_beginTable a_beginMark v_statesTold v_found v_yearFrom v_mark v_beginsMark v_begins a_began v_isSpent a_wants a_rowSort a_rowMany a_numbers) (mW ad cA a_all a_hasImage a_tape a_fresh v_taped v_at v_behind v_size v_kind v_number v_wrong v_wrongAt v_depth v_steps v_faultKind v_faultPlace a_on a_many v_moved a_pile v_aside v_judgedBy v_judgedYear a_leastCost a_matched a_order a_lies a_movedThen a_yearTable a_yearMark a_beginTable a_beginMark v_statesTold v_found v_yearFrom v_mark v_beginsMark v_begins a_began v_isSpent a_wants a_rowSort a_rowMany a_numbers) (some (.int (b2i res))) := by
  refine MM.ofZ (by decide) (Nat.le_of_ble_eq_true rfl) ?_
  intro p e s m args below meth c Q A hX hK hE0 hret H locs ls hH hl
  have hX : CallFix p m c cX8_within 6 s args lw_all RX8 := hX
  have hx := hX.1
  have hb := hX.2.1
  have hown := hX.2.2.2.1
  have hts := hX.2.2.2.2
  have hl : lv_has ls 6 [(0, .long p0), (2, .long p2), (4, .long p4)] := hl
  have hEv := hE.1
  delta FX8_within at hF
  refine lv_lload_n hx hb dX8_within_0 rfl (lv_at hl 0 rfl) ?_
  refine lv_lload_n hx hb dX8_within_1 rfl (lv_at hl 1 rfl) ?_
  refine W.lcmp hx hb dX8_within_2 ?_
  refine lv_if_lt (tgt := 17) hx hb dX8_within_3 rfl (fun c_48 => ?_) (fun c_48 => ?_)
  · have hF := itp c_48 hF
    refine lv_iconst (v := 0) hx hb dX8_within_17 syi_0 ?_
    obtain rfl := Option.some.inj hF
    exact hret _ _ _ _ hH dX8_within_18
  · have hF := itn c_48 hF
    refine lv_lload_n hx hb dX8_within_6 rfl (lv_at hl 0 rfl) ?_
    refine lv_lload hx hb dX8_within_7 (lv_at hl 2 rfl) ?_
    refine W.lcmp hx hb dX8_within_9 ?_
    refine lv_if_gt (tgt := 17) hx hb dX8_within_10 rfl (fun c_49 => ?_) (fun c_49 => ?_)
    · have hF := itp c_49 hF
      refine lv_iconst (v := 0) hx hb dX8_within_17 syi_0 ?_
      obtain rfl := Option.some.inj hF
      exact hret _ _ _ _ hH dX8_within_18
    · have hF := itn c_49 hF
      refine lv_iconst (v := 1) hx hb dX8_within_13 syi_1 ?_
      refine lv_goto (tgt := 18) hx hb dX8_within_14 rfl ?_
      obtain rfl := Option.some.inj hF
      exact hret _ _ _ _ hH dX8_within_18
abbrev rm_X8_reads : Room := { frames := 6, cells := 0, slots := 0, locals := 128 }
set_option maxHeartbeats 4000000 in
theorem met_X8_reads {l : Launch} {D : va_G} {ad : Nat → Nat} {cA : Nat → ClassId} {a_all : Nat → Int32} {a_hasImage : Nat → Int32} {a_tape : Nat → Int32} {a_fresh : Nat → Int32} {v_taped : Int32} {v_at : Int32} {v_behind : Int32} {v_size : Int32} {v_kind : Int32} {v_number : Int32} {v_wrong : Int32} {v_wrongAt : Int32} {v_depth : Int32} {v_steps : Int32} {v_faultKind : Int32} {v_faultPlace : Int32} {a_on : Nat → Int32} {a_many : Nat → Int32} {v_moved : Int32} {a_pile : Nat → Int32} {v_aside : Int32} {v_judgedBy : Int32} {v_judgedYear : Int32} {a_leastCost : Nat → Int32} {a_matched : Nat → Int32} {a_order : Nat → Int32} {a_lies : Nat → Int64} {a_movedThen : Nat → Int32} {a_yearTable : Nat → Int32} {a_yearMark : Nat → Int32} {a_beginTable : Nat → Int32} {a_beginMark : Nat → Int32} {v_statesTold : Int32} {v_found : Int32} {v_yearFrom : Int32} {v_mark : Int32} {v_beginsMark : Int32} {v_begins : Int32} {a_began : Nat → Int64} {v_isSpent : Int32} {a_wants : Nat → Int32} {a_rowSort : Nat → Int32} {a_rowMany : Nat → Int32} {a_numbers : Nat → Int64}  {p1 : Int32} {p2 : Int32} {res : Int32} {rv_at : Int32} {rv_behind : Int32} {rv_kind : Int32} {rv_number : Int32} {rv_wrong : Int32} {rv_wrongAt : Int32} {ak av fo : Nat} {E : EvT} (hE : EvM E ak av fo) (hF : FX8_reads a_tape v_at v_behind v_size v_kind v_number v_wrong v_wrongAt p1 p2 = some (res, rv_at, rv_behind, rv_kind, rv_number, rv_wrong, rv_wrongAt)) : MM l yX8_reads (ws_ yX8_reads cX8_reads 4 (Option.some Jvm.ClassFile.FieldType.int)) rm_X8_reads D vwA (mT cA) E [.ref (ad 0), .int p1, .int p2] (mW ad cA a_all a_hasImage a_tape a_fresh v_taped v_at v_behind v_size v_kind v_number v_wrong v_wrongAt v_depth v_steps v_faultKind v_faultPlace a_on a_many v_moved a_pile v_aside v_judgedBy v_judgedYear a_leastCost a_matched a_order a_lies a_movedThen a_yearTable a_yearMark a_beginTable a_beginMark v_statesTold v_found v_yearFrom v_mark v_beginsMark v_begins a_began v_isSpent a_wants a_rowSort a_rowMany a_numbers) (mW ad cA a_all a_hasImage a_tape a_fresh v_taped rv_at rv_behind v_size rv_kind rv_number rv_wrong rv_wrongAt v_depth v_steps v_faultKind v_faultPlace a_on a_many v_moved a_pile v_aside v_judgedBy v_judgedYear a_leastCost a_matched a_order a_lies a_movedThen a_yearTable a_yearMark a_beginTable a_beginMark v_statesTold v_found v_yearFrom v_mark v_beginsMark v_begins a_began v_isSpent a_wants a_rowSort a_rowMany a_numbers) (some (.int res)) := by
  refine MM.ofI (by decide) (Nat.le_of_ble_eq_true rfl) ?_
  intro p e s m args below meth c Q A hX hK hE0 hret H locs ls hH hl
  have hX : CallFix p m c cX8_reads 4 s args lw_all RX8 := hX
  have hx := hX.1
  have hb := hX.2.1
  have hown := hX.2.2.2.1
  have hts := hX.2.2.2.2
  have hl : lv_has ls 4 [(0, .ref (ad 0)), (1, .int p1), (2, .int p2)] := hl
  have hEv := hE.1
  delta FX8_reads at hF
  refine lv_aload_n hx hb dX8_reads_0 rfl (lv_at hl 0 rfl) ?_
  refine lv_bipush (v := 25) hx hb dX8_reads_1 syb_25 ?_
  obtain ⟨b_47, he, hF⟩ := bd1e hF
  refine mcV hX hK hEv hE0 hH (met_X8_is hE he) (mrecv hK hH) gw_StoneYearModel_140 hd_yX8_is ⟨Nat.le_of_ble_eq_true rfl, Nat.le_of_ble_eq_true rfl⟩ rfl rfl hl (Nat.le_of_ble_eq_true rfl) dX8_reads_3 ⟨Nat.le_of_ble_eq_true rfl, Nat.le_of_ble_eq_true rfl⟩ (fun H locs hH => ?_)
  have j37 : ∀ (v_wrong_55 : Int32) (v_wrongAt_56 : Int32), FX8_reads_j37 a_tape v_at v_behind v_size v_kind v_number v_wrong_55 v_wrongAt_56 = some (res, rv_at, rv_behind, rv_kind, rv_number, rv_wrong, rv_wrongAt) → ∀ (H : Heap) (locs : List Loc) (ls : Array Slot), MH D vwA A s.heap (mW ad cA a_all a_hasImage a_tape a_fresh v_taped v_at v_behind v_size v_kind v_number v_wrong_55 v_wrongAt_56 v_depth v_steps v_faultKind v_faultPlace a_on a_many v_moved a_pile v_aside v_judgedBy v_judgedYear a_leastCost a_matched a_order a_lies a_movedThen a_yearTable a_yearMark a_beginTable a_beginMark v_statesTold v_found v_yearFrom v_mark v_beginsMark v_begins a_began v_isSpent a_wants a_rowSort a_rowMany a_numbers) H locs → lv_has ls 4 [(0, .ref (ad 0))] → W p l e rm_X8_reads s m args below meth c H locs 0 0 Q (F0 m 37 ls []) := by
    intro v_wrong_55 v_wrongAt_56 hF H locs ls hH hl
    delta FX8_reads_j37 at hF
    refine lv_aload_n hx hb dX8_reads_37 rfl (lv_at hl 0 rfl) ?_
    refine mg_number hX hK hH dX8_reads_38 ?_
    refine lv_istore_n (lv' := [(3, .int v_number), (0, .ref (ad 0))]) hx hb dX8_reads_41 rfl hl (by decide) rfl (fun ls hl => ?_)
    refine lv_aload_n hx hb dX8_reads_42 rfl (lv_at hl 1 rfl) ?_
    refine mg_wrong hX hK hH dX8_reads_43 ?_
    refine lv_if_ne (tgt := 53) hx hb dX8_reads_46 rfl (fun c_57 => ?_) (fun c_57 => ?_)
    · have hF := itn c_57 hF
      refine lv_iload_n hx hb dX8_reads_53 rfl (lv_at hl 0 rfl) ?_
      obtain ⟨rfl, rfl, rfl, rfl, rfl, rfl, rfl⟩ := re7 hF
      exact hret _ _ _ _ hH dX8_reads_54
    · have hF := itp c_57 hF
      refine lv_aload_n hx hb dX8_reads_49 rfl (lv_at hl 1 rfl) ?_
      obtain ⟨v_at_58, v_behind_59, v_kind_60, v_number_61, he, hF⟩ := bd4e hF
      refine mcV hX hK hEv hE0 hH (met_X8_next hE he) (mrecv hK hH) gw_StoneYearModel_143 hd_yX8_next ⟨Nat.le_of_ble_eq_true rfl, Nat.le_of_ble_eq_true rfl⟩ rfl rfl hl (Nat.le_of_ble_eq_true rfl) dX8_reads_50 ⟨Nat.le_of_ble_eq_true rfl, Nat.le_of_ble_eq_true rfl⟩ (fun H locs hH => ?_)
      refine lv_iload_n hx hb dX8_reads_53 rfl (lv_at hl 0 rfl) ?_
      obtain ⟨rfl, rfl, rfl, rfl, rfl, rfl, rfl⟩ := re7 hF
      exact hret _ _ _ _ hH dX8_reads_54
  refine lv_if_ne (tgt := 17) hx hb dX8_reads_6 rfl (fun c_48 => ?_) (fun c_48 => ?_)
  · have hF := itn c_48 hF
    refine lv_aload_n hx hb dX8_reads_17 rfl (lv_at hl 0 rfl) ?_
    refine mg_number hX hK hH dX8_reads_18 ?_
    refine lv_i2l (v := (Int32.toInt64 v_number)) hx hb dX8_reads_21 rfl ?_
    refine lv_iload_n hx hb dX8_reads_22 rfl (lv_at hl 1 rfl) ?_
    refine lv_i2l (v := (Int32.toInt64 p1)) hx hb dX8_reads_23 rfl ?_
    refine lv_iload_n hx hb dX8_reads_24 rfl (lv_at hl 2 rfl) ?_
    refine lv_i2l (v := (Int32.toInt64 p2)) hx hb dX8_reads_25 rfl ?_
    obtain ⟨b_51, he, hF⟩ := bd1e hF
    refine mcS hX hK hEv hE0 hH (met_X8_within hE he) gw_StoneYearModel_153 hd_yX8_within ⟨Nat.le_of_ble_eq_true rfl, Nat.le_of_ble_eq_true rfl⟩ rfl rfl hl (Nat.le_of_ble_eq_true rfl) dX8_reads_26 ⟨Nat.le_of_ble_eq_true rfl, Nat.le_of_ble_eq_true rfl⟩ (fun H locs hH => ?_)
    refine lv_if_ne (tgt := 37) hx hb dX8_reads_29 rfl (fun c_52 => ?_) (fun c_52 => ?_)
    · have hF := itn c_52 hF
      exact j37 v_wrong v_wrongAt hF _ _ _ hH (lv_sub hl [0] rfl)
    · have hF := itp c_52 hF
      refine lv_aload_n hx hb dX8_reads_32 rfl (lv_at hl 0 rfl) ?_
      refine lv_iconst (v := 3) hx hb dX8_reads_33 syi_3 ?_
      obtain ⟨v_wrong_53, v_wrongAt_54, he, hF⟩ := bd2e hF
      refine mcV hX hK hEv hE0 hH (met_X8_fails hE he) (mrecv hK hH) gw_StoneYearModel_149 hd_yX8_fails ⟨Nat.le_of_ble_eq_true rfl, Nat.le_of_ble_eq_true rfl⟩ rfl rfl hl (Nat.le_of_ble_eq_true rfl) dX8_reads_34 ⟨Nat.le_of_ble_eq_true rfl, Nat.le_of_ble_eq_true rfl⟩ (fun H locs hH => ?_)
      exact j37 v_wrong_53 v_wrongAt_54 hF _ _ _ hH (lv_sub hl [0] rfl)
  · have hF := itp c_48 hF
    refine lv_aload_n hx hb dX8_reads_9 rfl (lv_at hl 0 rfl) ?_
    refine lv_iconst (v := 2) hx hb dX8_reads_10 syi_2 ?_
    obtain ⟨v_wrong_49, v_wrongAt_50, he, hF⟩ := bd2e hF
    refine mcV hX hK hEv hE0 hH (met_X8_fails hE he) (mrecv hK hH) gw_StoneYearModel_149 hd_yX8_fails ⟨Nat.le_of_ble_eq_true rfl, Nat.le_of_ble_eq_true rfl⟩ rfl rfl hl (Nat.le_of_ble_eq_true rfl) dX8_reads_11 ⟨Nat.le_of_ble_eq_true rfl, Nat.le_of_ble_eq_true rfl⟩ (fun H locs hH => ?_)
    refine lv_goto (tgt := 37) hx hb dX8_reads_14 rfl ?_
    exact j37 v_wrong_49 v_wrongAt_50 hF _ _ _ hH (lv_sub hl [0] rfl)
abbrev rm_X8_readFact (d : Nat) : Room := { frames := 8 + 3 * d, cells := 0, slots := 0, locals := 170 + 62 * d }
abbrev rm_X8_readPart (d : Nat) : Room := { frames := 8 + 3 * d + 1, cells := 0, slots := 0, locals := 170 + 62 * d + 22 }
abbrev rm_X8_readTest (d : Nat) : Room := { frames := 8 + 3 * d + 2, cells := 0, slots := 0, locals := 170 + 62 * d + 42 }
abbrev rm_X8_readFact_b (d : Nat) : Room := rm_X8_readFact (d + 1)
set_option maxHeartbeats 4000000 in
theorem met_X8_readPart {l : Launch} {D : va_G} {ad : Nat → Nat} {cA : Nat → ClassId} {a_all : Nat → Int32} {a_hasImage : Nat → Int32} {a_tape : Nat → Int32} {a_fresh : Nat → Int32} {v_taped : Int32} {v_at : Int32} {v_behind : Int32} {v_size : Int32} {v_kind : Int32} {v_number : Int32} {v_wrong : Int32} {v_wrongAt : Int32} {v_depth : Int32} {v_steps : Int32} {v_faultKind : Int32} {v_faultPlace : Int32} {a_on : Nat → Int32} {a_many : Nat → Int32} {v_moved : Int32} {a_pile : Nat → Int32} {v_aside : Int32} {v_judgedBy : Int32} {v_judgedYear : Int32} {a_leastCost : Nat → Int32} {a_matched : Nat → Int32} {a_order : Nat → Int32} {a_lies : Nat → Int64} {a_movedThen : Nat → Int32} {a_yearTable : Nat → Int32} {a_yearMark : Nat → Int32} {a_beginTable : Nat → Int32} {a_beginMark : Nat → Int32} {v_statesTold : Int32} {v_found : Int32} {v_yearFrom : Int32} {v_mark : Int32} {v_beginsMark : Int32} {v_begins : Int32} {a_began : Nat → Int64} {v_isSpent : Int32} {a_wants : Nat → Int32} {a_rowSort : Nat → Int32} {a_rowMany : Nat → Int32} {a_numbers : Nat → Int64}   {ra_fresh : Nat → Int32} {rv_at : Int32} {rv_behind : Int32} {rv_kind : Int32} {rv_number : Int32} {rv_wrong : Int32} {rv_wrongAt : Int32} {rv_depth : Int32} {rv_steps : Int32} {ak av fo : Nat} {E : EvT} (hE : EvM E ak av fo)  (d : Nat) {rf : (Nat → Int32) → (Nat → Int32) → Int32 → Int32 → Int32 → Int32 → Int32 → Int32 → Int32 → Int32 → Int32 → Option ((Nat → Int32) × Int32 × Int32 × Int32 × Int32 × Int32 × Int32 × Int32 × Int32)} (hrf : ∀ {ad : Nat → Nat} {cA : Nat → ClassId} {a_all : Nat → Int32} {a_hasImage : Nat → Int32} {a_tape : Nat → Int32} {a_fresh : Nat → Int32} {v_taped : Int32} {v_at : Int32} {v_behind : Int32} {v_size : Int32} {v_kind : Int32} {v_number : Int32} {v_wrong : Int32} {v_wrongAt : Int32} {v_depth : Int32} {v_steps : Int32} {v_faultKind : Int32} {v_faultPlace : Int32} {a_on : Nat → Int32} {a_many : Nat → Int32} {v_moved : Int32} {a_pile : Nat → Int32} {v_aside : Int32} {v_judgedBy : Int32} {v_judgedYear : Int32} {a_leastCost : Nat → Int32} {a_matched : Nat → Int32} {a_order : Nat → Int32} {a_lies : Nat → Int64} {a_movedThen : Nat → Int32} {a_yearTable : Nat → Int32} {a_yearMark : Nat → Int32} {a_beginTable : Nat → Int32} {a_beginMark : Nat → Int32} {v_statesTold : Int32} {v_found : Int32} {v_yearFrom : Int32} {v_mark : Int32} {v_beginsMark : Int32} {v_begins : Int32} {a_began : Nat → Int64} {v_isSpent : Int32} {a_wants : Nat → Int32} {a_rowSort : Nat → Int32} {a_rowMany : Nat → Int32} {a_numbers : Nat → Int64}  {ra_fresh : Nat → Int32} {rv_at : Int32} {rv_behind : Int32} {rv_kind : Int32} {rv_number : Int32} {rv_wrong : Int32} {rv_wrongAt : Int32} {rv_depth : Int32} {rv_steps : Int32} , rf a_tape a_fresh v_at v_behind v_size v_kind v_number v_wrong v_wrongAt v_depth v_steps = some (ra_fresh, rv_at, rv_behind, rv_kind, rv_number, rv_wrong, rv_wrongAt, rv_depth, rv_steps) → MM l yX8_readFact (ws_ yX8_readFact cX8_readFact 3 (Option.none : Option Jvm.ClassFile.FieldType)) (rm_X8_readFact d) D vwA (mT cA) E [.ref (ad 0)] (mW ad cA a_all a_hasImage a_tape a_fresh v_taped v_at v_behind v_size v_kind v_number v_wrong v_wrongAt v_depth v_steps v_faultKind v_faultPlace a_on a_many v_moved a_pile v_aside v_judgedBy v_judgedYear a_leastCost a_matched a_order a_lies a_movedThen a_yearTable a_yearMark a_beginTable a_beginMark v_statesTold v_found v_yearFrom v_mark v_beginsMark v_begins a_began v_isSpent a_wants a_rowSort a_rowMany a_numbers) (mW ad cA a_all a_hasImage a_tape ra_fresh v_taped rv_at rv_behind v_size rv_kind rv_number rv_wrong rv_wrongAt rv_depth rv_steps v_faultKind v_faultPlace a_on a_many v_moved a_pile v_aside v_judgedBy v_judgedYear a_leastCost a_matched a_order a_lies a_movedThen a_yearTable a_yearMark a_beginTable a_beginMark v_statesTold v_found v_yearFrom v_mark v_beginsMark v_begins a_began v_isSpent a_wants a_rowSort a_rowMany a_numbers) none) (hF : FX8_readPart rf a_tape a_fresh v_at v_behind v_size v_kind v_number v_wrong v_wrongAt v_depth v_steps = some (ra_fresh, rv_at, rv_behind, rv_kind, rv_number, rv_wrong, rv_wrongAt, rv_depth, rv_steps)) : MM l yX8_readPart (ws_ yX8_readPart cX8_readPart 1 (Option.none : Option Jvm.ClassFile.FieldType)) (rm_X8_readPart d) D vwA (mT cA) E [.ref (ad 0)] (mW ad cA a_all a_hasImage a_tape a_fresh v_taped v_at v_behind v_size v_kind v_number v_wrong v_wrongAt v_depth v_steps v_faultKind v_faultPlace a_on a_many v_moved a_pile v_aside v_judgedBy v_judgedYear a_leastCost a_matched a_order a_lies a_movedThen a_yearTable a_yearMark a_beginTable a_beginMark v_statesTold v_found v_yearFrom v_mark v_beginsMark v_begins a_began v_isSpent a_wants a_rowSort a_rowMany a_numbers) (mW ad cA a_all a_hasImage a_tape ra_fresh v_taped rv_at rv_behind v_size rv_kind rv_number rv_wrong rv_wrongAt rv_depth rv_steps v_faultKind v_faultPlace a_on a_many v_moved a_pile v_aside v_judgedBy v_judgedYear a_leastCost a_matched a_order a_lies a_movedThen a_yearTable a_yearMark a_beginTable a_beginMark v_statesTold v_found v_yearFrom v_mark v_beginsMark v_begins a_began v_isSpent a_wants a_rowSort a_rowMany a_numbers) none := by
  refine MM.ofV (by decide) (Nat.le_of_ble_eq_true rfl) ?_
  intro p e s m args below meth c Q A hX hK hE0 hret H locs ls hH hl
  have hX : CallFix p m c cX8_readPart 1 s args lw_all RX8 := hX
  have hx := hX.1
  have hb := hX.2.1
  have hown := hX.2.2.2.1
  have hts := hX.2.2.2.2
  have hl : lv_has ls 1 [(0, .ref (ad 0))] := hl
  have hEv := hE.1
  delta FX8_readPart at hF
  refine lv_aload_n hx hb dX8_readPart_0 rfl (lv_at hl 0 rfl) ?_
  obtain ⟨a_fresh_45, v_at_46, v_behind_47, v_kind_48, v_number_49, v_wrong_50, v_wrongAt_51, v_depth_52, v_steps_53, he, hF⟩ := bd9e hF
  refine mcV hX hK hEv hE0 hH (hrf he) (mrecv hK hH) gw_StoneYearModel_189 hd_yX8_readFact ⟨by dsimp only [rm_X8_readFact, rm_X8_readPart]; omega, by dsimp only [rm_X8_readFact, rm_X8_readPart]; omega⟩ rfl rfl hl (Nat.le_of_ble_eq_true rfl) dX8_readPart_1 ⟨Nat.le_of_ble_eq_true rfl, Nat.le_of_ble_eq_true rfl⟩ (fun H locs hH => ?_)
  obtain ⟨xx4, ee4, kk4_0⟩ := bd9L hF
  have k4_0 : ∀ (a_fresh_99 : Nat → Int32) (v_at_100 : Int32) (v_behind_101 : Int32) (v_kind_102 : Int32) (v_number_103 : Int32) (v_wrong_104 : Int32) (v_wrongAt_105 : Int32) (v_depth_106 : Int32) (v_steps_107 : Int32), xx4 = (a_fresh_99, v_at_100, v_behind_101, v_kind_102, v_number_103, v_wrong_104, v_wrongAt_105, v_depth_106, v_steps_107) → ∀ (H : Heap) (locs : List Loc) (ls : Array Slot), MH D vwA A s.heap (mW ad cA a_all a_hasImage a_tape a_fresh_99 v_taped v_at_100 v_behind_101 v_size v_kind_102 v_number_103 v_wrong_104 v_wrongAt_105 v_depth_106 v_steps_107 v_faultKind v_faultPlace a_on a_many v_moved a_pile v_aside v_judgedBy v_judgedYear a_leastCost a_matched a_order a_lies a_movedThen a_yearTable a_yearMark a_beginTable a_beginMark v_statesTold v_found v_yearFrom v_mark v_beginsMark v_begins a_began v_isSpent a_wants a_rowSort a_rowMany a_numbers) H locs → lv_has ls 1 [] → W p l e (rm_X8_readPart d) s m args below meth c H locs 0 0 Q (F0 m 34 ls []) := by
    intro a_fresh_99 v_at_100 v_behind_101 v_kind_102 v_number_103 v_wrong_104 v_wrongAt_105 v_depth_106 v_steps_107 hxx H locs ls hH hl
    have hF := un9e (kk4_0 (a_fresh_99, v_at_100, v_behind_101, v_kind_102, v_number_103, v_wrong_104, v_wrongAt_105, v_depth_106, v_steps_107) hxx)
    obtain ⟨rfl, rfl, rfl, rfl, rfl, rfl, rfl, rfl, rfl⟩ := re9 hF
    exact hret _ _ _ _ hH dX8_readPart_34
  obtain ⟨nn4, en4⟩ := loopC_some ee4
  have l4 : ∀ (n : Nat) (a_fresh_72 : Nat → Int32) (v_at_73 : Int32) (v_behind_74 : Int32) (v_kind_75 : Int32) (v_number_76 : Int32) (v_wrong_77 : Int32) (v_wrongAt_78 : Int32) (v_depth_79 : Int32) (v_steps_80 : Int32), loopN (fun s => FX8_readPart_b4 rf a_tape v_size s.1 s.2.1 s.2.2.1 s.2.2.2.1 s.2.2.2.2.1 s.2.2.2.2.2.1 s.2.2.2.2.2.2.1 s.2.2.2.2.2.2.2.1 s.2.2.2.2.2.2.2.2) n (a_fresh_72, v_at_73, v_behind_74, v_kind_75, v_number_76, v_wrong_77, v_wrongAt_78, v_depth_79, v_steps_80) = some xx4 → ∀ (H : Heap) (locs : List Loc) (ls : Array Slot), MH D vwA A s.heap (mW ad cA a_all a_hasImage a_tape a_fresh_72 v_taped v_at_73 v_behind_74 v_size v_kind_75 v_number_76 v_wrong_77 v_wrongAt_78 v_depth_79 v_steps_80 v_faultKind v_faultPlace a_on a_many v_moved a_pile v_aside v_judgedBy v_judgedYear a_leastCost a_matched a_order a_lies a_movedThen a_yearTable a_yearMark a_beginTable a_beginMark v_statesTold v_found v_yearFrom v_mark v_beginsMark v_begins a_began v_isSpent a_wants a_rowSort a_rowMany a_numbers) H locs → lv_has ls 1 [(0, .ref (ad 0))] → W p l e (rm_X8_readPart d) s m args below meth c H locs 0 0 Q (F0 m 4 ls []) := by
    intro n
    induction n with
    | zero =>
      intro a_fresh_72 v_at_73 v_behind_74 v_kind_75 v_number_76 v_wrong_77 v_wrongAt_78 v_depth_79 v_steps_80 hN
      exact absurd hN loopN_zero
    | succ n ih =>
      intro a_fresh_72 v_at_73 v_behind_74 v_kind_75 v_number_76 v_wrong_77 v_wrongAt_78 v_depth_79 v_steps_80 hN H locs ls hH hl
      obtain ⟨yy4, hB4, hY4⟩ := loopN_succ hN
      have hF : FX8_readPart_b4 rf a_tape v_size a_fresh_72 v_at_73 v_behind_74 v_kind_75 v_number_76 v_wrong_77 v_wrongAt_78 v_depth_79 v_steps_80 = some yy4 := hB4
      delta FX8_readPart_b4 at hF
      refine lv_aload_n hx hb dX8_readPart_4 rfl (lv_at hl 0 rfl) ?_
      refine lv_bipush (v := 17) hx hb dX8_readPart_5 syb_17 ?_
      obtain ⟨b_81, v_at_82, v_behind_83, v_kind_84, v_number_85, he, hF⟩ := bd5e hF
      refine mcV hX hK hEv hE0 hH (met_X8_eats hE he) (mrecv hK hH) gw_StoneYearModel_146 hd_yX8_eats ⟨by dsimp only [rm_X8_eats, rm_X8_readPart]; omega, by dsimp only [rm_X8_eats, rm_X8_readPart]; omega⟩ rfl rfl hl (Nat.le_of_ble_eq_true rfl) dX8_readPart_7 ⟨Nat.le_of_ble_eq_true rfl, Nat.le_of_ble_eq_true rfl⟩ (fun H locs hH => ?_)
      refine lv_if_eq (tgt := 34) hx hb dX8_readPart_10 rfl (fun c_86 => ?_) (fun c_86 => ?_)
      · have hF := itp c_86 hF
        obtain rfl := Option.some.inj hF
        exact k4_0 a_fresh_72 v_at_82 v_behind_83 v_kind_84 v_number_85 v_wrong_77 v_wrongAt_78 v_depth_79 v_steps_80 hY4 _ _ _ hH (lv_sub hl [] rfl)
      · have hF := itn c_86 hF
        refine lv_aload_n hx hb dX8_readPart_13 rfl (lv_at hl 0 rfl) ?_
        obtain ⟨a_fresh_87, v_at_88, v_behind_89, v_kind_90, v_number_91, v_wrong_92, v_wrongAt_93, v_depth_94, v_steps_95, he, hF⟩ := bd9e hF
        refine mcV hX hK hEv hE0 hH (hrf he) (mrecv hK hH) gw_StoneYearModel_189 hd_yX8_readFact ⟨by dsimp only [rm_X8_readFact, rm_X8_readPart]; omega, by dsimp only [rm_X8_readFact, rm_X8_readPart]; omega⟩ rfl rfl hl (Nat.le_of_ble_eq_true rfl) dX8_readPart_14 ⟨Nat.le_of_ble_eq_true rfl, Nat.le_of_ble_eq_true rfl⟩ (fun H locs hH => ?_)
        refine lv_aload_n hx hb dX8_readPart_17 rfl (lv_at hl 0 rfl) ?_
        refine mg_wrong hX hK hH dX8_readPart_18 ?_
        refine lv_if_ne (tgt := 4) hx hb dX8_readPart_21 rfl (fun c_96 => ?_) (fun c_96 => ?_)
        · have hF := itn c_96 hF
          obtain rfl := Option.some.inj hF
          exact ih a_fresh_87 v_at_88 v_behind_89 v_kind_90 v_number_91 v_wrong_92 v_wrongAt_93 v_depth_94 v_steps_95 hY4 _ _ _ hH (lv_sub hl [0] rfl)
        · have hF := itp c_96 hF
          refine lv_aload_n hx hb dX8_readPart_24 rfl (lv_at hl 0 rfl) ?_
          refine lv_bipush (v := 17) hx hb dX8_readPart_25 syb_17 ?_
          refine lv_iconst (v := 0) hx hb dX8_readPart_27 syi_0 ?_
          obtain ⟨a_fresh_97, v_steps_98, he, hF⟩ := bd2e hF
          refine mcV hX hK hEv hE0 hH (met_X8_emit hE he) (mrecv hK hH) gw_StoneYearModel_185 hd_yX8_emit ⟨by dsimp only [rm_X8_emit, rm_X8_readPart]; omega, by dsimp only [rm_X8_emit, rm_X8_readPart]; omega⟩ rfl rfl hl (Nat.le_of_ble_eq_true rfl) dX8_readPart_28 ⟨Nat.le_of_ble_eq_true rfl, Nat.le_of_ble_eq_true rfl⟩ (fun H locs hH => ?_)
          refine lv_goto (tgt := 4) hx hb dX8_readPart_31 rfl ?_
          obtain rfl := Option.some.inj hF
          exact ih a_fresh_97 v_at_88 v_behind_89 v_kind_90 v_number_91 v_wrong_92 v_wrongAt_93 v_depth_94 v_steps_98 hY4 _ _ _ hH (lv_sub hl [0] rfl)
  exact l4 nn4 a_fresh_45 v_at_46 v_behind_47 v_kind_48 v_number_49 v_wrong_50 v_wrongAt_51 v_depth_52 v_steps_53 en4 _ _ _ hH (lv_sub hl [0] rfl)
set_option maxHeartbeats 4000000 in
theorem met_X8_readTest {l : Launch} {D : va_G} {ad : Nat → Nat} {cA : Nat → ClassId} {a_all : Nat → Int32} {a_hasImage : Nat → Int32} {a_tape : Nat → Int32} {a_fresh : Nat → Int32} {v_taped : Int32} {v_at : Int32} {v_behind : Int32} {v_size : Int32} {v_kind : Int32} {v_number : Int32} {v_wrong : Int32} {v_wrongAt : Int32} {v_depth : Int32} {v_steps : Int32} {v_faultKind : Int32} {v_faultPlace : Int32} {a_on : Nat → Int32} {a_many : Nat → Int32} {v_moved : Int32} {a_pile : Nat → Int32} {v_aside : Int32} {v_judgedBy : Int32} {v_judgedYear : Int32} {a_leastCost : Nat → Int32} {a_matched : Nat → Int32} {a_order : Nat → Int32} {a_lies : Nat → Int64} {a_movedThen : Nat → Int32} {a_yearTable : Nat → Int32} {a_yearMark : Nat → Int32} {a_beginTable : Nat → Int32} {a_beginMark : Nat → Int32} {v_statesTold : Int32} {v_found : Int32} {v_yearFrom : Int32} {v_mark : Int32} {v_beginsMark : Int32} {v_begins : Int32} {a_began : Nat → Int64} {v_isSpent : Int32} {a_wants : Nat → Int32} {a_rowSort : Nat → Int32} {a_rowMany : Nat → Int32} {a_numbers : Nat → Int64}   {ra_fresh : Nat → Int32} {rv_at : Int32} {rv_behind : Int32} {rv_kind : Int32} {rv_number : Int32} {rv_wrong : Int32} {rv_wrongAt : Int32} {rv_depth : Int32} {rv_steps : Int32} {ak av fo : Nat} {E : EvT} (hE : EvM E ak av fo)  (d : Nat) {rf : (Nat → Int32) → (Nat → Int32) → Int32 → Int32 → Int32 → Int32 → Int32 → Int32 → Int32 → Int32 → Int32 → Option ((Nat → Int32) × Int32 × Int32 × Int32 × Int32 × Int32 × Int32 × Int32 × Int32)} (hrf : ∀ {ad : Nat → Nat} {cA : Nat → ClassId} {a_all : Nat → Int32} {a_hasImage : Nat → Int32} {a_tape : Nat → Int32} {a_fresh : Nat → Int32} {v_taped : Int32} {v_at : Int32} {v_behind : Int32} {v_size : Int32} {v_kind : Int32} {v_number : Int32} {v_wrong : Int32} {v_wrongAt : Int32} {v_depth : Int32} {v_steps : Int32} {v_faultKind : Int32} {v_faultPlace : Int32} {a_on : Nat → Int32} {a_many : Nat → Int32} {v_moved : Int32} {a_pile : Nat → Int32} {v_aside : Int32} {v_judgedBy : Int32} {v_judgedYear : Int32} {a_leastCost : Nat → Int32} {a_matched : Nat → Int32} {a_order : Nat → Int32} {a_lies : Nat → Int64} {a_movedThen : Nat → Int32} {a_yearTable : Nat → Int32} {a_yearMark : Nat → Int32} {a_beginTable : Nat → Int32} {a_beginMark : Nat → Int32} {v_statesTold : Int32} {v_found : Int32} {v_yearFrom : Int32} {v_mark : Int32} {v_beginsMark : Int32} {v_begins : Int32} {a_began : Nat → Int64} {v_isSpent : Int32} {a_wants : Nat → Int32} {a_rowSort : Nat → Int32} {a_rowMany : Nat → Int32} {a_numbers : Nat → Int64}  {ra_fresh : Nat → Int32} {rv_at : Int32} {rv_behind : Int32} {rv_kind : Int32} {rv_number : Int32} {rv_wrong : Int32} {rv_wrongAt : Int32} {rv_depth : Int32} {rv_steps : Int32} , rf a_tape a_fresh v_at v_behind v_size v_kind v_number v_wrong v_wrongAt v_depth v_steps = some (ra_fresh, rv_at, rv_behind, rv_kind, rv_number, rv_wrong, rv_wrongAt, rv_depth, rv_steps) → MM l yX8_readFact (ws_ yX8_readFact cX8_readFact 3 (Option.none : Option Jvm.ClassFile.FieldType)) (rm_X8_readFact d) D vwA (mT cA) E [.ref (ad 0)] (mW ad cA a_all a_hasImage a_tape a_fresh v_taped v_at v_behind v_size v_kind v_number v_wrong v_wrongAt v_depth v_steps v_faultKind v_faultPlace a_on a_many v_moved a_pile v_aside v_judgedBy v_judgedYear a_leastCost a_matched a_order a_lies a_movedThen a_yearTable a_yearMark a_beginTable a_beginMark v_statesTold v_found v_yearFrom v_mark v_beginsMark v_begins a_began v_isSpent a_wants a_rowSort a_rowMany a_numbers) (mW ad cA a_all a_hasImage a_tape ra_fresh v_taped rv_at rv_behind v_size rv_kind rv_number rv_wrong rv_wrongAt rv_depth rv_steps v_faultKind v_faultPlace a_on a_many v_moved a_pile v_aside v_judgedBy v_judgedYear a_leastCost a_matched a_order a_lies a_movedThen a_yearTable a_yearMark a_beginTable a_beginMark v_statesTold v_found v_yearFrom v_mark v_beginsMark v_begins a_began v_isSpent a_wants a_rowSort a_rowMany a_numbers) none) (hF : FX8_readTest rf a_tape a_fresh v_at v_behind v_size v_kind v_number v_wrong v_wrongAt v_depth v_steps = some (ra_fresh, rv_at, rv_behind, rv_kind, rv_number, rv_wrong, rv_wrongAt, rv_depth, rv_steps)) : MM l yX8_readTest (ws_ yX8_readTest cX8_readTest 1 (Option.none : Option Jvm.ClassFile.FieldType)) (rm_X8_readTest d) D vwA (mT cA) E [.ref (ad 0)] (mW ad cA a_all a_hasImage a_tape a_fresh v_taped v_at v_behind v_size v_kind v_number v_wrong v_wrongAt v_depth v_steps v_faultKind v_faultPlace a_on a_many v_moved a_pile v_aside v_judgedBy v_judgedYear a_leastCost a_matched a_order a_lies a_movedThen a_yearTable a_yearMark a_beginTable a_beginMark v_statesTold v_found v_yearFrom v_mark v_beginsMark v_begins a_began v_isSpent a_wants a_rowSort a_rowMany a_numbers) (mW ad cA a_all a_hasImage a_tape ra_fresh v_taped rv_at rv_behind v_size rv_kind rv_number rv_wrong rv_wrongAt rv_depth rv_steps v_faultKind v_faultPlace a_on a_many v_moved a_pile v_aside v_judgedBy v_judgedYear a_leastCost a_matched a_order a_lies a_movedThen a_yearTable a_yearMark a_beginTable a_beginMark v_statesTold v_found v_yearFrom v_mark v_beginsMark v_begins a_began v_isSpent a_wants a_rowSort a_rowMany a_numbers) none := by
  refine MM.ofV (by decide) (Nat.le_of_ble_eq_true rfl) ?_
  intro p e s m args below meth c Q A hX hK hE0 hret H locs ls hH hl
  have hX : CallFix p m c cX8_readTest 1 s args lw_all RX8 := hX
  have hx := hX.1
  have hb := hX.2.1
  have hown := hX.2.2.2.1
  have hts := hX.2.2.2.2
  have hl : lv_has ls 1 [(0, .ref (ad 0))] := hl
  have hEv := hE.1
  delta FX8_readTest at hF
  refine lv_aload_n hx hb dX8_readTest_0 rfl (lv_at hl 0 rfl) ?_
  obtain ⟨a_fresh_45, v_at_46, v_behind_47, v_kind_48, v_number_49, v_wrong_50, v_wrongAt_51, v_depth_52, v_steps_53, he, hF⟩ := bd9e hF
  refine mcV hX hK hEv hE0 hH (met_X8_readPart hE d hrf he) (mrecv hK hH) gw_StoneYearModel_182 hd_yX8_readPart ⟨by dsimp only [rm_X8_readPart, rm_X8_readTest]; omega, by dsimp only [rm_X8_readPart, rm_X8_readTest]; omega⟩ rfl rfl hl (Nat.le_of_ble_eq_true rfl) dX8_readTest_1 ⟨Nat.le_of_ble_eq_true rfl, Nat.le_of_ble_eq_true rfl⟩ (fun H locs hH => ?_)
  obtain ⟨xx4, ee4, kk4_0⟩ := bd9L hF
  have k4_0 : ∀ (a_fresh_99 : Nat → Int32) (v_at_100 : Int32) (v_behind_101 : Int32) (v_kind_102 : Int32) (v_number_103 : Int32) (v_wrong_104 : Int32) (v_wrongAt_105 : Int32) (v_depth_106 : Int32) (v_steps_107 : Int32), xx4 = (a_fresh_99, v_at_100, v_behind_101, v_kind_102, v_number_103, v_wrong_104, v_wrongAt_105, v_depth_106, v_steps_107) → ∀ (H : Heap) (locs : List Loc) (ls : Array Slot), MH D vwA A s.heap (mW ad cA a_all a_hasImage a_tape a_fresh_99 v_taped v_at_100 v_behind_101 v_size v_kind_102 v_number_103 v_wrong_104 v_wrongAt_105 v_depth_106 v_steps_107 v_faultKind v_faultPlace a_on a_many v_moved a_pile v_aside v_judgedBy v_judgedYear a_leastCost a_matched a_order a_lies a_movedThen a_yearTable a_yearMark a_beginTable a_beginMark v_statesTold v_found v_yearFrom v_mark v_beginsMark v_begins a_began v_isSpent a_wants a_rowSort a_rowMany a_numbers) H locs → lv_has ls 1 [] → W p l e (rm_X8_readTest d) s m args below meth c H locs 0 0 Q (F0 m 34 ls []) := by
    intro a_fresh_99 v_at_100 v_behind_101 v_kind_102 v_number_103 v_wrong_104 v_wrongAt_105 v_depth_106 v_steps_107 hxx H locs ls hH hl
    have hF := un9e (kk4_0 (a_fresh_99, v_at_100, v_behind_101, v_kind_102, v_number_103, v_wrong_104, v_wrongAt_105, v_depth_106, v_steps_107) hxx)
    obtain ⟨rfl, rfl, rfl, rfl, rfl, rfl, rfl, rfl, rfl⟩ := re9 hF
    exact hret _ _ _ _ hH dX8_readTest_34
  obtain ⟨nn4, en4⟩ := loopC_some ee4
  have l4 : ∀ (n : Nat) (a_fresh_72 : Nat → Int32) (v_at_73 : Int32) (v_behind_74 : Int32) (v_kind_75 : Int32) (v_number_76 : Int32) (v_wrong_77 : Int32) (v_wrongAt_78 : Int32) (v_depth_79 : Int32) (v_steps_80 : Int32), loopN (fun s => FX8_readTest_b4 rf a_tape v_size s.1 s.2.1 s.2.2.1 s.2.2.2.1 s.2.2.2.2.1 s.2.2.2.2.2.1 s.2.2.2.2.2.2.1 s.2.2.2.2.2.2.2.1 s.2.2.2.2.2.2.2.2) n (a_fresh_72, v_at_73, v_behind_74, v_kind_75, v_number_76, v_wrong_77, v_wrongAt_78, v_depth_79, v_steps_80) = some xx4 → ∀ (H : Heap) (locs : List Loc) (ls : Array Slot), MH D vwA A s.heap (mW ad cA a_all a_hasImage a_tape a_fresh_72 v_taped v_at_73 v_behind_74 v_size v_kind_75 v_number_76 v_wrong_77 v_wrongAt_78 v_depth_79 v_steps_80 v_faultKind v_faultPlace a_on a_many v_moved a_pile v_aside v_judgedBy v_judgedYear a_leastCost a_matched a_order a_lies a_movedThen a_yearTable a_yearMark a_beginTable a_beginMark v_statesTold v_found v_yearFrom v_mark v_beginsMark v_begins a_began v_isSpent a_wants a_rowSort a_rowMany a_numbers) H locs → lv_has ls 1 [(0, .ref (ad 0))] → W p l e (rm_X8_readTest d) s m args below meth c H locs 0 0 Q (F0 m 4 ls []) := by
    intro n
    induction n with
    | zero =>
      intro a_fresh_72 v_at_73 v_behind_74 v_kind_75 v_number_76 v_wrong_77 v_wrongAt_78 v_depth_79 v_steps_80 hN
      exact absurd hN loopN_zero
    | succ n ih =>
      intro a_fresh_72 v_at_73 v_behind_74 v_kind_75 v_number_76 v_wrong_77 v_wrongAt_78 v_depth_79 v_steps_80 hN H locs ls hH hl
      obtain ⟨yy4, hB4, hY4⟩ := loopN_succ hN
      have hF : FX8_readTest_b4 rf a_tape v_size a_fresh_72 v_at_73 v_behind_74 v_kind_75 v_number_76 v_wrong_77 v_wrongAt_78 v_depth_79 v_steps_80 = some yy4 := hB4
      delta FX8_readTest_b4 at hF
      refine lv_aload_n hx hb dX8_readTest_4 rfl (lv_at hl 0 rfl) ?_
      refine lv_bipush (v := 16) hx hb dX8_readTest_5 syb_16 ?_
      obtain ⟨b_81, v_at_82, v_behind_83, v_kind_84, v_number_85, he, hF⟩ := bd5e hF
      refine mcV hX hK hEv hE0 hH (met_X8_eats hE he) (mrecv hK hH) gw_StoneYearModel_146 hd_yX8_eats ⟨by dsimp only [rm_X8_eats, rm_X8_readTest]; omega, by dsimp only [rm_X8_eats, rm_X8_readTest]; omega⟩ rfl rfl hl (Nat.le_of_ble_eq_true rfl) dX8_readTest_7 ⟨Nat.le_of_ble_eq_true rfl, Nat.le_of_ble_eq_true rfl⟩ (fun H locs hH => ?_)
      refine lv_if_eq (tgt := 34) hx hb dX8_readTest_10 rfl (fun c_86 => ?_) (fun c_86 => ?_)
      · have hF := itp c_86 hF
        obtain rfl := Option.some.inj hF
        exact k4_0 a_fresh_72 v_at_82 v_behind_83 v_kind_84 v_number_85 v_wrong_77 v_wrongAt_78 v_depth_79 v_steps_80 hY4 _ _ _ hH (lv_sub hl [] rfl)
      · have hF := itn c_86 hF
        refine lv_aload_n hx hb dX8_readTest_13 rfl (lv_at hl 0 rfl) ?_
        obtain ⟨a_fresh_87, v_at_88, v_behind_89, v_kind_90, v_number_91, v_wrong_92, v_wrongAt_93, v_depth_94, v_steps_95, he, hF⟩ := bd9e hF
        refine mcV hX hK hEv hE0 hH (met_X8_readPart hE d hrf he) (mrecv hK hH) gw_StoneYearModel_182 hd_yX8_readPart ⟨by dsimp only [rm_X8_readPart, rm_X8_readTest]; omega, by dsimp only [rm_X8_readPart, rm_X8_readTest]; omega⟩ rfl rfl hl (Nat.le_of_ble_eq_true rfl) dX8_readTest_14 ⟨Nat.le_of_ble_eq_true rfl, Nat.le_of_ble_eq_true rfl⟩ (fun H locs hH => ?_)
        refine lv_aload_n hx hb dX8_readTest_17 rfl (lv_at hl 0 rfl) ?_
        refine mg_wrong hX hK hH dX8_readTest_18 ?_
        refine lv_if_ne (tgt := 4) hx hb dX8_readTest_21 rfl (fun c_96 => ?_) (fun c_96 => ?_)
        · have hF := itn c_96 hF
          obtain rfl := Option.some.inj hF
          exact ih a_fresh_87 v_at_88 v_behind_89 v_kind_90 v_number_91 v_wrong_92 v_wrongAt_93 v_depth_94 v_steps_95 hY4 _ _ _ hH (lv_sub hl [0] rfl)
        · have hF := itp c_96 hF
          refine lv_aload_n hx hb dX8_readTest_24 rfl (lv_at hl 0 rfl) ?_
          refine lv_bipush (v := 16) hx hb dX8_readTest_25 syb_16 ?_
          refine lv_iconst (v := 0) hx hb dX8_readTest_27 syi_0 ?_
          obtain ⟨a_fresh_97, v_steps_98, he, hF⟩ := bd2e hF
          refine mcV hX hK hEv hE0 hH (met_X8_emit hE he) (mrecv hK hH) gw_StoneYearModel_185 hd_yX8_emit ⟨by dsimp only [rm_X8_emit, rm_X8_readTest]; omega, by dsimp only [rm_X8_emit, rm_X8_readTest]; omega⟩ rfl rfl hl (Nat.le_of_ble_eq_true rfl) dX8_readTest_28 ⟨Nat.le_of_ble_eq_true rfl, Nat.le_of_ble_eq_true rfl⟩ (fun H locs hH => ?_)
          refine lv_goto (tgt := 4) hx hb dX8_readTest_31 rfl ?_
          obtain rfl := Option.some.inj hF
          exact ih a_fresh_97 v_at_88 v_behind_89 v_kind_90 v_number_91 v_wrong_92 v_wrongAt_93 v_depth_94 v_steps_98 hY4 _ _ _ hH (lv_sub hl [0] rfl)
  exact l4 nn4 a_fresh_45 v_at_46 v_behind_47 v_kind_48 v_number_49 v_wrong_50 v_wrongAt_51 v_depth_52 v_steps_53 en4 _ _ _ hH (lv_sub hl [0] rfl)
set_option maxHeartbeats 4000000 in
theorem met_X8_readFact_b {l : Launch} {D : va_G} {ad : Nat → Nat} {cA : Nat → ClassId} {a_all : Nat → Int32} {a_hasImage : Nat → Int32} {a_tape : Nat → Int32} {a_fresh : Nat → Int32} {v_taped : Int32} {v_at : Int32} {v_behind : Int32} {v_size : Int32} {v_kind : Int32} {v_number : Int32} {v_wrong : Int32} {v_wrongAt : Int32} {v_depth : Int32} {v_steps : Int32} {v_faultKind : Int32} {v_faultPlace : Int32} {a_on : Nat → Int32} {a_many : Nat → Int32} {v_moved : Int32} {a_pile : Nat → Int32} {v_aside : Int32} {v_judgedBy : Int32} {v_judgedYear : Int32} {a_leastCost : Nat → Int32} {a_matched : Nat → Int32} {a_order : Nat → Int32} {a_lies : Nat → Int64} {a_movedThen : Nat → Int32} {a_yearTable : Nat → Int32} {a_yearMark : Nat → Int32} {a_beginTable : Nat → Int32} {a_beginMark : Nat → Int32} {v_statesTold : Int32} {v_found : Int32} {v_yearFrom : Int32} {v_mark : Int32} {v_beginsMark : Int32} {v_begins : Int32} {a_began : Nat → Int64} {v_isSpent : Int32} {a_wants : Nat → Int32} {a_rowSort : Nat → Int32} {a_rowMany : Nat → Int32} {a_numbers : Nat → Int64}   {ra_fresh : Nat → Int32} {rv_at : Int32} {rv_behind : Int32} {rv_kind : Int32} {rv_number : Int32} {rv_wrong : Int32} {rv_wrongAt : Int32} {rv_depth : Int32} {rv_steps : Int32} {ak av fo : Nat} {E : EvT} (hE : EvM E ak av fo)  (d : Nat) {rf : (Nat → Int32) → (Nat → Int32) → Int32 → Int32 → Int32 → Int32 → Int32 → Int32 → Int32 → Int32 → Int32 → Option ((Nat → Int32) × Int32 × Int32 × Int32 × Int32 × Int32 × Int32 × Int32 × Int32)} (hrf : ∀ {ad : Nat → Nat} {cA : Nat → ClassId} {a_all : Nat → Int32} {a_hasImage : Nat → Int32} {a_tape : Nat → Int32} {a_fresh : Nat → Int32} {v_taped : Int32} {v_at : Int32} {v_behind : Int32} {v_size : Int32} {v_kind : Int32} {v_number : Int32} {v_wrong : Int32} {v_wrongAt : Int32} {v_depth : Int32} {v_steps : Int32} {v_faultKind : Int32} {v_faultPlace : Int32} {a_on : Nat → Int32} {a_many : Nat → Int32} {v_moved : Int32} {a_pile : Nat → Int32} {v_aside : Int32} {v_judgedBy : Int32} {v_judgedYear : Int32} {a_leastCost : Nat → Int32} {a_matched : Nat → Int32} {a_order : Nat → Int32} {a_lies : Nat → Int64} {a_movedThen : Nat → Int32} {a_yearTable : Nat → Int32} {a_yearMark : Nat → Int32} {a_beginTable : Nat → Int32} {a_beginMark : Nat → Int32} {v_statesTold : Int32} {v_found : Int32} {v_yearFrom : Int32} {v_mark : Int32} {v_beginsMark : Int32} {v_begins : Int32} {a_began : Nat → Int64} {v_isSpent : Int32} {a_wants : Nat → Int32} {a_rowSort : Nat → Int32} {a_rowMany : Nat → Int32} {a_numbers : Nat → Int64}  {ra_fresh : Nat → Int32} {rv_at : Int32} {rv_behind : Int32} {rv_kind : Int32} {rv_number : Int32} {rv_wrong : Int32} {rv_wrongAt : Int32} {rv_depth : Int32} {rv_steps : Int32} , rf a_tape a_fresh v_at v_behind v_size v_kind v_number v_wrong v_wrongAt v_depth v_steps = some (ra_fresh, rv_at, rv_behind, rv_kind, rv_number, rv_wrong, rv_wrongAt, rv_depth, rv_steps) → MM l yX8_readFact (ws_ yX8_readFact cX8_readFact 3 (Option.none : Option Jvm.ClassFile.FieldType)) (rm_X8_readFact d) D vwA (mT cA) E [.ref (ad 0)] (mW ad cA a_all a_hasImage a_tape a_fresh v_taped v_at v_behind v_size v_kind v_number v_wrong v_wrongAt v_depth v_steps v_faultKind v_faultPlace a_on a_many v_moved a_pile v_aside v_judgedBy v_judgedYear a_leastCost a_matched a_order a_lies a_movedThen a_yearTable a_yearMark a_beginTable a_beginMark v_statesTold v_found v_yearFrom v_mark v_beginsMark v_begins a_began v_isSpent a_wants a_rowSort a_rowMany a_numbers) (mW ad cA a_all a_hasImage a_tape ra_fresh v_taped rv_at rv_behind v_size rv_kind rv_number rv_wrong rv_wrongAt rv_depth rv_steps v_faultKind v_faultPlace a_on a_many v_moved a_pile v_aside v_judgedBy v_judgedYear a_leastCost a_matched a_order a_lies a_movedThen a_yearTable a_yearMark a_beginTable a_beginMark v_statesTold v_found v_yearFrom v_mark v_beginsMark v_begins a_began v_isSpent a_wants a_rowSort a_rowMany a_numbers) none) (hF : FX8_readFact_b rf a_tape a_fresh v_at v_behind v_size v_kind v_number v_wrong v_wrongAt v_depth v_steps = some (ra_fresh, rv_at, rv_behind, rv_kind, rv_number, rv_wrong, rv_wrongAt, rv_depth, rv_steps)) : MM l yX8_readFact (ws_ yX8_readFact cX8_readFact 3 (Option.none : Option Jvm.ClassFile.FieldType)) (rm_X8_readFact (d + 1)) D vwA (mT cA) E [.ref (ad 0)] (mW ad cA a_all a_hasImage a_tape a_fresh v_taped v_at v_behind v_size v_kind v_number v_wrong v_wrongAt v_depth v_steps v_faultKind v_faultPlace a_on a_many v_moved a_pile v_aside v_judgedBy v_judgedYear a_leastCost a_matched a_order a_lies a_movedThen a_yearTable a_yearMark a_beginTable a_beginMark v_statesTold v_found v_yearFrom v_mark v_beginsMark v_begins a_began v_isSpent a_wants a_rowSort a_rowMany a_numbers) (mW ad cA a_all a_hasImage a_tape ra_fresh v_taped rv_at rv_behind v_size rv_kind rv_number rv_wrong rv_wrongAt rv_depth rv_steps v_faultKind v_faultPlace a_on a_many v_moved a_pile v_aside v_judgedBy v_judgedYear a_leastCost a_matched a_order a_lies a_movedThen a_yearTable a_yearMark a_beginTable a_beginMark v_statesTold v_found v_yearFrom v_mark v_beginsMark v_begins a_began v_isSpent a_wants a_rowSort a_rowMany a_numbers) none := by
  refine MM.ofV (by decide) (Nat.le_of_ble_eq_true rfl) ?_
  intro p e s m args below meth c Q A hX hK hE0 hret H locs ls hH hl
  have hX : CallFix p m c cX8_readFact 3 s args lw_all RX8 := hX
  have hx := hX.1
  have hb := hX.2.1
  have hown := hX.2.2.2.1
  have hts := hX.2.2.2.2
  have hl : lv_has ls 3 [(0, .ref (ad 0))] := hl
  have hEv := hE.1
  delta FX8_readFact_b at hF
  refine lv_aload_n hx hb dX8_readFact_0 rfl (lv_at hl 0 rfl) ?_
  refine mg_wrong hX hK hH dX8_readFact_1 ?_
  refine lv_if_eq (tgt := 8) hx hb dX8_readFact_4 rfl (fun c_45 => ?_) (fun c_45 => ?_)
  · have hF := itp c_45 hF
    refine lv_aload_n hx hb dX8_readFact_8 rfl (lv_at hl 0 rfl) ?_
    refine mg_kind hX hK hH dX8_readFact_9 ?_
    refine lv_istore_n (lv' := [(1, .int v_kind), (0, .ref (ad 0))]) hx hb dX8_readFact_12 rfl hl (by decide) rfl (fun ls hl => ?_)
    refine lv_iload_n hx hb dX8_readFact_13 rfl (lv_at hl 0 rfl) ?_
    refine lv_bipush (v := 18) hx hb dX8_readFact_14 syb_18 ?_
    have j25 : FX8_readFact_b_j25 rf a_tape a_fresh v_at v_behind v_size v_kind v_number v_wrong v_wrongAt v_depth v_steps = some (ra_fresh, rv_at, rv_behind, rv_kind, rv_number, rv_wrong, rv_wrongAt, rv_depth, rv_steps) → ∀ (H : Heap) (locs : List Loc) (ls : Array Slot), MH D vwA A s.heap (mW ad cA a_all a_hasImage a_tape a_fresh v_taped v_at v_behind v_size v_kind v_number v_wrong v_wrongAt v_depth v_steps v_faultKind v_faultPlace a_on a_many v_moved a_pile v_aside v_judgedBy v_judgedYear a_leastCost a_matched a_order a_lies a_movedThen a_yearTable a_yearMark a_beginTable a_beginMark v_statesTold v_found v_yearFrom v_mark v_beginsMark v_begins a_began v_isSpent a_wants a_rowSort a_rowMany a_numbers) H locs → lv_has ls 3 [(0, .ref (ad 0)), (1, .int v_kind)] → W p l e (rm_X8_readFact (d + 1)) s m args below meth c H locs 0 0 Q (F0 m 25 ls []) := by
      intro hF H locs ls hH hl
      delta FX8_readFact_b_j25 at hF
      refine lv_aload_n hx hb dX8_readFact_25 rfl (lv_at hl 0 rfl) ?_
      refine mg_depth hX hK hH dX8_readFact_26 ?_
      refine lv_bipush (v := 8) hx hb dX8_readFact_29 syb_8 ?_
      have j39 : ∀ (v_wrong_112 : Int32) (v_wrongAt_113 : Int32), FX8_readFact_b_j39 rf a_tape a_fresh v_at v_behind v_size v_kind v_number v_depth v_steps v_wrong_112 v_wrongAt_113 = some (ra_fresh, rv_at, rv_behind, rv_kind, rv_number, rv_wrong, rv_wrongAt, rv_depth, rv_steps) → ∀ (H : Heap) (locs : List Loc) (ls : Array Slot), MH D vwA A s.heap (mW ad cA a_all a_hasImage a_tape a_fresh v_taped v_at v_behind v_size v_kind v_number v_wrong_112 v_wrongAt_113 v_depth v_steps v_faultKind v_faultPlace a_on a_many v_moved a_pile v_aside v_judgedBy v_judgedYear a_leastCost a_matched a_order a_lies a_movedThen a_yearTable a_yearMark a_beginTable a_beginMark v_statesTold v_found v_yearFrom v_mark v_beginsMark v_begins a_began v_isSpent a_wants a_rowSort a_rowMany a_numbers) H locs → lv_has ls 3 [(0, .ref (ad 0)), (1, .int v_kind)] → W p l e (rm_X8_readFact (d + 1)) s m args below meth c H locs 0 0 Q (F0 m 39 ls []) := by
        intro v_wrong_112 v_wrongAt_113 hF H locs ls hH hl
        delta FX8_readFact_b_j39 at hF
        refine lv_aload_n hx hb dX8_readFact_39 rfl (lv_at hl 0 rfl) ?_
        refine mg_wrong hX hK hH dX8_readFact_40 ?_
        refine lv_if_eq (tgt := 47) hx hb dX8_readFact_43 rfl (fun c_114 => ?_) (fun c_114 => ?_)
        · have hF := itp c_114 hF
          refine lv_aload_n hx hb dX8_readFact_47 rfl (lv_at hl 0 rfl) ?_
          obtain ⟨v_at_115, v_behind_116, v_kind_117, v_number_118, he, hF⟩ := bd4e hF
          refine mcV hX hK hEv hE0 hH (met_X8_next hE he) (mrecv hK hH) gw_StoneYearModel_143 hd_yX8_next ⟨by dsimp only [rm_X8_next, rm_X8_readFact_b]; omega, by dsimp only [rm_X8_next, rm_X8_readFact_b]; omega⟩ rfl rfl hl (Nat.le_of_ble_eq_true rfl) dX8_readFact_48 ⟨Nat.le_of_ble_eq_true rfl, Nat.le_of_ble_eq_true rfl⟩ (fun H locs hH => ?_)
          refine lv_aload_n hx hb dX8_readFact_51 rfl (lv_at hl 0 rfl) ?_
          refine lv_dup hx hb dX8_readFact_52 rfl ?_
          refine mg_depth hX hK hH dX8_readFact_53 ?_
          refine lv_iconst (v := 1) hx hb dX8_readFact_56 syi_1 ?_
          refine lv_iadd hx hb dX8_readFact_57 ?_
          refine mp_depth hX hK hH dX8_readFact_58 (fun H locs hH => ?_)
          refine lv_iload_n hx hb dX8_readFact_61 rfl (lv_at hl 1 rfl) ?_
          refine lv_bipush (v := 18) hx hb dX8_readFact_62 syb_18 ?_
          have j78 : ∀ (a_fresh_138 : Nat → Int32) (v_at_139 : Int32) (v_behind_140 : Int32) (v_kind_141 : Int32) (v_number_142 : Int32) (v_wrong_143 : Int32) (v_wrongAt_144 : Int32) (v_depth_145 : Int32) (v_steps_146 : Int32), FX8_readFact_b_j78 rf a_tape v_size v_kind a_fresh_138 v_at_139 v_behind_140 v_kind_141 v_number_142 v_wrong_143 v_wrongAt_144 v_depth_145 v_steps_146 = some (ra_fresh, rv_at, rv_behind, rv_kind, rv_number, rv_wrong, rv_wrongAt, rv_depth, rv_steps) → ∀ (H : Heap) (locs : List Loc) (ls : Array Slot), MH D vwA A s.heap (mW ad cA a_all a_hasImage a_tape a_fresh_138 v_taped v_at_139 v_behind_140 v_size v_kind_141 v_number_142 v_wrong_143 v_wrongAt_144 v_depth_145 v_steps_146 v_faultKind v_faultPlace a_on a_many v_moved a_pile v_aside v_judgedBy v_judgedYear a_leastCost a_matched a_order a_lies a_movedThen a_yearTable a_yearMark a_beginTable a_beginMark v_statesTold v_found v_yearFrom v_mark v_beginsMark v_begins a_began v_isSpent a_wants a_rowSort a_rowMany a_numbers) H locs → lv_has ls 3 [(0, .ref (ad 0)), (1, .int v_kind)] → W p l e (rm_X8_readFact (d + 1)) s m args below meth c H locs 0 0 Q (F0 m 78 ls []) := by
            intro a_fresh_138 v_at_139 v_behind_140 v_kind_141 v_number_142 v_wrong_143 v_wrongAt_144 v_depth_145 v_steps_146 hF H locs ls hH hl
            delta FX8_readFact_b_j78 at hF
            refine lv_aload_n hx hb dX8_readFact_78 rfl (lv_at hl 0 rfl) ?_
            refine lv_dup hx hb dX8_readFact_79 rfl ?_
            refine mg_depth hX hK hH dX8_readFact_80 ?_
            refine lv_iconst (v := 1) hx hb dX8_readFact_83 syi_1 ?_
            refine lv_isub hx hb dX8_readFact_84 ?_
            refine mp_depth hX hK hH dX8_readFact_85 (fun H locs hH => ?_)
            refine lv_iload_n hx hb dX8_readFact_88 rfl (lv_at hl 1 rfl) ?_
            refine lv_bipush (v := 27) hx hb dX8_readFact_89 syb_27 ?_
            refine lv_icmp_ne (tgt := 103) hx hb dX8_readFact_91 rfl (fun c_147 => ?_) (fun c_147 => ?_)
            · have hF := itn c_147 hF
              refine lv_aload_n hx hb dX8_readFact_103 rfl (lv_at hl 0 rfl) ?_
              refine mg_wrong hX hK hH dX8_readFact_104 ?_
              refine lv_if_ne (tgt := 117) hx hb dX8_readFact_107 rfl (fun c_154 => ?_) (fun c_154 => ?_)
              · have hF := itn c_154 hF
                obtain ⟨rfl, rfl, rfl, rfl, rfl, rfl, rfl, rfl, rfl⟩ := re9 hF
                exact hret _ _ _ _ hH dX8_readFact_117
              · have hF := itp c_154 hF
                refine lv_aload_n hx hb dX8_readFact_110 rfl (lv_at hl 0 rfl) ?_
                refine lv_bipush (v := 18) hx hb dX8_readFact_111 syb_18 ?_
                refine lv_iconst (v := 0) hx hb dX8_readFact_113 syi_0 ?_
                obtain ⟨a_fresh_155, v_steps_156, he, hF⟩ := bd2e hF
                refine mcV hX hK hEv hE0 hH (met_X8_emit hE he) (mrecv hK hH) gw_StoneYearModel_185 hd_yX8_emit ⟨by dsimp only [rm_X8_emit, rm_X8_readFact_b]; omega, by dsimp only [rm_X8_emit, rm_X8_readFact_b]; omega⟩ rfl rfl hl (Nat.le_of_ble_eq_true rfl) dX8_readFact_114 ⟨Nat.le_of_ble_eq_true rfl, Nat.le_of_ble_eq_true rfl⟩ (fun H locs hH => ?_)
                obtain ⟨rfl, rfl, rfl, rfl, rfl, rfl, rfl, rfl, rfl⟩ := re9 hF
                exact hret _ _ _ _ hH dX8_readFact_117
            · have hF := itp c_147 hF
              refine lv_aload_n hx hb dX8_readFact_94 rfl (lv_at hl 0 rfl) ?_
              refine lv_bipush (v := 28) hx hb dX8_readFact_95 syb_28 ?_
              obtain ⟨v_at_148, v_behind_149, v_kind_150, v_number_151, v_wrong_152, v_wrongAt_153, he, hF⟩ := bd6e hF
              refine mcV hX hK hEv hE0 hH (met_X8_needs hE he) (mrecv hK hH) gw_StoneYearModel_161 hd_yX8_needs ⟨by dsimp only [rm_X8_needs, rm_X8_readFact_b]; omega, by dsimp only [rm_X8_needs, rm_X8_readFact_b]; omega⟩ rfl rfl hl (Nat.le_of_ble_eq_true rfl) dX8_readFact_97 ⟨Nat.le_of_ble_eq_true rfl, Nat.le_of_ble_eq_true rfl⟩ (fun H locs hH => ?_)
              refine lv_goto (tgt := 117) hx hb dX8_readFact_100 rfl ?_
              obtain ⟨rfl, rfl, rfl, rfl, rfl, rfl, rfl, rfl, rfl⟩ := re9 hF
              exact hret _ _ _ _ hH dX8_readFact_117
          refine lv_icmp_ne (tgt := 74) hx hb dX8_readFact_64 rfl (fun c_119 => ?_) (fun c_119 => ?_)
          · have hF := itn c_119 hF
            refine lv_aload_n hx hb dX8_readFact_74 rfl (lv_at hl 0 rfl) ?_
            obtain ⟨a_fresh_129, v_at_130, v_behind_131, v_kind_132, v_number_133, v_wrong_134, v_wrongAt_135, v_depth_136, v_steps_137, he, hF⟩ := bd9e hF
            refine mcV hX hK hEv hE0 hH (met_X8_readTest hE d hrf he) (mrecv hK hH) gw_StoneYearModel_195 hd_yX8_readTest ⟨by dsimp only [rm_X8_readTest, rm_X8_readFact_b]; omega, by dsimp only [rm_X8_readTest, rm_X8_readFact_b]; omega⟩ rfl rfl hl (Nat.le_of_ble_eq_true rfl) dX8_readFact_75 ⟨Nat.le_of_ble_eq_true rfl, Nat.le_of_ble_eq_true rfl⟩ (fun H locs hH => ?_)
            exact j78 a_fresh_129 v_at_130 v_behind_131 v_kind_132 v_number_133 v_wrong_134 v_wrongAt_135 v_depth_136 v_steps_137 hF _ _ _ hH (lv_sub hl [0, 1] rfl)
          · have hF := itp c_119 hF
            refine lv_aload_n hx hb dX8_readFact_67 rfl (lv_at hl 0 rfl) ?_
            obtain ⟨a_fresh_120, v_at_121, v_behind_122, v_kind_123, v_number_124, v_wrong_125, v_wrongAt_126, v_depth_127, v_steps_128, he, hF⟩ := bd9e hF
            refine mcV hX hK hEv hE0 hH (hrf he) (mrecv hK hH) gw_StoneYearModel_189 hd_yX8_readFact ⟨by dsimp only [rm_X8_readFact_b, rm_X8_readFact_b]; omega, by dsimp only [rm_X8_readFact_b, rm_X8_readFact_b]; omega⟩ rfl rfl hl (Nat.le_of_ble_eq_true rfl) dX8_readFact_68 ⟨Nat.le_of_ble_eq_true rfl, Nat.le_of_ble_eq_true rfl⟩ (fun H locs hH => ?_)
            refine lv_goto (tgt := 78) hx hb dX8_readFact_71 rfl ?_
            exact j78 a_fresh_120 v_at_121 v_behind_122 v_kind_123 v_number_124 v_wrong_125 v_wrongAt_126 v_depth_127 v_steps_128 hF _ _ _ hH (lv_sub hl [0, 1] rfl)
        · have hF := itn c_114 hF
          obtain ⟨rfl, rfl, rfl, rfl, rfl, rfl, rfl, rfl, rfl⟩ := re9 hF
          exact hret _ _ _ _ hH dX8_readFact_46
      refine lv_icmp_ne (tgt := 39) hx hb dX8_readFact_31 rfl (fun c_109 => ?_) (fun c_109 => ?_)
      · have hF := itn c_109 hF
        exact j39 v_wrong v_wrongAt hF _ _ _ hH (lv_sub hl [0, 1] rfl)
      · have hF := itp c_109 hF
        refine lv_aload_n hx hb dX8_readFact_34 rfl (lv_at hl 0 rfl) ?_
        refine lv_iconst (v := 5) hx hb dX8_readFact_35 syi_5 ?_
        obtain ⟨v_wrong_110, v_wrongAt_111, he, hF⟩ := bd2e hF
        refine mcV hX hK hEv hE0 hH (met_X8_fails hE he) (mrecv hK hH) gw_StoneYearModel_149 hd_yX8_fails ⟨by dsimp only [rm_X8_fails, rm_X8_readFact_b]; omega, by dsimp only [rm_X8_fails, rm_X8_readFact_b]; omega⟩ rfl rfl hl (Nat.le_of_ble_eq_true rfl) dX8_readFact_36 ⟨Nat.le_of_ble_eq_true rfl, Nat.le_of_ble_eq_true rfl⟩ (fun H locs hH => ?_)
        exact j39 v_wrong_110 v_wrongAt_111 hF _ _ _ hH (lv_sub hl [0, 1] rfl)
    refine lv_icmp_eq (tgt := 25) hx hb dX8_readFact_16 rfl (fun c_46 => ?_) (fun c_46 => ?_)
    · have hF := itp c_46 hF
      exact j25 hF _ _ _ hH (lv_sub hl [1, 0] rfl)
    · have hF := itn c_46 hF
      refine lv_iload_n hx hb dX8_readFact_19 rfl (lv_at hl 0 rfl) ?_
      refine lv_bipush (v := 27) hx hb dX8_readFact_20 syb_27 ?_
      refine lv_icmp_ne (tgt := 118) hx hb dX8_readFact_22 rfl (fun c_47 => ?_) (fun c_47 => ?_)
      · have hF := itn c_47 hF
        refine lv_iload_n hx hb dX8_readFact_118 rfl (lv_at hl 0 rfl) ?_
        refine lv_iconst (v := 2) hx hb dX8_readFact_119 syi_2 ?_
        have j142 : ∀ (v_wrong_53 : Int32) (v_wrongAt_54 : Int32), FX8_readFact_b_j142 rf a_tape a_fresh v_at v_behind v_size v_kind v_number v_depth v_steps v_wrong_53 v_wrongAt_54 = some (ra_fresh, rv_at, rv_behind, rv_kind, rv_number, rv_wrong, rv_wrongAt, rv_depth, rv_steps) → ∀ (H : Heap) (locs : List Loc) (ls : Array Slot), MH D vwA A s.heap (mW ad cA a_all a_hasImage a_tape a_fresh v_taped v_at v_behind v_size v_kind v_number v_wrong_53 v_wrongAt_54 v_depth v_steps v_faultKind v_faultPlace a_on a_many v_moved a_pile v_aside v_judgedBy v_judgedYear a_leastCost a_matched a_order a_lies a_movedThen a_yearTable a_yearMark a_beginTable a_beginMark v_statesTold v_found v_yearFrom v_mark v_beginsMark v_begins a_began v_isSpent a_wants a_rowSort a_rowMany a_numbers) H locs → lv_has ls 3 [(0, .ref (ad 0)), (1, .int v_kind)] → W p l e (rm_X8_readFact (d + 1)) s m args below meth c H locs 0 0 Q (F0 m 142 ls []) := by
          intro v_wrong_53 v_wrongAt_54 hF H locs ls hH hl
          delta FX8_readFact_b_j142 at hF
          refine lv_aload_n hx hb dX8_readFact_142 rfl (lv_at hl 0 rfl) ?_
          refine mg_wrong hX hK hH dX8_readFact_143 ?_
          refine lv_if_eq (tgt := 150) hx hb dX8_readFact_146 rfl (fun c_55 => ?_) (fun c_55 => ?_)
          · have hF := itp c_55 hF
            refine lv_aload_n hx hb dX8_readFact_150 rfl (lv_at hl 0 rfl) ?_
            obtain ⟨v_at_56, v_behind_57, v_kind_58, v_number_59, he, hF⟩ := bd4e hF
            refine mcV hX hK hEv hE0 hH (met_X8_next hE he) (mrecv hK hH) gw_StoneYearModel_143 hd_yX8_next ⟨by dsimp only [rm_X8_next, rm_X8_readFact_b]; omega, by dsimp only [rm_X8_next, rm_X8_readFact_b]; omega⟩ rfl rfl hl (Nat.le_of_ble_eq_true rfl) dX8_readFact_151 ⟨Nat.le_of_ble_eq_true rfl, Nat.le_of_ble_eq_true rfl⟩ (fun H locs hH => ?_)
            refine lv_iload_n hx hb dX8_readFact_154 rfl (lv_at hl 1 rfl) ?_
            refine lv_bipush (v := 19) hx hb dX8_readFact_155 syb_19 ?_
            have j221 : ∀ (x_99 : Int32) (v_at_100 : Int32) (v_behind_101 : Int32) (v_kind_102 : Int32) (v_number_103 : Int32) (v_wrong_104 : Int32) (v_wrongAt_105 : Int32), FX8_readFact_b_j221 rf a_fresh v_kind v_depth v_steps x_99 v_at_100 v_behind_101 v_kind_102 v_number_103 v_wrong_104 v_wrongAt_105 = some (ra_fresh, rv_at, rv_behind, rv_kind, rv_number, rv_wrong, rv_wrongAt, rv_depth, rv_steps) → ∀ (H : Heap) (locs : List Loc) (ls : Array Slot), MH D vwA A s.heap (mW ad cA a_all a_hasImage a_tape a_fresh v_taped v_at_100 v_behind_101 v_size v_kind_102 v_number_103 v_wrong_104 v_wrongAt_105 v_depth v_steps v_faultKind v_faultPlace a_on a_many v_moved a_pile v_aside v_judgedBy v_judgedYear a_leastCost a_matched a_order a_lies a_movedThen a_yearTable a_yearMark a_beginTable a_beginMark v_statesTold v_found v_yearFrom v_mark v_beginsMark v_begins a_began v_isSpent a_wants a_rowSort a_rowMany a_numbers) H locs → lv_has ls 3 [(0, .ref (ad 0)), (1, .int v_kind)] → W p l e (rm_X8_readFact (d + 1)) s m args below meth c H locs 0 0 Q (F0 m 221 ls [.int x_99]) := by
              intro x_99 v_at_100 v_behind_101 v_kind_102 v_number_103 v_wrong_104 v_wrongAt_105 hF H locs ls hH hl
              delta FX8_readFact_b_j221 at hF
              refine lv_istore_n (lv' := [(2, .int x_99), (0, .ref (ad 0)), (1, .int v_kind)]) hx hb dX8_readFact_221 rfl hl (by decide) rfl (fun ls hl => ?_)
              refine lv_aload_n hx hb dX8_readFact_222 rfl (lv_at hl 1 rfl) ?_
              refine mg_wrong hX hK hH dX8_readFact_223 ?_
              refine lv_if_ne (tgt := 235) hx hb dX8_readFact_226 rfl (fun c_106 => ?_) (fun c_106 => ?_)
              · have hF := itn c_106 hF
                obtain ⟨rfl, rfl, rfl, rfl, rfl, rfl, rfl, rfl, rfl⟩ := re9 hF
                exact hret _ _ _ _ hH dX8_readFact_235
              · have hF := itp c_106 hF
                refine lv_aload_n hx hb dX8_readFact_229 rfl (lv_at hl 1 rfl) ?_
                refine lv_iload_n hx hb dX8_readFact_230 rfl (lv_at hl 2 rfl) ?_
                refine lv_iload_n hx hb dX8_readFact_231 rfl (lv_at hl 0 rfl) ?_
                obtain ⟨a_fresh_107, v_steps_108, he, hF⟩ := bd2e hF
                refine mcV hX hK hEv hE0 hH (met_X8_emit hE he) (mrecv hK hH) gw_StoneYearModel_185 hd_yX8_emit ⟨by dsimp only [rm_X8_emit, rm_X8_readFact_b]; omega, by dsimp only [rm_X8_emit, rm_X8_readFact_b]; omega⟩ rfl rfl hl (Nat.le_of_ble_eq_true rfl) dX8_readFact_232 ⟨Nat.le_of_ble_eq_true rfl, Nat.le_of_ble_eq_true rfl⟩ (fun H locs hH => ?_)
                obtain ⟨rfl, rfl, rfl, rfl, rfl, rfl, rfl, rfl, rfl⟩ := re9 hF
                exact hret _ _ _ _ hH dX8_readFact_235
            refine lv_icmp_ne (tgt := 170) hx hb dX8_readFact_157 rfl (fun c_60 => ?_) (fun c_60 => ?_)
            · have hF := itn c_60 hF
              refine lv_iload_n hx hb dX8_readFact_170 rfl (lv_at hl 1 rfl) ?_
              refine lv_iconst (v := 2) hx hb dX8_readFact_171 syi_2 ?_
              refine lv_icmp_ne (tgt := 185) hx hb dX8_readFact_172 rfl (fun c_68 => ?_) (fun c_68 => ?_)
              · have hF := itn c_68 hF
                refine lv_iload_n hx hb dX8_readFact_185 rfl (lv_at hl 1 rfl) ?_
                refine lv_bipush (v := 22) hx hb dX8_readFact_186 syb_22 ?_
                refine lv_icmp_ne (tgt := 200) hx hb dX8_readFact_188 rfl (fun c_76 => ?_) (fun c_76 => ?_)
                · have hF := itn c_76 hF
                  refine lv_iload_n hx hb dX8_readFact_200 rfl (lv_at hl 1 rfl) ?_
                  refine lv_bipush (v := 23) hx hb dX8_readFact_201 syb_23 ?_
                  refine lv_icmp_ne (tgt := 215) hx hb dX8_readFact_203 rfl (fun c_84 => ?_) (fun c_84 => ?_)
                  · have hF := itn c_84 hF
                    refine lv_aload_n hx hb dX8_readFact_215 rfl (lv_at hl 0 rfl) ?_
                    refine lv_iconst (v := 0) hx hb dX8_readFact_216 syi_0 ?_
                    refine lv_iconst (v := 4) hx hb dX8_readFact_217 syi_4 ?_
                    obtain ⟨x_92, v_at_93, v_behind_94, v_kind_95, v_number_96, v_wrong_97, v_wrongAt_98, he, hF⟩ := bd7e hF
                    refine mcV hX hK hEv hE0 hH (met_X8_reads hE he) (mrecv hK hH) gw_StoneYearModel_157 hd_yX8_reads ⟨by dsimp only [rm_X8_reads, rm_X8_readFact_b]; omega, by dsimp only [rm_X8_reads, rm_X8_readFact_b]; omega⟩ rfl rfl hl (Nat.le_of_ble_eq_true rfl) dX8_readFact_218 ⟨Nat.le_of_ble_eq_true rfl, Nat.le_of_ble_eq_true rfl⟩ (fun H locs hH => ?_)
                    exact j221 x_92 v_at_93 v_behind_94 v_kind_95 v_number_96 v_wrong_97 v_wrongAt_98 hF _ _ _ hH (lv_sub hl [0, 1] rfl)
                  · have hF := itp c_84 hF
                    refine lv_aload_n hx hb dX8_readFact_206 rfl (lv_at hl 0 rfl) ?_
                    refine lv_iconst (v := 0) hx hb dX8_readFact_207 syi_0 ?_
                    refine lv_iconst (v := 3) hx hb dX8_readFact_208 syi_3 ?_
                    obtain ⟨x_85, v_at_86, v_behind_87, v_kind_88, v_number_89, v_wrong_90, v_wrongAt_91, he, hF⟩ := bd7e hF
                    refine mcV hX hK hEv hE0 hH (met_X8_reads hE he) (mrecv hK hH) gw_StoneYearModel_157 hd_yX8_reads ⟨by dsimp only [rm_X8_reads, rm_X8_readFact_b]; omega, by dsimp only [rm_X8_reads, rm_X8_readFact_b]; omega⟩ rfl rfl hl (Nat.le_of_ble_eq_true rfl) dX8_readFact_209 ⟨Nat.le_of_ble_eq_true rfl, Nat.le_of_ble_eq_true rfl⟩ (fun H locs hH => ?_)
                    refine lv_goto (tgt := 221) hx hb dX8_readFact_212 rfl ?_
                    exact j221 x_85 v_at_86 v_behind_87 v_kind_88 v_number_89 v_wrong_90 v_wrongAt_91 hF _ _ _ hH (lv_sub hl [0, 1] rfl)
                · have hF := itp c_76 hF
                  refine lv_aload_n hx hb dX8_readFact_191 rfl (lv_at hl 0 rfl) ?_
                  refine lv_iconst (v := 0) hx hb dX8_readFact_192 syi_0 ?_
                  refine lv_iconst (v := 2) hx hb dX8_readFact_193 syi_2 ?_
                  obtain ⟨x_77, v_at_78, v_behind_79, v_kind_80, v_number_81, v_wrong_82, v_wrongAt_83, he, hF⟩ := bd7e hF
                  refine mcV hX hK hEv hE0 hH (met_X8_reads hE he) (mrecv hK hH) gw_StoneYearModel_157 hd_yX8_reads ⟨by dsimp only [rm_X8_reads, rm_X8_readFact_b]; omega, by dsimp only [rm_X8_reads, rm_X8_readFact_b]; omega⟩ rfl rfl hl (Nat.le_of_ble_eq_true rfl) dX8_readFact_194 ⟨Nat.le_of_ble_eq_true rfl, Nat.le_of_ble_eq_true rfl⟩ (fun H locs hH => ?_)
                  refine lv_goto (tgt := 221) hx hb dX8_readFact_197 rfl ?_
                  exact j221 x_77 v_at_78 v_behind_79 v_kind_80 v_number_81 v_wrong_82 v_wrongAt_83 hF _ _ _ hH (lv_sub hl [0, 1] rfl)
              · have hF := itp c_68 hF
                refine lv_aload_n hx hb dX8_readFact_175 rfl (lv_at hl 0 rfl) ?_
                refine lv_iconst (v := 1) hx hb dX8_readFact_176 syi_1 ?_
                refine lv_bipush (v := 9) hx hb dX8_readFact_177 syb_9 ?_
                obtain ⟨x_69, v_at_70, v_behind_71, v_kind_72, v_number_73, v_wrong_74, v_wrongAt_75, he, hF⟩ := bd7e hF
                refine mcV hX hK hEv hE0 hH (met_X8_reads hE he) (mrecv hK hH) gw_StoneYearModel_157 hd_yX8_reads ⟨by dsimp only [rm_X8_reads, rm_X8_readFact_b]; omega, by dsimp only [rm_X8_reads, rm_X8_readFact_b]; omega⟩ rfl rfl hl (Nat.le_of_ble_eq_true rfl) dX8_readFact_179 ⟨Nat.le_of_ble_eq_true rfl, Nat.le_of_ble_eq_true rfl⟩ (fun H locs hH => ?_)
                refine lv_goto (tgt := 221) hx hb dX8_readFact_182 rfl ?_
                exact j221 x_69 v_at_70 v_behind_71 v_kind_72 v_number_73 v_wrong_74 v_wrongAt_75 hF _ _ _ hH (lv_sub hl [0, 1] rfl)
            · have hF := itp c_60 hF
              refine lv_aload_n hx hb dX8_readFact_160 rfl (lv_at hl 0 rfl) ?_
              refine lv_iconst (v := 0) hx hb dX8_readFact_161 syi_0 ?_
              refine lv_bipush (v := 7) hx hb dX8_readFact_162 syb_7 ?_
              obtain ⟨x_61, v_at_62, v_behind_63, v_kind_64, v_number_65, v_wrong_66, v_wrongAt_67, he, hF⟩ := bd7e hF
              refine mcV hX hK hEv hE0 hH (met_X8_reads hE he) (mrecv hK hH) gw_StoneYearModel_157 hd_yX8_reads ⟨by dsimp only [rm_X8_reads, rm_X8_readFact_b]; omega, by dsimp only [rm_X8_reads, rm_X8_readFact_b]; omega⟩ rfl rfl hl (Nat.le_of_ble_eq_true rfl) dX8_readFact_164 ⟨Nat.le_of_ble_eq_true rfl, Nat.le_of_ble_eq_true rfl⟩ (fun H locs hH => ?_)
              refine lv_goto (tgt := 221) hx hb dX8_readFact_167 rfl ?_
              exact j221 x_61 v_at_62 v_behind_63 v_kind_64 v_number_65 v_wrong_66 v_wrongAt_67 hF _ _ _ hH (lv_sub hl [0, 1] rfl)
          · have hF := itn c_55 hF
            obtain ⟨rfl, rfl, rfl, rfl, rfl, rfl, rfl, rfl, rfl⟩ := re9 hF
            exact hret _ _ _ _ hH dX8_readFact_149
        refine lv_icmp_eq (tgt := 142) hx hb dX8_readFact_120 rfl (fun c_48 => ?_) (fun c_48 => ?_)
        · have hF := itp c_48 hF
          exact j142 v_wrong v_wrongAt hF _ _ _ hH (lv_sub hl [1, 0] rfl)
        · have hF := itn c_48 hF
          refine lv_iload_n hx hb dX8_readFact_123 rfl (lv_at hl 0 rfl) ?_
          refine lv_i2l (v := (Int32.toInt64 v_kind)) hx hb dX8_readFact_124 rfl ?_
          refine lv_ldc2 (v := 19) hx hb hown (hts _ q1860) dX8_readFact_125 ?_
          refine lv_ldc2 (v := 23) hx hb hown (hts _ q1861) dX8_readFact_128 ?_
          obtain ⟨b_49, he, hF⟩ := bd1e hF
          refine mcS hX hK hEv hE0 hH (met_X8_within hE he) gw_StoneYearModel_153 hd_yX8_within ⟨by dsimp only [rm_X8_within, rm_X8_readFact_b]; omega, by dsimp only [rm_X8_within, rm_X8_readFact_b]; omega⟩ rfl rfl hl (Nat.le_of_ble_eq_true rfl) dX8_readFact_131 ⟨Nat.le_of_ble_eq_true rfl, Nat.le_of_ble_eq_true rfl⟩ (fun H locs hH => ?_)
          refine lv_if_ne (tgt := 142) hx hb dX8_readFact_134 rfl (fun c_50 => ?_) (fun c_50 => ?_)
          · have hF := itn c_50 hF
            exact j142 v_wrong v_wrongAt hF _ _ _ hH (lv_sub hl [1, 0] rfl)
          · have hF := itp c_50 hF
            refine lv_aload_n hx hb dX8_readFact_137 rfl (lv_at hl 1 rfl) ?_
            refine lv_iconst (v := 2) hx hb dX8_readFact_138 syi_2 ?_
            obtain ⟨v_wrong_51, v_wrongAt_52, he, hF⟩ := bd2e hF
            refine mcV hX hK hEv hE0 hH (met_X8_fails hE he) (mrecv hK hH) gw_StoneYearModel_149 hd_yX8_fails ⟨by dsimp only [rm_X8_fails, rm_X8_readFact_b]; omega, by dsimp only [rm_X8_fails, rm_X8_readFact_b]; omega⟩ rfl rfl hl (Nat.le_of_ble_eq_true rfl) dX8_readFact_139 ⟨Nat.le_of_ble_eq_true rfl, Nat.le_of_ble_eq_true rfl⟩ (fun H locs hH => ?_)
            exact j142 v_wrong_51 v_wrongAt_52 hF _ _ _ hH (lv_sub hl [1, 0] rfl)
      · have hF := itp c_47 hF
        exact j25 hF _ _ _ hH (lv_sub hl [1, 0] rfl)
  · have hF := itn c_45 hF
    obtain ⟨rfl, rfl, rfl, rfl, rfl, rfl, rfl, rfl, rfl⟩ := re9 hF
    exact hret _ _ _ _ hH dX8_readFact_7
set_option maxHeartbeats 4000000 in
theorem met_X8_readFact {l : Launch} {D : va_G} {ak av fo : Nat} {E : EvT} (hE : EvM E ak av fo) : ∀ (d : Nat) {ad : Nat → Nat} {cA : Nat → ClassId} {a_all : Nat → Int32} {a_hasImage : Nat → Int32} {a_tape : Nat → Int32} {a_fresh : Nat → Int32} {v_taped : Int32} {v_at : Int32} {v_behind : Int32} {v_size : Int32} {v_kind : Int32} {v_number : Int32} {v_wrong : Int32} {v_wrongAt : Int32} {v_depth : Int32} {v_steps : Int32} {v_faultKind : Int32} {v_faultPlace : Int32} {a_on : Nat → Int32} {a_many : Nat → Int32} {v_moved : Int32} {a_pile : Nat → Int32} {v_aside : Int32} {v_judgedBy : Int32} {v_judgedYear : Int32} {a_leastCost : Nat → Int32} {a_matched : Nat → Int32} {a_order : Nat → Int32} {a_lies : Nat → Int64} {a_movedThen : Nat → Int32} {a_yearTable : Nat → Int32} {a_yearMark : Nat → Int32} {a_beginTable : Nat → Int32} {a_beginMark : Nat → Int32} {v_statesTold : Int32} {v_found : Int32} {v_yearFrom : Int32} {v_mark : Int32} {v_beginsMark : Int32} {v_begins : Int32} {a_began : Nat → Int64} {v_isSpent : Int32} {a_wants : Nat → Int32} {a_rowSort : Nat → Int32} {a_rowMany : Nat → Int32} {a_numbers : Nat → Int64}  {ra_fresh : Nat → Int32} {rv_at : Int32} {rv_behind : Int32} {rv_kind : Int32} {rv_number : Int32} {rv_wrong : Int32} {rv_wrongAt : Int32} {rv_depth : Int32} {rv_steps : Int32} , FX8_readFact d a_tape a_fresh v_at v_behind v_size v_kind v_number v_wrong v_wrongAt v_depth v_steps = some (ra_fresh, rv_at, rv_behind, rv_kind, rv_number, rv_wrong, rv_wrongAt, rv_depth, rv_steps) → MM l yX8_readFact (ws_ yX8_readFact cX8_readFact 3 (Option.none : Option Jvm.ClassFile.FieldType)) (rm_X8_readFact d) D vwA (mT cA) E [.ref (ad 0)] (mW ad cA a_all a_hasImage a_tape a_fresh v_taped v_at v_behind v_size v_kind v_number v_wrong v_wrongAt v_depth v_steps v_faultKind v_faultPlace a_on a_many v_moved a_pile v_aside v_judgedBy v_judgedYear a_leastCost a_matched a_order a_lies a_movedThen a_yearTable a_yearMark a_beginTable a_beginMark v_statesTold v_found v_yearFrom v_mark v_beginsMark v_begins a_began v_isSpent a_wants a_rowSort a_rowMany a_numbers) (mW ad cA a_all a_hasImage a_tape ra_fresh v_taped rv_at rv_behind v_size rv_kind rv_number rv_wrong rv_wrongAt rv_depth rv_steps v_faultKind v_faultPlace a_on a_many v_moved a_pile v_aside v_judgedBy v_judgedYear a_leastCost a_matched a_order a_lies a_movedThen a_yearTable a_yearMark a_beginTable a_beginMark v_statesTold v_found v_yearFrom v_mark v_beginsMark v_begins a_began v_isSpent a_wants a_rowSort a_rowMany a_numbers) none := by
  intro d
  induction d with
  | zero => intros; rename_i h; cases h
  | succ d ih =>
    intros
    rename_i h
    exact met_X8_readFact_b hE d (@ih) h
abbrev rm_X8_readBar : Room := { frames := 47, cells := 0, slots := 0, locals := 976 }
set_option maxHeartbeats 4000000 in
theorem met_X8_readBar {l : Launch} {D : va_G} {ad : Nat → Nat} {cA : Nat → ClassId} {a_all : Nat → Int32} {a_hasImage : Nat → Int32} {a_tape : Nat → Int32} {a_fresh : Nat → Int32} {v_taped : Int32} {v_at : Int32} {v_behind : Int32} {v_size : Int32} {v_kind : Int32} {v_number : Int32} {v_wrong : Int32} {v_wrongAt : Int32} {v_depth : Int32} {v_steps : Int32} {v_faultKind : Int32} {v_faultPlace : Int32} {a_on : Nat → Int32} {a_many : Nat → Int32} {v_moved : Int32} {a_pile : Nat → Int32} {v_aside : Int32} {v_judgedBy : Int32} {v_judgedYear : Int32} {a_leastCost : Nat → Int32} {a_matched : Nat → Int32} {a_order : Nat → Int32} {a_lies : Nat → Int64} {a_movedThen : Nat → Int32} {a_yearTable : Nat → Int32} {a_yearMark : Nat → Int32} {a_beginTable : Nat → Int32} {a_beginMark : Nat → Int32} {v_statesTold : Int32} {v_found : Int32} {v_yearFrom : Int32} {v_mark : Int32} {v_beginsMark : Int32} {v_begins : Int32} {a_began : Nat → Int64} {v_isSpent : Int32} {a_wants : Nat → Int32} {a_rowSort : Nat → Int32} {a_rowMany : Nat → Int32} {a_numbers : Nat → Int64}   {ra_fresh : Nat → Int32} {rv_at : Int32} {rv_behind : Int32} {rv_kind : Int32} {rv_number : Int32} {rv_wrong : Int32} {rv_wrongAt : Int32} {rv_depth : Int32} {rv_steps : Int32} {ak av fo : Nat} {E : EvT} (hE : EvM E ak av fo) (hF : FX8_readBar a_tape a_fresh v_at v_behind v_size v_kind v_number v_wrong v_wrongAt v_depth v_steps = some (ra_fresh, rv_at, rv_behind, rv_kind, rv_number, rv_wrong, rv_wrongAt, rv_depth, rv_steps)) : MM l yX8_readBar (ws_ yX8_readBar cX8_readBar 2 (Option.none : Option Jvm.ClassFile.FieldType)) rm_X8_readBar D vwA (mT cA) E [.ref (ad 0)] (mW ad cA a_all a_hasImage a_tape a_fresh v_taped v_at v_behind v_size v_kind v_number v_wrong v_wrongAt v_depth v_steps v_faultKind v_faultPlace a_on a_many v_moved a_pile v_aside v_judgedBy v_judgedYear a_leastCost a_matched a_order a_lies a_movedThen a_yearTable a_yearMark a_beginTable a_beginMark v_statesTold v_found v_yearFrom v_mark v_beginsMark v_begins a_began v_isSpent a_wants a_rowSort a_rowMany a_numbers) (mW ad cA a_all a_hasImage a_tape ra_fresh v_taped rv_at rv_behind v_size rv_kind rv_number rv_wrong rv_wrongAt rv_depth rv_steps v_faultKind v_faultPlace a_on a_many v_moved a_pile v_aside v_judgedBy v_judgedYear a_leastCost a_matched a_order a_lies a_movedThen a_yearTable a_yearMark a_beginTable a_beginMark v_statesTold v_found v_yearFrom v_mark v_beginsMark v_begins a_began v_isSpent a_wants a_rowSort a_rowMany a_numbers) none := by
  refine MM.ofV (by decide) (Nat.le_of_ble_eq_true rfl) ?_
  intro p e s m args below meth c Q A hX hK hE0 hret H locs ls hH hl
  have hX : CallFix p m c cX8_readBar 2 s args lw_all RX8 := hX
  have hx := hX.1
  have hb := hX.2.1
  have hown := hX.2.2.2.1
  have hts := hX.2.2.2.2
  have hl : lv_has ls 2 [(0, .ref (ad 0))] := hl
  have hEv := hE.1
  delta FX8_readBar at hF
  refine lv_aload_n hx hb dX8_readBar_0 rfl (lv_at hl 0 rfl) ?_
  refine mg_fresh hX hK hH dX8_readBar_1 ?_
  refine lv_bipush (v := 114) hx hb dX8_readBar_4 syb_114 ?_
  obtain ⟨x_45, he, hF⟩ := bd1e hF
  refine ml_fresh hX hK hH he dX8_readBar_6 ?_
  refine lv_istore_n (lv' := [(1, .int x_45), (0, .ref (ad 0))]) hx hb dX8_readBar_7 rfl hl (by decide) rfl (fun ls hl => ?_)
  refine lv_aload_n hx hb dX8_readBar_8 rfl (lv_at hl 1 rfl) ?_
  refine lv_bipush (v := 14) hx hb dX8_readBar_9 syb_14 ?_
  obtain ⟨b_46, he, hF⟩ := bd1e hF
  refine mcV hX hK hEv hE0 hH (met_X8_is hE he) (mrecv hK hH) gw_StoneYearModel_140 hd_yX8_is ⟨Nat.le_of_ble_eq_true rfl, Nat.le_of_ble_eq_true rfl⟩ rfl rfl hl (Nat.le_of_ble_eq_true rfl) dX8_readBar_11 ⟨Nat.le_of_ble_eq_true rfl, Nat.le_of_ble_eq_true rfl⟩ (fun H locs hH => ?_)
  have j36 : ∀ (v_wrong_53 : Int32) (v_wrongAt_54 : Int32), FX8_readBar_j36 a_tape a_fresh v_at v_behind v_size v_kind v_number v_depth v_steps x_45 v_wrong_53 v_wrongAt_54 = some (ra_fresh, rv_at, rv_behind, rv_kind, rv_number, rv_wrong, rv_wrongAt, rv_depth, rv_steps) → ∀ (H : Heap) (locs : List Loc) (ls : Array Slot), MH D vwA A s.heap (mW ad cA a_all a_hasImage a_tape a_fresh v_taped v_at v_behind v_size v_kind v_number v_wrong_53 v_wrongAt_54 v_depth v_steps v_faultKind v_faultPlace a_on a_many v_moved a_pile v_aside v_judgedBy v_judgedYear a_leastCost a_matched a_order a_lies a_movedThen a_yearTable a_yearMark a_beginTable a_beginMark v_statesTold v_found v_yearFrom v_mark v_beginsMark v_begins a_began v_isSpent a_wants a_rowSort a_rowMany a_numbers) H locs → lv_has ls 2 [(0, .ref (ad 0)), (1, .int x_45)] → W p l e rm_X8_readBar s m args below meth c H locs 0 0 Q (F0 m 36 ls []) := by
    intro v_wrong_53 v_wrongAt_54 hF H locs ls hH hl
    delta FX8_readBar_j36 at hF
    refine lv_aload_n hx hb dX8_readBar_36 rfl (lv_at hl 0 rfl) ?_
    refine mg_wrong hX hK hH dX8_readBar_37 ?_
    refine lv_if_eq (tgt := 44) hx hb dX8_readBar_40 rfl (fun c_55 => ?_) (fun c_55 => ?_)
    · have hF := itp c_55 hF
      refine lv_aload_n hx hb dX8_readBar_44 rfl (lv_at hl 0 rfl) ?_
      obtain ⟨v_at_56, v_behind_57, v_kind_58, v_number_59, he, hF⟩ := bd4e hF
      refine mcV hX hK hEv hE0 hH (met_X8_next hE he) (mrecv hK hH) gw_StoneYearModel_143 hd_yX8_next ⟨Nat.le_of_ble_eq_true rfl, Nat.le_of_ble_eq_true rfl⟩ rfl rfl hl (Nat.le_of_ble_eq_true rfl) dX8_readBar_45 ⟨Nat.le_of_ble_eq_true rfl, Nat.le_of_ble_eq_true rfl⟩ (fun H locs hH => ?_)
      refine lv_aload_n hx hb dX8_readBar_48 rfl (lv_at hl 0 rfl) ?_
      refine lv_bipush (v := 15) hx hb dX8_readBar_49 syb_15 ?_
      obtain ⟨v_at_60, v_behind_61, v_kind_62, v_number_63, v_wrong_64, v_wrongAt_65, he, hF⟩ := bd6e hF
      refine mcV hX hK hEv hE0 hH (met_X8_needs hE he) (mrecv hK hH) gw_StoneYearModel_161 hd_yX8_needs ⟨Nat.le_of_ble_eq_true rfl, Nat.le_of_ble_eq_true rfl⟩ rfl rfl hl (Nat.le_of_ble_eq_true rfl) dX8_readBar_51 ⟨Nat.le_of_ble_eq_true rfl, Nat.le_of_ble_eq_true rfl⟩ (fun H locs hH => ?_)
      refine lv_aload_n hx hb dX8_readBar_54 rfl (lv_at hl 0 rfl) ?_
      refine mg_fresh hX hK hH dX8_readBar_55 ?_
      refine lv_bipush (v := 115) hx hb dX8_readBar_58 syb_115 ?_
      refine lv_iload_n hx hb dX8_readBar_60 rfl (lv_at hl 1 rfl) ?_
      refine lv_iadd hx hb dX8_readBar_61 ?_
      refine lv_aload_n hx hb dX8_readBar_62 rfl (lv_at hl 0 rfl) ?_
      refine mg_steps hX hK hH dX8_readBar_63 ?_
      obtain ⟨a_fresh_66, he, hF⟩ := bd1e hF
      refine ms_fresh hX hK hH he dX8_readBar_66 (fun H locs hH => ?_)
      refine lv_aload_n hx hb dX8_readBar_67 rfl (lv_at hl 0 rfl) ?_
      obtain ⟨a_fresh_67, v_at_68, v_behind_69, v_kind_70, v_number_71, v_wrong_72, v_wrongAt_73, v_depth_74, v_steps_75, he, hF⟩ := bd9e hF
      refine mcV hX hK hEv hE0 hH (met_X8_readTest hE 12 (met_X8_readFact hE 12) he) (mrecv hK hH) gw_StoneYearModel_195 hd_yX8_readTest ⟨Nat.le_of_ble_eq_true rfl, Nat.le_of_ble_eq_true rfl⟩ rfl rfl hl (Nat.le_of_ble_eq_true rfl) dX8_readBar_68 ⟨Nat.le_of_ble_eq_true rfl, Nat.le_of_ble_eq_true rfl⟩ (fun H locs hH => ?_)
      refine lv_aload_n hx hb dX8_readBar_71 rfl (lv_at hl 0 rfl) ?_
      refine mg_fresh hX hK hH dX8_readBar_72 ?_
      refine lv_bipush (v := 123) hx hb dX8_readBar_75 syb_123 ?_
      refine lv_iload_n hx hb dX8_readBar_77 rfl (lv_at hl 1 rfl) ?_
      refine lv_iadd hx hb dX8_readBar_78 ?_
      refine lv_aload_n hx hb dX8_readBar_79 rfl (lv_at hl 0 rfl) ?_
      refine mg_steps hX hK hH dX8_readBar_80 ?_
      obtain ⟨a_fresh_76, he, hF⟩ := bd1e hF
      refine ms_fresh hX hK hH he dX8_readBar_83 (fun H locs hH => ?_)
      refine lv_aload_n hx hb dX8_readBar_84 rfl (lv_at hl 0 rfl) ?_
      refine lv_bipush (v := 26) hx hb dX8_readBar_85 syb_26 ?_
      obtain ⟨v_at_77, v_behind_78, v_kind_79, v_number_80, v_wrong_81, v_wrongAt_82, he, hF⟩ := bd6e hF
      refine mcV hX hK hEv hE0 hH (met_X8_needs hE he) (mrecv hK hH) gw_StoneYearModel_161 hd_yX8_needs ⟨Nat.le_of_ble_eq_true rfl, Nat.le_of_ble_eq_true rfl⟩ rfl rfl hl (Nat.le_of_ble_eq_true rfl) dX8_readBar_87 ⟨Nat.le_of_ble_eq_true rfl, Nat.le_of_ble_eq_true rfl⟩ (fun H locs hH => ?_)
      refine lv_aload_n hx hb dX8_readBar_90 rfl (lv_at hl 0 rfl) ?_
      refine mg_fresh hX hK hH dX8_readBar_91 ?_
      refine lv_bipush (v := 114) hx hb dX8_readBar_94 syb_114 ?_
      refine lv_dup2_11 hx hb dX8_readBar_96 rfl rfl ?_
      obtain ⟨x_83, he, hF⟩ := bd1e hF
      refine ml_fresh hX hK hH he dX8_readBar_97 ?_
      refine lv_iconst (v := 1) hx hb dX8_readBar_98 syi_1 ?_
      refine lv_iadd hx hb dX8_readBar_99 ?_
      obtain ⟨a_fresh_84, he, hF⟩ := bd1e hF
      refine ms_fresh hX hK hH he dX8_readBar_100 (fun H locs hH => ?_)
      obtain ⟨rfl, rfl, rfl, rfl, rfl, rfl, rfl, rfl, rfl⟩ := re9 hF
      exact hret _ _ _ _ hH dX8_readBar_101
    · have hF := itn c_55 hF
      obtain ⟨rfl, rfl, rfl, rfl, rfl, rfl, rfl, rfl, rfl⟩ := re9 hF
      exact hret _ _ _ _ hH dX8_readBar_43
  refine lv_if_ne (tgt := 25) hx hb dX8_readBar_14 rfl (fun c_47 => ?_) (fun c_47 => ?_)
  · have hF := itn c_47 hF
    refine lv_iload_n hx hb dX8_readBar_25 rfl (lv_at hl 0 rfl) ?_
    refine lv_bipush (v := 8) hx hb dX8_readBar_26 syb_8 ?_
    refine lv_icmp_ne (tgt := 36) hx hb dX8_readBar_28 rfl (fun c_50 => ?_) (fun c_50 => ?_)
    · have hF := itn c_50 hF
      exact j36 v_wrong v_wrongAt hF _ _ _ hH (lv_sub hl [1, 0] rfl)
    · have hF := itp c_50 hF
      refine lv_aload_n hx hb dX8_readBar_31 rfl (lv_at hl 1 rfl) ?_
      refine lv_iconst (v := 4) hx hb dX8_readBar_32 syi_4 ?_
      obtain ⟨v_wrong_51, v_wrongAt_52, he, hF⟩ := bd2e hF
      refine mcV hX hK hEv hE0 hH (met_X8_fails hE he) (mrecv hK hH) gw_StoneYearModel_149 hd_yX8_fails ⟨Nat.le_of_ble_eq_true rfl, Nat.le_of_ble_eq_true rfl⟩ rfl rfl hl (Nat.le_of_ble_eq_true rfl) dX8_readBar_33 ⟨Nat.le_of_ble_eq_true rfl, Nat.le_of_ble_eq_true rfl⟩ (fun H locs hH => ?_)
      exact j36 v_wrong_51 v_wrongAt_52 hF _ _ _ hH (lv_sub hl [1, 0] rfl)
  · have hF := itp c_47 hF
    refine lv_aload_n hx hb dX8_readBar_17 rfl (lv_at hl 1 rfl) ?_
    refine lv_iconst (v := 2) hx hb dX8_readBar_18 syi_2 ?_
    obtain ⟨v_wrong_48, v_wrongAt_49, he, hF⟩ := bd2e hF
    refine mcV hX hK hEv hE0 hH (met_X8_fails hE he) (mrecv hK hH) gw_StoneYearModel_149 hd_yX8_fails ⟨Nat.le_of_ble_eq_true rfl, Nat.le_of_ble_eq_true rfl⟩ rfl rfl hl (Nat.le_of_ble_eq_true rfl) dX8_readBar_19 ⟨Nat.le_of_ble_eq_true rfl, Nat.le_of_ble_eq_true rfl⟩ (fun H locs hH => ?_)
    refine lv_goto (tgt := 36) hx hb dX8_readBar_22 rfl ?_
    exact j36 v_wrong_48 v_wrongAt_49 hF _ _ _ hH (lv_sub hl [1, 0] rfl)
abbrev rm_X8_readMust : Room := { frames := 7, cells := 0, slots := 0, locals := 151 }
set_option maxHeartbeats 4000000 in
theorem met_X8_readMust {l : Launch} {D : va_G} {ad : Nat → Nat} {cA : Nat → ClassId} {a_all : Nat → Int32} {a_hasImage : Nat → Int32} {a_tape : Nat → Int32} {a_fresh : Nat → Int32} {v_taped : Int32} {v_at : Int32} {v_behind : Int32} {v_size : Int32} {v_kind : Int32} {v_number : Int32} {v_wrong : Int32} {v_wrongAt : Int32} {v_depth : Int32} {v_steps : Int32} {v_faultKind : Int32} {v_faultPlace : Int32} {a_on : Nat → Int32} {a_many : Nat → Int32} {v_moved : Int32} {a_pile : Nat → Int32} {v_aside : Int32} {v_judgedBy : Int32} {v_judgedYear : Int32} {a_leastCost : Nat → Int32} {a_matched : Nat → Int32} {a_order : Nat → Int32} {a_lies : Nat → Int64} {a_movedThen : Nat → Int32} {a_yearTable : Nat → Int32} {a_yearMark : Nat → Int32} {a_beginTable : Nat → Int32} {a_beginMark : Nat → Int32} {v_statesTold : Int32} {v_found : Int32} {v_yearFrom : Int32} {v_mark : Int32} {v_beginsMark : Int32} {v_begins : Int32} {a_began : Nat → Int64} {v_isSpent : Int32} {a_wants : Nat → Int32} {a_rowSort : Nat → Int32} {a_rowMany : Nat → Int32} {a_numbers : Nat → Int64}  {p1 : Int32} {ra_fresh : Nat → Int32} {rv_at : Int32} {rv_behind : Int32} {rv_kind : Int32} {rv_number : Int32} {rv_wrong : Int32} {rv_wrongAt : Int32} {ak av fo : Nat} {E : EvT} (hE : EvM E ak av fo) (hF : FX8_readMust a_tape a_fresh v_at v_behind v_size v_kind v_number v_wrong v_wrongAt p1 = some (ra_fresh, rv_at, rv_behind, rv_kind, rv_number, rv_wrong, rv_wrongAt)) : MM l yX8_readMust (ws_ yX8_readMust cX8_readMust 5 (Option.none : Option Jvm.ClassFile.FieldType)) rm_X8_readMust D vwA (mT cA) E [.ref (ad 0), .int p1] (mW ad cA a_all a_hasImage a_tape a_fresh v_taped v_at v_behind v_size v_kind v_number v_wrong v_wrongAt v_depth v_steps v_faultKind v_faultPlace a_on a_many v_moved a_pile v_aside v_judgedBy v_judgedYear a_leastCost a_matched a_order a_lies a_movedThen a_yearTable a_yearMark a_beginTable a_beginMark v_statesTold v_found v_yearFrom v_mark v_beginsMark v_begins a_began v_isSpent a_wants a_rowSort a_rowMany a_numbers) (mW ad cA a_all a_hasImage a_tape ra_fresh v_taped rv_at rv_behind v_size rv_kind rv_number rv_wrong rv_wrongAt v_depth v_steps v_faultKind v_faultPlace a_on a_many v_moved a_pile v_aside v_judgedBy v_judgedYear a_leastCost a_matched a_order a_lies a_movedThen a_yearTable a_yearMark a_beginTable a_beginMark v_statesTold v_found v_yearFrom v_mark v_beginsMark v_begins a_began v_isSpent a_wants a_rowSort a_rowMany a_numbers) none := by
  refine MM.ofV (by decide) (Nat.le_of_ble_eq_true rfl) ?_
  intro p e s m args below meth c Q A hX hK hE0 hret H locs ls hH hl
  have hX : CallFix p m c cX8_readMust 5 s args lw_all RX8 := hX
  have hx := hX.1
  have hb := hX.2.1
  have hown := hX.2.2.2.1
  have hts := hX.2.2.2.2
  have hl : lv_has ls 5 [(0, .ref (ad 0)), (1, .int p1)] := hl
  have hEv := hE.1
  delta FX8_readMust at hF
  refine lv_aload_n hx hb dX8_readMust_0 rfl (lv_at hl 0 rfl) ?_
  refine mg_fresh hX hK hH dX8_readMust_1 ?_
  refine lv_bipush (v := 56) hx hb dX8_readMust_4 syb_56 ?_
  obtain ⟨x_46, he, hF⟩ := bd1e hF
  refine ml_fresh hX hK hH he dX8_readMust_6 ?_
  refine lv_istore_n (lv' := [(2, .int x_46), (0, .ref (ad 0)), (1, .int p1)]) hx hb dX8_readMust_7 rfl hl (by decide) rfl (fun ls hl => ?_)
  refine lv_iload_n hx hb dX8_readMust_8 rfl (lv_at hl 0 rfl) ?_
  refine lv_bipush (v := 6) hx hb dX8_readMust_9 syb_6 ?_
  have j19 : ∀ (v_wrong_50 : Int32) (v_wrongAt_51 : Int32), FX8_readMust_j19 a_tape a_fresh v_at v_behind v_size v_kind v_number p1 x_46 v_wrong_50 v_wrongAt_51 = some (ra_fresh, rv_at, rv_behind, rv_kind, rv_number, rv_wrong, rv_wrongAt) → ∀ (H : Heap) (locs : List Loc) (ls : Array Slot), MH D vwA A s.heap (mW ad cA a_all a_hasImage a_tape a_fresh v_taped v_at v_behind v_size v_kind v_number v_wrong_50 v_wrongAt_51 v_depth v_steps v_faultKind v_faultPlace a_on a_many v_moved a_pile v_aside v_judgedBy v_judgedYear a_leastCost a_matched a_order a_lies a_movedThen a_yearTable a_yearMark a_beginTable a_beginMark v_statesTold v_found v_yearFrom v_mark v_beginsMark v_begins a_began v_isSpent a_wants a_rowSort a_rowMany a_numbers) H locs → lv_has ls 5 [(0, .ref (ad 0)), (1, .int p1), (2, .int x_46)] → W p l e rm_X8_readMust s m args below meth c H locs 0 0 Q (F0 m 19 ls []) := by
    intro v_wrong_50 v_wrongAt_51 hF H locs ls hH hl
    delta FX8_readMust_j19 at hF
    refine lv_aload_n hx hb dX8_readMust_19 rfl (lv_at hl 0 rfl) ?_
    refine mg_wrong hX hK hH dX8_readMust_20 ?_
    refine lv_if_eq (tgt := 27) hx hb dX8_readMust_23 rfl (fun c_52 => ?_) (fun c_52 => ?_)
    · have hF := itp c_52 hF
      refine lv_aload_n hx hb dX8_readMust_27 rfl (lv_at hl 0 rfl) ?_
      obtain ⟨v_at_53, v_behind_54, v_kind_55, v_number_56, he, hF⟩ := bd4e hF
      refine mcV hX hK hEv hE0 hH (met_X8_next hE he) (mrecv hK hH) gw_StoneYearModel_143 hd_yX8_next ⟨Nat.le_of_ble_eq_true rfl, Nat.le_of_ble_eq_true rfl⟩ rfl rfl hl (Nat.le_of_ble_eq_true rfl) dX8_readMust_28 ⟨Nat.le_of_ble_eq_true rfl, Nat.le_of_ble_eq_true rfl⟩ (fun H locs hH => ?_)
      refine lv_aload_n hx hb dX8_readMust_31 rfl (lv_at hl 0 rfl) ?_
      refine lv_iconst (v := 0) hx hb dX8_readMust_32 syi_0 ?_
      refine lv_aload_n hx hb dX8_readMust_33 rfl (lv_at hl 0 rfl) ?_
      refine mg_fresh hX hK hH dX8_readMust_34 ?_
      refine lv_iconst (v := 0) hx hb dX8_readMust_37 syi_0 ?_
      obtain ⟨x_57, he, hF⟩ := bd1e hF
      refine ml_fresh hX hK hH he dX8_readMust_38 ?_
      refine lv_iconst (v := 1) hx hb dX8_readMust_39 syi_1 ?_
      refine lv_isub hx hb dX8_readMust_40 ?_
      obtain ⟨x_58, v_at_59, v_behind_60, v_kind_61, v_number_62, v_wrong_63, v_wrongAt_64, he, hF⟩ := bd7e hF
      refine mcV hX hK hEv hE0 hH (met_X8_reads hE he) (mrecv hK hH) gw_StoneYearModel_157 hd_yX8_reads ⟨Nat.le_of_ble_eq_true rfl, Nat.le_of_ble_eq_true rfl⟩ rfl rfl hl (Nat.le_of_ble_eq_true rfl) dX8_readMust_41 ⟨Nat.le_of_ble_eq_true rfl, Nat.le_of_ble_eq_true rfl⟩ (fun H locs hH => ?_)
      refine lv_istore_n (lv' := [(3, .int x_58), (0, .ref (ad 0)), (1, .int p1), (2, .int x_46)]) hx hb dX8_readMust_44 rfl hl (by decide) rfl (fun ls hl => ?_)
      refine lv_aload_n hx hb dX8_readMust_45 rfl (lv_at hl 1 rfl) ?_
      refine lv_iconst (v := 0) hx hb dX8_readMust_46 syi_0 ?_
      refine lv_iconst (v := 3) hx hb dX8_readMust_47 syi_3 ?_
      obtain ⟨x_65, v_at_66, v_behind_67, v_kind_68, v_number_69, v_wrong_70, v_wrongAt_71, he, hF⟩ := bd7e hF
      refine mcV hX hK hEv hE0 hH (met_X8_reads hE he) (mrecv hK hH) gw_StoneYearModel_157 hd_yX8_reads ⟨Nat.le_of_ble_eq_true rfl, Nat.le_of_ble_eq_true rfl⟩ rfl rfl hl (Nat.le_of_ble_eq_true rfl) dX8_readMust_48 ⟨Nat.le_of_ble_eq_true rfl, Nat.le_of_ble_eq_true rfl⟩ (fun H locs hH => ?_)
      refine lv_istore (lv' := [(4, .int x_65), (3, .int x_58), (0, .ref (ad 0)), (1, .int p1), (2, .int x_46)]) hx hb dX8_readMust_51 hl (by decide) rfl (fun ls hl => ?_)
      refine lv_aload_n hx hb dX8_readMust_53 rfl (lv_at hl 2 rfl) ?_
      refine mg_wrong hX hK hH dX8_readMust_54 ?_
      refine lv_if_eq (tgt := 61) hx hb dX8_readMust_57 rfl (fun c_72 => ?_) (fun c_72 => ?_)
      · have hF := itp c_72 hF
        refine lv_aload_n hx hb dX8_readMust_61 rfl (lv_at hl 2 rfl) ?_
        refine mg_fresh hX hK hH dX8_readMust_62 ?_
        refine lv_bipush (v := 57) hx hb dX8_readMust_65 syb_57 ?_
        refine lv_iload_n hx hb dX8_readMust_67 rfl (lv_at hl 4 rfl) ?_
        refine lv_iadd hx hb dX8_readMust_68 ?_
        refine lv_iload_n hx hb dX8_readMust_69 rfl (lv_at hl 3 rfl) ?_
        obtain ⟨a_fresh_73, he, hF⟩ := bd1e hF
        refine ms_fresh hX hK hH he dX8_readMust_70 (fun H locs hH => ?_)
        refine lv_aload_n hx hb dX8_readMust_71 rfl (lv_at hl 2 rfl) ?_
        refine mg_fresh hX hK hH dX8_readMust_72 ?_
        refine lv_bipush (v := 63) hx hb dX8_readMust_75 syb_63 ?_
        refine lv_iload_n hx hb dX8_readMust_77 rfl (lv_at hl 4 rfl) ?_
        refine lv_iadd hx hb dX8_readMust_78 ?_
        refine lv_iload_n hx hb dX8_readMust_79 rfl (lv_at hl 1 rfl) ?_
        obtain ⟨a_fresh_74, he, hF⟩ := bd1e hF
        refine ms_fresh hX hK hH he dX8_readMust_80 (fun H locs hH => ?_)
        refine lv_aload_n hx hb dX8_readMust_81 rfl (lv_at hl 2 rfl) ?_
        refine mg_fresh hX hK hH dX8_readMust_82 ?_
        refine lv_bipush (v := 69) hx hb dX8_readMust_85 syb_69 ?_
        refine lv_iload_n hx hb dX8_readMust_87 rfl (lv_at hl 4 rfl) ?_
        refine lv_iadd hx hb dX8_readMust_88 ?_
        refine lv_iload hx hb dX8_readMust_89 (lv_at hl 0 rfl) ?_
        obtain ⟨a_fresh_75, he, hF⟩ := bd1e hF
        refine ms_fresh hX hK hH he dX8_readMust_91 (fun H locs hH => ?_)
        refine lv_aload_n hx hb dX8_readMust_92 rfl (lv_at hl 2 rfl) ?_
        refine mg_fresh hX hK hH dX8_readMust_93 ?_
        refine lv_bipush (v := 56) hx hb dX8_readMust_96 syb_56 ?_
        refine lv_dup2_11 hx hb dX8_readMust_98 rfl rfl ?_
        obtain ⟨x_76, he, hF⟩ := bd1e hF
        refine ml_fresh hX hK hH he dX8_readMust_99 ?_
        refine lv_iconst (v := 1) hx hb dX8_readMust_100 syi_1 ?_
        refine lv_iadd hx hb dX8_readMust_101 ?_
        obtain ⟨a_fresh_77, he, hF⟩ := bd1e hF
        refine ms_fresh hX hK hH he dX8_readMust_102 (fun H locs hH => ?_)
        obtain ⟨rfl, rfl, rfl, rfl, rfl, rfl, rfl⟩ := re7 hF
        exact hret _ _ _ _ hH dX8_readMust_103
      · have hF := itn c_72 hF
        obtain ⟨rfl, rfl, rfl, rfl, rfl, rfl, rfl⟩ := re7 hF
        exact hret _ _ _ _ hH dX8_readMust_60
    · have hF := itn c_52 hF
      obtain ⟨rfl, rfl, rfl, rfl, rfl, rfl, rfl⟩ := re7 hF
      exact hret _ _ _ _ hH dX8_readMust_26
  refine lv_icmp_ne (tgt := 19) hx hb dX8_readMust_11 rfl (fun c_47 => ?_) (fun c_47 => ?_)
  · have hF := itn c_47 hF
    exact j19 v_wrong v_wrongAt hF _ _ _ hH (lv_sub hl [1, 2, 0] rfl)
  · have hF := itp c_47 hF
    refine lv_aload_n hx hb dX8_readMust_14 rfl (lv_at hl 1 rfl) ?_
    refine lv_iconst (v := 4) hx hb dX8_readMust_15 syi_4 ?_
    obtain ⟨v_wrong_48, v_wrongAt_49, he, hF⟩ := bd2e hF
    refine mcV hX hK hEv hE0 hH (met_X8_fails hE he) (mrecv hK hH) gw_StoneYearModel_149 hd_yX8_fails ⟨Nat.le_of_ble_eq_true rfl, Nat.le_of_ble_eq_true rfl⟩ rfl rfl hl (Nat.le_of_ble_eq_true rfl) dX8_readMust_16 ⟨Nat.le_of_ble_eq_true rfl, Nat.le_of_ble_eq_true rfl⟩ (fun H locs hH => ?_)
    exact j19 v_wrong_48 v_wrongAt_49 hF _ _ _ hH (lv_sub hl [1, 2, 0] rfl)
abbrev rm_X8_readRow : Room := { frames := 7, cells := 0, slots := 0, locals := 151 }
set_option maxHeartbeats 4000000 in
theorem met_X8_readRow {l : Launch} {D : va_G} {ad : Nat → Nat} {cA : Nat → ClassId} {a_all : Nat → Int32} {a_hasImage : Nat → Int32} {a_tape : Nat → Int32} {a_fresh : Nat → Int32} {v_taped : Int32} {v_at : Int32} {v_behind : Int32} {v_size : Int32} {v_kind : Int32} {v_number : Int32} {v_wrong : Int32} {v_wrongAt : Int32} {v_depth : Int32} {v_steps : Int32} {v_faultKind : Int32} {v_faultPlace : Int32} {a_on : Nat → Int32} {a_many : Nat → Int32} {v_moved : Int32} {a_pile : Nat → Int32} {v_aside : Int32} {v_judgedBy : Int32} {v_judgedYear : Int32} {a_leastCost : Nat → Int32} {a_matched : Nat → Int32} {a_order : Nat → Int32} {a_lies : Nat → Int64} {a_movedThen : Nat → Int32} {a_yearTable : Nat → Int32} {a_yearMark : Nat → Int32} {a_beginTable : Nat → Int32} {a_beginMark : Nat → Int32} {v_statesTold : Int32} {v_found : Int32} {v_yearFrom : Int32} {v_mark : Int32} {v_beginsMark : Int32} {v_begins : Int32} {a_began : Nat → Int64} {v_isSpent : Int32} {a_wants : Nat → Int32} {a_rowSort : Nat → Int32} {a_rowMany : Nat → Int32} {a_numbers : Nat → Int64}   {ra_fresh : Nat → Int32} {rv_at : Int32} {rv_behind : Int32} {rv_kind : Int32} {rv_number : Int32} {rv_wrong : Int32} {rv_wrongAt : Int32} {ak av fo : Nat} {E : EvT} (hE : EvM E ak av fo) (hF : FX8_readRow a_tape a_fresh v_at v_behind v_size v_kind v_number v_wrong v_wrongAt = some (ra_fresh, rv_at, rv_behind, rv_kind, rv_number, rv_wrong, rv_wrongAt)) : MM l yX8_readRow (ws_ yX8_readRow cX8_readRow 2 (Option.none : Option Jvm.ClassFile.FieldType)) rm_X8_readRow D vwA (mT cA) E [.ref (ad 0)] (mW ad cA a_all a_hasImage a_tape a_fresh v_taped v_at v_behind v_size v_kind v_number v_wrong v_wrongAt v_depth v_steps v_faultKind v_faultPlace a_on a_many v_moved a_pile v_aside v_judgedBy v_judgedYear a_leastCost a_matched a_order a_lies a_movedThen a_yearTable a_yearMark a_beginTable a_beginMark v_statesTold v_found v_yearFrom v_mark v_beginsMark v_begins a_began v_isSpent a_wants a_rowSort a_rowMany a_numbers) (mW ad cA a_all a_hasImage a_tape ra_fresh v_taped rv_at rv_behind v_size rv_kind rv_number rv_wrong rv_wrongAt v_depth v_steps v_faultKind v_faultPlace a_on a_many v_moved a_pile v_aside v_judgedBy v_judgedYear a_leastCost a_matched a_order a_lies a_movedThen a_yearTable a_yearMark a_beginTable a_beginMark v_statesTold v_found v_yearFrom v_mark v_beginsMark v_begins a_began v_isSpent a_wants a_rowSort a_rowMany a_numbers) none := by
  refine MM.ofV (by decide) (Nat.le_of_ble_eq_true rfl) ?_
  intro p e s m args below meth c Q A hX hK hE0 hret H locs ls hH hl
  have hX : CallFix p m c cX8_readRow 2 s args lw_all RX8 := hX
  have hx := hX.1
  have hb := hX.2.1
  have hown := hX.2.2.2.1
  have hts := hX.2.2.2.2
  have hl : lv_has ls 2 [(0, .ref (ad 0))] := hl
  have hEv := hE.1
  delta FX8_readRow at hF
  refine lv_aload_n hx hb dX8_readRow_0 rfl (lv_at hl 0 rfl) ?_
  refine mg_fresh hX hK hH dX8_readRow_1 ?_
  refine lv_iconst (v := 0) hx hb dX8_readRow_4 syi_0 ?_
  obtain ⟨x_45, he, hF⟩ := bd1e hF
  refine ml_fresh hX hK hH he dX8_readRow_5 ?_
  refine lv_iconst (v := 5) hx hb dX8_readRow_6 syi_5 ?_
  have j15 : ∀ (v_wrong_49 : Int32) (v_wrongAt_50 : Int32), FX8_readRow_j15 a_tape a_fresh v_at v_behind v_size v_kind v_number v_wrong_49 v_wrongAt_50 = some (ra_fresh, rv_at, rv_behind, rv_kind, rv_number, rv_wrong, rv_wrongAt) → ∀ (H : Heap) (locs : List Loc) (ls : Array Slot), MH D vwA A s.heap (mW ad cA a_all a_hasImage a_tape a_fresh v_taped v_at v_behind v_size v_kind v_number v_wrong_49 v_wrongAt_50 v_depth v_steps v_faultKind v_faultPlace a_on a_many v_moved a_pile v_aside v_judgedBy v_judgedYear a_leastCost a_matched a_order a_lies a_movedThen a_yearTable a_yearMark a_beginTable a_beginMark v_statesTold v_found v_yearFrom v_mark v_beginsMark v_begins a_began v_isSpent a_wants a_rowSort a_rowMany a_numbers) H locs → lv_has ls 2 [(0, .ref (ad 0))] → W p l e rm_X8_readRow s m args below meth c H locs 0 0 Q (F0 m 15 ls []) := by
    intro v_wrong_49 v_wrongAt_50 hF H locs ls hH hl
    delta FX8_readRow_j15 at hF
    refine lv_aload_n hx hb dX8_readRow_15 rfl (lv_at hl 0 rfl) ?_
    refine mg_wrong hX hK hH dX8_readRow_16 ?_
    refine lv_if_eq (tgt := 23) hx hb dX8_readRow_19 rfl (fun c_51 => ?_) (fun c_51 => ?_)
    · have hF := itp c_51 hF
      refine lv_aload_n hx hb dX8_readRow_23 rfl (lv_at hl 0 rfl) ?_
      obtain ⟨v_at_52, v_behind_53, v_kind_54, v_number_55, he, hF⟩ := bd4e hF
      refine mcV hX hK hEv hE0 hH (met_X8_next hE he) (mrecv hK hH) gw_StoneYearModel_143 hd_yX8_next ⟨Nat.le_of_ble_eq_true rfl, Nat.le_of_ble_eq_true rfl⟩ rfl rfl hl (Nat.le_of_ble_eq_true rfl) dX8_readRow_24 ⟨Nat.le_of_ble_eq_true rfl, Nat.le_of_ble_eq_true rfl⟩ (fun H locs hH => ?_)
      refine lv_aload_n hx hb dX8_readRow_27 rfl (lv_at hl 0 rfl) ?_
      refine lv_iconst (v := 1) hx hb dX8_readRow_28 syi_1 ?_
      refine lv_iconst (v := 3) hx hb dX8_readRow_29 syi_3 ?_
      obtain ⟨x_56, v_at_57, v_behind_58, v_kind_59, v_number_60, v_wrong_61, v_wrongAt_62, he, hF⟩ := bd7e hF
      refine mcV hX hK hEv hE0 hH (met_X8_reads hE he) (mrecv hK hH) gw_StoneYearModel_157 hd_yX8_reads ⟨Nat.le_of_ble_eq_true rfl, Nat.le_of_ble_eq_true rfl⟩ rfl rfl hl (Nat.le_of_ble_eq_true rfl) dX8_readRow_30 ⟨Nat.le_of_ble_eq_true rfl, Nat.le_of_ble_eq_true rfl⟩ (fun H locs hH => ?_)
      refine lv_istore_n (lv' := [(1, .int x_56), (0, .ref (ad 0))]) hx hb dX8_readRow_33 rfl hl (by decide) rfl (fun ls hl => ?_)
      refine lv_aload_n hx hb dX8_readRow_34 rfl (lv_at hl 1 rfl) ?_
      refine mg_wrong hX hK hH dX8_readRow_35 ?_
      refine lv_if_eq (tgt := 42) hx hb dX8_readRow_38 rfl (fun c_63 => ?_) (fun c_63 => ?_)
      · have hF := itp c_63 hF
        refine lv_aload_n hx hb dX8_readRow_42 rfl (lv_at hl 1 rfl) ?_
        refine mg_fresh hX hK hH dX8_readRow_43 ?_
        refine lv_iconst (v := 1) hx hb dX8_readRow_46 syi_1 ?_
        refine lv_aload_n hx hb dX8_readRow_47 rfl (lv_at hl 1 rfl) ?_
        refine mg_fresh hX hK hH dX8_readRow_48 ?_
        refine lv_iconst (v := 0) hx hb dX8_readRow_51 syi_0 ?_
        obtain ⟨x_64, he, hF⟩ := bd1e hF
        refine ml_fresh hX hK hH he dX8_readRow_52 ?_
        refine lv_iadd hx hb dX8_readRow_53 ?_
        refine lv_iload_n hx hb dX8_readRow_54 rfl (lv_at hl 0 rfl) ?_
        obtain ⟨a_fresh_65, he, hF⟩ := bd1e hF
        refine ms_fresh hX hK hH he dX8_readRow_55 (fun H locs hH => ?_)
        refine lv_aload_n hx hb dX8_readRow_56 rfl (lv_at hl 1 rfl) ?_
        refine mg_fresh hX hK hH dX8_readRow_57 ?_
        refine lv_iconst (v := 0) hx hb dX8_readRow_60 syi_0 ?_
        refine lv_dup2_11 hx hb dX8_readRow_61 rfl rfl ?_
        obtain ⟨x_66, he, hF⟩ := bd1e hF
        refine ml_fresh hX hK hH he dX8_readRow_62 ?_
        refine lv_iconst (v := 1) hx hb dX8_readRow_63 syi_1 ?_
        refine lv_iadd hx hb dX8_readRow_64 ?_
        obtain ⟨a_fresh_67, he, hF⟩ := bd1e hF
        refine ms_fresh hX hK hH he dX8_readRow_65 (fun H locs hH => ?_)
        obtain ⟨rfl, rfl, rfl, rfl, rfl, rfl, rfl⟩ := re7 hF
        exact hret _ _ _ _ hH dX8_readRow_66
      · have hF := itn c_63 hF
        obtain ⟨rfl, rfl, rfl, rfl, rfl, rfl, rfl⟩ := re7 hF
        exact hret _ _ _ _ hH dX8_readRow_41
    · have hF := itn c_51 hF
      obtain ⟨rfl, rfl, rfl, rfl, rfl, rfl, rfl⟩ := re7 hF
      exact hret _ _ _ _ hH dX8_readRow_22
  refine lv_icmp_ne (tgt := 15) hx hb dX8_readRow_7 rfl (fun c_46 => ?_) (fun c_46 => ?_)
  · have hF := itn c_46 hF
    exact j15 v_wrong v_wrongAt hF _ _ _ hH (lv_sub hl [0] rfl)
  · have hF := itp c_46 hF
    refine lv_aload_n hx hb dX8_readRow_10 rfl (lv_at hl 0 rfl) ?_
    refine lv_iconst (v := 4) hx hb dX8_readRow_11 syi_4 ?_
    obtain ⟨v_wrong_47, v_wrongAt_48, he, hF⟩ := bd2e hF
    refine mcV hX hK hEv hE0 hH (met_X8_fails hE he) (mrecv hK hH) gw_StoneYearModel_149 hd_yX8_fails ⟨Nat.le_of_ble_eq_true rfl, Nat.le_of_ble_eq_true rfl⟩ rfl rfl hl (Nat.le_of_ble_eq_true rfl) dX8_readRow_12 ⟨Nat.le_of_ble_eq_true rfl, Nat.le_of_ble_eq_true rfl⟩ (fun H locs hH => ?_)
    exact j15 v_wrong_47 v_wrongAt_48 hF _ _ _ hH (lv_sub hl [0] rfl)
abbrev rm_X8_freshMany : Room := { frames := 0, cells := 0, slots := 0, locals := 0 }
set_option maxHeartbeats 4000000 in
theorem met_X8_freshMany {l : Launch} {D : va_G} {ad : Nat → Nat} {cA : Nat → ClassId} {a_all : Nat → Int32} {a_hasImage : Nat → Int32} {a_tape : Nat → Int32} {a_fresh : Nat → Int32} {v_taped : Int32} {v_at : Int32} {v_behind : Int32} {v_size : Int32} {v_kind : Int32} {v_number : Int32} {v_wrong : Int32} {v_wrongAt : Int32} {v_depth : Int32} {v_steps : Int32} {v_faultKind : Int32} {v_faultPlace : Int32} {a_on : Nat → Int32} {a_many : Nat → Int32} {v_moved : Int32} {a_pile : Nat → Int32} {v_aside : Int32} {v_judgedBy : Int32} {v_judgedYear : Int32} {a_leastCost : Nat → Int32} {a_matched : Nat → Int32} {a_order : Nat → Int32} {a_lies : Nat → Int64} {a_movedThen : Nat → Int32} {a_yearTable : Nat → Int32} {a_yearMark : Nat → Int32} {a_beginTable : Nat → Int32} {a_beginMark : Nat → Int32} {v_statesTold : Int32} {v_found : Int32} {v_yearFrom : Int32} {v_mark : Int32} {v_beginsMark : Int32} {v_begins : Int32} {a_began : Nat → Int64} {v_isSpent : Int32} {a_wants : Nat → Int32} {a_rowSort : Nat → Int32} {a_rowMany : Nat → Int32} {a_numbers : Nat → Int64}  {p1 : Int32} {res : Int32} {ak av fo : Nat} {E : EvT} (hE : EvM E ak av fo) (hF : FX8_freshMany a_fresh p1 = some res) : MM l yX8_freshMany (ws_ yX8_freshMany cX8_freshMany 3 (Option.some Jvm.ClassFile.FieldType.int)) rm_X8_freshMany D vwA (mT cA) E [.ref (ad 0), .int p1] (mW ad cA a_all a_hasImage a_tape a_fresh v_taped v_at v_behind v_size v_kind v_number v_wrong v_wrongAt v_depth v_steps v_faultKind v_faultPlace a_on a_many v_moved a_pile v_aside v_judgedBy v_judgedYear a_leastCost a_matched a_order a_lies a_movedThen a_yearTable a_yearMark a_beginTable a_beginMark v_statesTold v_found v_yearFrom v_mark v_beginsMark v_begins a_began v_isSpent a_wants a_rowSort a_rowMany a_numbers) (mW ad cA a_all a_hasImage a_tape a_fresh v_taped v_at v_behind v_size v_kind v_number v_wrong v_wrongAt v_depth v_steps v_faultKind v_faultPlace a_on a_many v_moved a_pile v_aside v_judgedBy v_judgedYear a_leastCost a_matched a_order a_lies a_movedThen a_yearTable a_yearMark a_beginTable a_beginMark v_statesTold v_found v_yearFrom v_mark v_beginsMark v_begins a_began v_isSpent a_wants a_rowSort a_rowMany a_numbers) (some (.int res)) := by
  refine MM.ofI (by decide) (Nat.le_of_ble_eq_true rfl) ?_
  intro p e s m args below meth c Q A hX hK hE0 hret H locs ls hH hl
  have hX : CallFix p m c cX8_freshMany 3 s args lw_all RX8 := hX
  have hx := hX.1
  have hb := hX.2.1
  have hown := hX.2.2.2.1
  have hts := hX.2.2.2.2
  have hl : lv_has ls 3 [(0, .ref (ad 0)), (1, .int p1)] := hl
  have hEv := hE.1
  delta FX8_freshMany at hF
  refine lv_iconst (v := 0) hx hb dX8_freshMany_0 syi_0 ?_
  refine lv_istore_n (lv' := [(2, .int 0), (0, .ref (ad 0)), (1, .int p1)]) hx hb dX8_freshMany_1 rfl hl (by decide) rfl (fun ls hl => ?_)
  obtain ⟨xx2, ee2, kk2_0⟩ := bd1L hF
  have k2_0 : ∀ (x_53 : Int32), xx2 = x_53 → ∀ (H : Heap) (locs : List Loc) (ls : Array Slot), MH D vwA A s.heap (mW ad cA a_all a_hasImage a_tape a_fresh v_taped v_at v_behind v_size v_kind v_number v_wrong v_wrongAt v_depth v_steps v_faultKind v_faultPlace a_on a_many v_moved a_pile v_aside v_judgedBy v_judgedYear a_leastCost a_matched a_order a_lies a_movedThen a_yearTable a_yearMark a_beginTable a_beginMark v_statesTold v_found v_yearFrom v_mark v_beginsMark v_begins a_began v_isSpent a_wants a_rowSort a_rowMany a_numbers) H locs → lv_has ls 3 [(2, .int x_53)] → W p l e rm_X8_freshMany s m args below meth c H locs 0 0 Q (F0 m 29 ls []) := by
    intro x_53 hxx H locs ls hH hl
    have hF := un1e (kk2_0 x_53 hxx)
    refine lv_iload_n hx hb dX8_freshMany_29 rfl (lv_at hl 0 rfl) ?_
    obtain rfl := Option.some.inj hF
    exact hret _ _ _ _ hH dX8_freshMany_30
  obtain ⟨nn2, en2⟩ := loopC_some ee2
  have l2 : ∀ (n : Nat) (x_49 : Int32), loopN (fun s => FX8_freshMany_b2 a_fresh p1 s) n x_49 = some xx2 → ∀ (H : Heap) (locs : List Loc) (ls : Array Slot), MH D vwA A s.heap (mW ad cA a_all a_hasImage a_tape a_fresh v_taped v_at v_behind v_size v_kind v_number v_wrong v_wrongAt v_depth v_steps v_faultKind v_faultPlace a_on a_many v_moved a_pile v_aside v_judgedBy v_judgedYear a_leastCost a_matched a_order a_lies a_movedThen a_yearTable a_yearMark a_beginTable a_beginMark v_statesTold v_found v_yearFrom v_mark v_beginsMark v_begins a_began v_isSpent a_wants a_rowSort a_rowMany a_numbers) H locs → lv_has ls 3 [(0, .ref (ad 0)), (1, .int p1), (2, .int x_49)] → W p l e rm_X8_freshMany s m args below meth c H locs 0 0 Q (F0 m 2 ls []) := by
    intro n
    induction n with
    | zero =>
      intro x_49 hN
      exact absurd hN loopN_zero
    | succ n ih =>
      intro x_49 hN H locs ls hH hl
      obtain ⟨yy2, hB2, hY2⟩ := loopN_succ hN
      have hF : FX8_freshMany_b2 a_fresh p1 x_49 = some yy2 := hB2
      delta FX8_freshMany_b2 at hF
      refine lv_iload_n hx hb dX8_freshMany_2 rfl (lv_at hl 2 rfl) ?_
      refine lv_iconst (v := 3) hx hb dX8_freshMany_3 syi_3 ?_
      refine lv_icmp_ge (tgt := 29) hx hb dX8_freshMany_4 rfl (fun c_50 => ?_) (fun c_50 => ?_)
      · have hF := itp c_50 hF
        obtain rfl := Option.some.inj hF
        exact k2_0 x_49 hY2 _ _ _ hH (lv_sub hl [2] rfl)
      · have hF := itn c_50 hF
        refine lv_aload_n hx hb dX8_freshMany_7 rfl (lv_at hl 0 rfl) ?_
        refine mg_fresh hX hK hH dX8_freshMany_8 ?_
        refine lv_bipush (v := 80) hx hb dX8_freshMany_11 syb_80 ?_
        refine lv_iconst (v := 3) hx hb dX8_freshMany_13 syi_3 ?_
        refine lv_iload_n hx hb dX8_freshMany_14 rfl (lv_at hl 1 rfl) ?_
        refine lv_imul hx hb dX8_freshMany_15 ?_
        refine lv_iadd hx hb dX8_freshMany_16 ?_
        refine lv_iload_n hx hb dX8_freshMany_17 rfl (lv_at hl 2 rfl) ?_
        refine lv_iadd hx hb dX8_freshMany_18 ?_
        obtain ⟨x_51, he, hF⟩ := bd1e hF
        refine ml_fresh hX hK hH he dX8_freshMany_19 ?_
        refine lv_if_le (tgt := 29) hx hb dX8_freshMany_20 rfl (fun c_52 => ?_) (fun c_52 => ?_)
        · have hF := itp c_52 hF
          obtain rfl := Option.some.inj hF
          exact k2_0 x_49 hY2 _ _ _ hH (lv_sub hl [2] rfl)
        · have hF := itn c_52 hF
          refine lv_iinc (v := (x_49 + 1)) (lv' := [(2, .int (x_49 + 1)), (0, .ref (ad 0)), (1, .int p1)]) hx hb dX8_freshMany_23 hl (k := 2) rfl (syc syi_1) (by decide) rfl (fun ls hl => ?_)
          refine lv_goto (tgt := 2) hx hb dX8_freshMany_26 rfl ?_
          obtain rfl := Option.some.inj hF
          exact ih (x_49 + 1) hY2 _ _ _ hH (lv_sub hl [1, 2, 0] rfl)
  exact l2 nn2 0 en2 _ _ _ hH (lv_sub hl [1, 2, 0] rfl)
abbrev rm_X8_readStone : Room := { frames := 8, cells := 0, slots := 0, locals := 170 }
set_option maxHeartbeats 4000000 in
theorem met_X8_readStone {l : Launch} {D : va_G} {ad : Nat → Nat} {cA : Nat → ClassId} {a_all : Nat → Int32} {a_hasImage : Nat → Int32} {a_tape : Nat → Int32} {a_fresh : Nat → Int32} {v_taped : Int32} {v_at : Int32} {v_behind : Int32} {v_size : Int32} {v_kind : Int32} {v_number : Int32} {v_wrong : Int32} {v_wrongAt : Int32} {v_depth : Int32} {v_steps : Int32} {v_faultKind : Int32} {v_faultPlace : Int32} {a_on : Nat → Int32} {a_many : Nat → Int32} {v_moved : Int32} {a_pile : Nat → Int32} {v_aside : Int32} {v_judgedBy : Int32} {v_judgedYear : Int32} {a_leastCost : Nat → Int32} {a_matched : Nat → Int32} {a_order : Nat → Int32} {a_lies : Nat → Int64} {a_movedThen : Nat → Int32} {a_yearTable : Nat → Int32} {a_yearMark : Nat → Int32} {a_beginTable : Nat → Int32} {a_beginMark : Nat → Int32} {v_statesTold : Int32} {v_found : Int32} {v_yearFrom : Int32} {v_mark : Int32} {v_beginsMark : Int32} {v_begins : Int32} {a_began : Nat → Int64} {v_isSpent : Int32} {a_wants : Nat → Int32} {a_rowSort : Nat → Int32} {a_rowMany : Nat → Int32} {a_numbers : Nat → Int64}   {ra_fresh : Nat → Int32} {rv_at : Int32} {rv_behind : Int32} {rv_kind : Int32} {rv_number : Int32} {rv_wrong : Int32} {rv_wrongAt : Int32} {ak av fo : Nat} {E : EvT} (hE : EvM E ak av fo) (hF : FX8_readStone a_tape a_fresh v_at v_behind v_size v_kind v_number v_wrong v_wrongAt = some (ra_fresh, rv_at, rv_behind, rv_kind, rv_number, rv_wrong, rv_wrongAt)) : MM l yX8_readStone (ws_ yX8_readStone cX8_readStone 6 (Option.none : Option Jvm.ClassFile.FieldType)) rm_X8_readStone D vwA (mT cA) E [.ref (ad 0)] (mW ad cA a_all a_hasImage a_tape a_fresh v_taped v_at v_behind v_size v_kind v_number v_wrong v_wrongAt v_depth v_steps v_faultKind v_faultPlace a_on a_many v_moved a_pile v_aside v_judgedBy v_judgedYear a_leastCost a_matched a_order a_lies a_movedThen a_yearTable a_yearMark a_beginTable a_beginMark v_statesTold v_found v_yearFrom v_mark v_beginsMark v_begins a_began v_isSpent a_wants a_rowSort a_rowMany a_numbers) (mW ad cA a_all a_hasImage a_tape ra_fresh v_taped rv_at rv_behind v_size rv_kind rv_number rv_wrong rv_wrongAt v_depth v_steps v_faultKind v_faultPlace a_on a_many v_moved a_pile v_aside v_judgedBy v_judgedYear a_leastCost a_matched a_order a_lies a_movedThen a_yearTable a_yearMark a_beginTable a_beginMark v_statesTold v_found v_yearFrom v_mark v_beginsMark v_begins a_began v_isSpent a_wants a_rowSort a_rowMany a_numbers) none := by
  refine MM.ofV (by decide) (Nat.le_of_ble_eq_true rfl) ?_
  intro p e s m args below meth c Q A hX hK hE0 hret H locs ls hH hl
  have hX : CallFix p m c cX8_readStone 6 s args lw_all RX8 := hX
  have hx := hX.1
  have hb := hX.2.1
  have hown := hX.2.2.2.1
  have hts := hX.2.2.2.2
  have hl : lv_has ls 6 [(0, .ref (ad 0))] := hl
  have hEv := hE.1
  delta FX8_readStone at hF
  refine lv_aload_n hx hb dX8_readStone_0 rfl (lv_at hl 0 rfl) ?_
  refine mg_fresh hX hK hH dX8_readStone_1 ?_
  refine lv_bipush (v := 6) hx hb dX8_readStone_4 syb_6 ?_
  obtain ⟨x_45, he, hF⟩ := bd1e hF
  refine ml_fresh hX hK hH he dX8_readStone_6 ?_
  refine lv_istore_n (lv' := [(1, .int x_45), (0, .ref (ad 0))]) hx hb dX8_readStone_7 rfl hl (by decide) rfl (fun ls hl => ?_)
  refine lv_iload_n hx hb dX8_readStone_8 rfl (lv_at hl 0 rfl) ?_
  refine lv_bipush (v := 8) hx hb dX8_readStone_9 syb_8 ?_
  have j19 : ∀ (v_wrong_49 : Int32) (v_wrongAt_50 : Int32), FX8_readStone_j19 a_tape a_fresh v_at v_behind v_size v_kind v_number x_45 v_wrong_49 v_wrongAt_50 = some (ra_fresh, rv_at, rv_behind, rv_kind, rv_number, rv_wrong, rv_wrongAt) → ∀ (H : Heap) (locs : List Loc) (ls : Array Slot), MH D vwA A s.heap (mW ad cA a_all a_hasImage a_tape a_fresh v_taped v_at v_behind v_size v_kind v_number v_wrong_49 v_wrongAt_50 v_depth v_steps v_faultKind v_faultPlace a_on a_many v_moved a_pile v_aside v_judgedBy v_judgedYear a_leastCost a_matched a_order a_lies a_movedThen a_yearTable a_yearMark a_beginTable a_beginMark v_statesTold v_found v_yearFrom v_mark v_beginsMark v_begins a_began v_isSpent a_wants a_rowSort a_rowMany a_numbers) H locs → lv_has ls 6 [(0, .ref (ad 0)), (1, .int x_45)] → W p l e rm_X8_readStone s m args below meth c H locs 0 0 Q (F0 m 19 ls []) := by
    intro v_wrong_49 v_wrongAt_50 hF H locs ls hH hl
    delta FX8_readStone_j19 at hF
    refine lv_aload_n hx hb dX8_readStone_19 rfl (lv_at hl 0 rfl) ?_
    refine mg_wrong hX hK hH dX8_readStone_20 ?_
    refine lv_if_eq (tgt := 27) hx hb dX8_readStone_23 rfl (fun c_51 => ?_) (fun c_51 => ?_)
    · have hF := itp c_51 hF
      refine lv_aload_n hx hb dX8_readStone_27 rfl (lv_at hl 0 rfl) ?_
      obtain ⟨v_at_52, v_behind_53, v_kind_54, v_number_55, he, hF⟩ := bd4e hF
      refine mcV hX hK hEv hE0 hH (met_X8_next hE he) (mrecv hK hH) gw_StoneYearModel_143 hd_yX8_next ⟨Nat.le_of_ble_eq_true rfl, Nat.le_of_ble_eq_true rfl⟩ rfl rfl hl (Nat.le_of_ble_eq_true rfl) dX8_readStone_28 ⟨Nat.le_of_ble_eq_true rfl, Nat.le_of_ble_eq_true rfl⟩ (fun H locs hH => ?_)
      refine lv_aload_n hx hb dX8_readStone_31 rfl (lv_at hl 0 rfl) ?_
      refine lv_iconst (v := 0) hx hb dX8_readStone_32 syi_0 ?_
      refine lv_bipush (v := 7) hx hb dX8_readStone_33 syb_7 ?_
      obtain ⟨x_56, v_at_57, v_behind_58, v_kind_59, v_number_60, v_wrong_61, v_wrongAt_62, he, hF⟩ := bd7e hF
      refine mcV hX hK hEv hE0 hH (met_X8_reads hE he) (mrecv hK hH) gw_StoneYearModel_157 hd_yX8_reads ⟨Nat.le_of_ble_eq_true rfl, Nat.le_of_ble_eq_true rfl⟩ rfl rfl hl (Nat.le_of_ble_eq_true rfl) dX8_readStone_35 ⟨Nat.le_of_ble_eq_true rfl, Nat.le_of_ble_eq_true rfl⟩ (fun H locs hH => ?_)
      refine lv_istore_n (lv' := [(2, .int x_56), (0, .ref (ad 0)), (1, .int x_45)]) hx hb dX8_readStone_38 rfl hl (by decide) rfl (fun ls hl => ?_)
      refine lv_aload_n hx hb dX8_readStone_39 rfl (lv_at hl 1 rfl) ?_
      refine lv_iconst (v := 2) hx hb dX8_readStone_40 syi_2 ?_
      obtain ⟨v_at_63, v_behind_64, v_kind_65, v_number_66, v_wrong_67, v_wrongAt_68, he, hF⟩ := bd6e hF
      refine mcV hX hK hEv hE0 hH (met_X8_needs hE he) (mrecv hK hH) gw_StoneYearModel_161 hd_yX8_needs ⟨Nat.le_of_ble_eq_true rfl, Nat.le_of_ble_eq_true rfl⟩ rfl rfl hl (Nat.le_of_ble_eq_true rfl) dX8_readStone_41 ⟨Nat.le_of_ble_eq_true rfl, Nat.le_of_ble_eq_true rfl⟩ (fun H locs hH => ?_)
      refine lv_aload_n hx hb dX8_readStone_44 rfl (lv_at hl 1 rfl) ?_
      refine lv_iconst (v := 1) hx hb dX8_readStone_45 syi_1 ?_
      refine lv_bipush (v := 9) hx hb dX8_readStone_46 syb_9 ?_
      obtain ⟨x_69, v_at_70, v_behind_71, v_kind_72, v_number_73, v_wrong_74, v_wrongAt_75, he, hF⟩ := bd7e hF
      refine mcV hX hK hEv hE0 hH (met_X8_reads hE he) (mrecv hK hH) gw_StoneYearModel_157 hd_yX8_reads ⟨Nat.le_of_ble_eq_true rfl, Nat.le_of_ble_eq_true rfl⟩ rfl rfl hl (Nat.le_of_ble_eq_true rfl) dX8_readStone_48 ⟨Nat.le_of_ble_eq_true rfl, Nat.le_of_ble_eq_true rfl⟩ (fun H locs hH => ?_)
      refine lv_istore_n (lv' := [(3, .int x_69), (2, .int x_56), (0, .ref (ad 0)), (1, .int x_45)]) hx hb dX8_readStone_51 rfl hl (by decide) rfl (fun ls hl => ?_)
      refine lv_aload_n hx hb dX8_readStone_52 rfl (lv_at hl 2 rfl) ?_
      refine lv_iconst (v := 3) hx hb dX8_readStone_53 syi_3 ?_
      obtain ⟨v_at_76, v_behind_77, v_kind_78, v_number_79, v_wrong_80, v_wrongAt_81, he, hF⟩ := bd6e hF
      refine mcV hX hK hEv hE0 hH (met_X8_needs hE he) (mrecv hK hH) gw_StoneYearModel_161 hd_yX8_needs ⟨Nat.le_of_ble_eq_true rfl, Nat.le_of_ble_eq_true rfl⟩ rfl rfl hl (Nat.le_of_ble_eq_true rfl) dX8_readStone_54 ⟨Nat.le_of_ble_eq_true rfl, Nat.le_of_ble_eq_true rfl⟩ (fun H locs hH => ?_)
      refine lv_aload_n hx hb dX8_readStone_57 rfl (lv_at hl 2 rfl) ?_
      refine lv_bipush (v := 25) hx hb dX8_readStone_58 syb_25 ?_
      obtain ⟨b_82, he, hF⟩ := bd1e hF
      refine mcV hX hK hEv hE0 hH (met_X8_is hE he) (mrecv hK hH) gw_StoneYearModel_140 hd_yX8_is ⟨Nat.le_of_ble_eq_true rfl, Nat.le_of_ble_eq_true rfl⟩ rfl rfl hl (Nat.le_of_ble_eq_true rfl) dX8_readStone_60 ⟨Nat.le_of_ble_eq_true rfl, Nat.le_of_ble_eq_true rfl⟩ (fun H locs hH => ?_)
      have j114 : ∀ (v_wrong_92 : Int32) (v_wrongAt_93 : Int32), FX8_readStone_j114 a_tape a_fresh v_size x_45 x_56 x_69 v_at_76 v_behind_77 v_kind_78 v_number_79 v_wrong_92 v_wrongAt_93 = some (ra_fresh, rv_at, rv_behind, rv_kind, rv_number, rv_wrong, rv_wrongAt) → ∀ (H : Heap) (locs : List Loc) (ls : Array Slot), MH D vwA A s.heap (mW ad cA a_all a_hasImage a_tape a_fresh v_taped v_at_76 v_behind_77 v_size v_kind_78 v_number_79 v_wrong_92 v_wrongAt_93 v_depth v_steps v_faultKind v_faultPlace a_on a_many v_moved a_pile v_aside v_judgedBy v_judgedYear a_leastCost a_matched a_order a_lies a_movedThen a_yearTable a_yearMark a_beginTable a_beginMark v_statesTold v_found v_yearFrom v_mark v_beginsMark v_begins a_began v_isSpent a_wants a_rowSort a_rowMany a_numbers) H locs → lv_has ls 6 [(0, .ref (ad 0)), (1, .int x_45), (2, .int x_56), (3, .int x_69)] → W p l e rm_X8_readStone s m args below meth c H locs 0 0 Q (F0 m 114 ls []) := by
        intro v_wrong_92 v_wrongAt_93 hF H locs ls hH hl
        delta FX8_readStone_j114 at hF
        refine lv_aload_n hx hb dX8_readStone_114 rfl (lv_at hl 0 rfl) ?_
        refine lv_iconst (v := 0) hx hb dX8_readStone_115 syi_0 ?_
        refine lv_aload_n hx hb dX8_readStone_116 rfl (lv_at hl 0 rfl) ?_
        refine mg_fresh hX hK hH dX8_readStone_117 ?_
        refine lv_iconst (v := 0) hx hb dX8_readStone_120 syi_0 ?_
        obtain ⟨x_94, he, hF⟩ := bd1e hF
        refine ml_fresh hX hK hH he dX8_readStone_121 ?_
        refine lv_iconst (v := 1) hx hb dX8_readStone_122 syi_1 ?_
        refine lv_isub hx hb dX8_readStone_123 ?_
        obtain ⟨x_95, v_at_96, v_behind_97, v_kind_98, v_number_99, v_wrong_100, v_wrongAt_101, he, hF⟩ := bd7e hF
        refine mcV hX hK hEv hE0 hH (met_X8_reads hE he) (mrecv hK hH) gw_StoneYearModel_157 hd_yX8_reads ⟨Nat.le_of_ble_eq_true rfl, Nat.le_of_ble_eq_true rfl⟩ rfl rfl hl (Nat.le_of_ble_eq_true rfl) dX8_readStone_124 ⟨Nat.le_of_ble_eq_true rfl, Nat.le_of_ble_eq_true rfl⟩ (fun H locs hH => ?_)
        refine lv_istore (lv' := [(4, .int x_95), (0, .ref (ad 0)), (1, .int x_45), (2, .int x_56), (3, .int x_69)]) hx hb dX8_readStone_127 hl (by decide) rfl (fun ls hl => ?_)
        refine lv_bipush (v := 99) hx hb dX8_readStone_129 syb_99 ?_
        refine lv_istore (lv' := [(5, .int 99), (4, .int x_95), (0, .ref (ad 0)), (1, .int x_45), (2, .int x_56), (3, .int x_69)]) hx hb dX8_readStone_131 hl (by decide) rfl (fun ls hl => ?_)
        refine lv_aload_n hx hb dX8_readStone_133 rfl (lv_at hl 2 rfl) ?_
        refine lv_iconst (v := 4) hx hb dX8_readStone_134 syi_4 ?_
        obtain ⟨b_102, v_at_103, v_behind_104, v_kind_105, v_number_106, he, hF⟩ := bd5e hF
        refine mcV hX hK hEv hE0 hH (met_X8_eats hE he) (mrecv hK hH) gw_StoneYearModel_146 hd_yX8_eats ⟨Nat.le_of_ble_eq_true rfl, Nat.le_of_ble_eq_true rfl⟩ rfl rfl hl (Nat.le_of_ble_eq_true rfl) dX8_readStone_135 ⟨Nat.le_of_ble_eq_true rfl, Nat.le_of_ble_eq_true rfl⟩ (fun H locs hH => ?_)
        have j150 : ∀ (x_115 : Int32) (v_at_116 : Int32) (v_behind_117 : Int32) (v_kind_118 : Int32) (v_number_119 : Int32) (v_wrong_120 : Int32) (v_wrongAt_121 : Int32), FX8_readStone_j150 a_fresh x_45 x_56 x_69 x_95 x_115 v_at_116 v_behind_117 v_kind_118 v_number_119 v_wrong_120 v_wrongAt_121 = some (ra_fresh, rv_at, rv_behind, rv_kind, rv_number, rv_wrong, rv_wrongAt) → ∀ (H : Heap) (locs : List Loc) (ls : Array Slot), MH D vwA A s.heap (mW ad cA a_all a_hasImage a_tape a_fresh v_taped v_at_116 v_behind_117 v_size v_kind_118 v_number_119 v_wrong_120 v_wrongAt_121 v_depth v_steps v_faultKind v_faultPlace a_on a_many v_moved a_pile v_aside v_judgedBy v_judgedYear a_leastCost a_matched a_order a_lies a_movedThen a_yearTable a_yearMark a_beginTable a_beginMark v_statesTold v_found v_yearFrom v_mark v_beginsMark v_begins a_began v_isSpent a_wants a_rowSort a_rowMany a_numbers) H locs → lv_has ls 6 [(0, .ref (ad 0)), (1, .int x_45), (2, .int x_56), (3, .int x_69), (4, .int x_95), (5, .int x_115)] → W p l e rm_X8_readStone s m args below meth c H locs 0 0 Q (F0 m 150 ls []) := by
          intro x_115 v_at_116 v_behind_117 v_kind_118 v_number_119 v_wrong_120 v_wrongAt_121 hF H locs ls hH hl
          delta FX8_readStone_j150 at hF
          refine lv_aload_n hx hb dX8_readStone_150 rfl (lv_at hl 0 rfl) ?_
          refine mg_wrong hX hK hH dX8_readStone_151 ?_
          refine lv_if_eq (tgt := 158) hx hb dX8_readStone_154 rfl (fun c_122 => ?_) (fun c_122 => ?_)
          · have hF := itp c_122 hF
            refine lv_aload_n hx hb dX8_readStone_158 rfl (lv_at hl 0 rfl) ?_
            refine mg_fresh hX hK hH dX8_readStone_159 ?_
            refine lv_bipush (v := 7) hx hb dX8_readStone_162 syb_7 ?_
            refine lv_iload_n hx hb dX8_readStone_164 rfl (lv_at hl 1 rfl) ?_
            refine lv_iadd hx hb dX8_readStone_165 ?_
            refine lv_iload_n hx hb dX8_readStone_166 rfl (lv_at hl 2 rfl) ?_
            obtain ⟨a_fresh_123, he, hF⟩ := bd1e hF
            refine ms_fresh hX hK hH he dX8_readStone_167 (fun H locs hH => ?_)
            refine lv_aload_n hx hb dX8_readStone_168 rfl (lv_at hl 0 rfl) ?_
            refine mg_fresh hX hK hH dX8_readStone_169 ?_
            refine lv_bipush (v := 15) hx hb dX8_readStone_172 syb_15 ?_
            refine lv_iload_n hx hb dX8_readStone_174 rfl (lv_at hl 1 rfl) ?_
            refine lv_iadd hx hb dX8_readStone_175 ?_
            refine lv_iload_n hx hb dX8_readStone_176 rfl (lv_at hl 3 rfl) ?_
            obtain ⟨a_fresh_124, he, hF⟩ := bd1e hF
            refine ms_fresh hX hK hH he dX8_readStone_177 (fun H locs hH => ?_)
            refine lv_aload_n hx hb dX8_readStone_178 rfl (lv_at hl 0 rfl) ?_
            refine mg_fresh hX hK hH dX8_readStone_179 ?_
            refine lv_bipush (v := 23) hx hb dX8_readStone_182 syb_23 ?_
            refine lv_iload_n hx hb dX8_readStone_184 rfl (lv_at hl 1 rfl) ?_
            refine lv_iadd hx hb dX8_readStone_185 ?_
            refine lv_iload hx hb dX8_readStone_186 (lv_at hl 5 rfl) ?_
            obtain ⟨a_fresh_125, he, hF⟩ := bd1e hF
            refine ms_fresh hX hK hH he dX8_readStone_188 (fun H locs hH => ?_)
            refine lv_aload_n hx hb dX8_readStone_189 rfl (lv_at hl 0 rfl) ?_
            refine mg_fresh hX hK hH dX8_readStone_190 ?_
            refine lv_bipush (v := 80) hx hb dX8_readStone_193 syb_80 ?_
            refine lv_iconst (v := 3) hx hb dX8_readStone_195 syi_3 ?_
            refine lv_iload hx hb dX8_readStone_196 (lv_at hl 4 rfl) ?_
            refine lv_imul hx hb dX8_readStone_198 ?_
            refine lv_iadd hx hb dX8_readStone_199 ?_
            refine lv_aload_n hx hb dX8_readStone_200 rfl (lv_at hl 0 rfl) ?_
            refine lv_iload hx hb dX8_readStone_201 (lv_at hl 4 rfl) ?_
            obtain ⟨x_126, he, hF⟩ := bd1e hF
            refine mcV hX hK hEv hE0 hH (met_X8_freshMany hE he) (mrecv hK hH) gw_StoneYearModel_164 hd_yX8_freshMany ⟨Nat.le_of_ble_eq_true rfl, Nat.le_of_ble_eq_true rfl⟩ rfl rfl hl (Nat.le_of_ble_eq_true rfl) dX8_readStone_203 ⟨Nat.le_of_ble_eq_true rfl, Nat.le_of_ble_eq_true rfl⟩ (fun H locs hH => ?_)
            refine lv_iadd hx hb dX8_readStone_206 ?_
            refine lv_iload_n hx hb dX8_readStone_207 rfl (lv_at hl 1 rfl) ?_
            refine lv_iconst (v := 1) hx hb dX8_readStone_208 syi_1 ?_
            refine lv_iadd hx hb dX8_readStone_209 ?_
            obtain ⟨a_fresh_127, he, hF⟩ := bd1e hF
            refine ms_fresh hX hK hH he dX8_readStone_210 (fun H locs hH => ?_)
            refine lv_aload_n hx hb dX8_readStone_211 rfl (lv_at hl 0 rfl) ?_
            refine mg_fresh hX hK hH dX8_readStone_212 ?_
            refine lv_bipush (v := 6) hx hb dX8_readStone_215 syb_6 ?_
            refine lv_dup2_11 hx hb dX8_readStone_217 rfl rfl ?_
            obtain ⟨x_128, he, hF⟩ := bd1e hF
            refine ml_fresh hX hK hH he dX8_readStone_218 ?_
            refine lv_iconst (v := 1) hx hb dX8_readStone_219 syi_1 ?_
            refine lv_iadd hx hb dX8_readStone_220 ?_
            obtain ⟨a_fresh_129, he, hF⟩ := bd1e hF
            refine ms_fresh hX hK hH he dX8_readStone_221 (fun H locs hH => ?_)
            obtain ⟨rfl, rfl, rfl, rfl, rfl, rfl, rfl⟩ := re7 hF
            exact hret _ _ _ _ hH dX8_readStone_222
          · have hF := itn c_122 hF
            obtain ⟨rfl, rfl, rfl, rfl, rfl, rfl, rfl⟩ := re7 hF
            exact hret _ _ _ _ hH dX8_readStone_157
        refine lv_if_eq (tgt := 150) hx hb dX8_readStone_138 rfl (fun c_107 => ?_) (fun c_107 => ?_)
        · have hF := itp c_107 hF
          exact j150 99 v_at_103 v_behind_104 v_kind_105 v_number_106 v_wrong_100 v_wrongAt_101 hF _ _ _ hH (lv_sub hl [2, 3, 4, 5, 1, 0] rfl)
        · have hF := itn c_107 hF
          refine lv_aload_n hx hb dX8_readStone_141 rfl (lv_at hl 2 rfl) ?_
          refine lv_iconst (v := 0) hx hb dX8_readStone_142 syi_0 ?_
          refine lv_bipush (v := 99) hx hb dX8_readStone_143 syb_99 ?_
          obtain ⟨x_108, v_at_109, v_behind_110, v_kind_111, v_number_112, v_wrong_113, v_wrongAt_114, he, hF⟩ := bd7e hF
          refine mcV hX hK hEv hE0 hH (met_X8_reads hE he) (mrecv hK hH) gw_StoneYearModel_157 hd_yX8_reads ⟨Nat.le_of_ble_eq_true rfl, Nat.le_of_ble_eq_true rfl⟩ rfl rfl hl (Nat.le_of_ble_eq_true rfl) dX8_readStone_145 ⟨Nat.le_of_ble_eq_true rfl, Nat.le_of_ble_eq_true rfl⟩ (fun H locs hH => ?_)
          refine lv_istore (lv' := [(5, .int x_108), (4, .int x_95), (0, .ref (ad 0)), (1, .int x_45), (2, .int x_56), (3, .int x_69)]) hx hb dX8_readStone_148 hl (by decide) rfl (fun ls hl => ?_)
          exact j150 x_108 v_at_109 v_behind_110 v_kind_111 v_number_112 v_wrong_113 v_wrongAt_114 hF _ _ _ hH (lv_sub hl [2, 3, 4, 5, 1, 0] rfl)
      refine lv_if_eq (tgt := 114) hx hb dX8_readStone_63 rfl (fun c_83 => ?_) (fun c_83 => ?_)
      · have hF := itp c_83 hF
        exact j114 v_wrong_80 v_wrongAt_81 hF _ _ _ hH (lv_sub hl [2, 3, 1, 0] rfl)
      · have hF := itn c_83 hF
        refine lv_aload_n hx hb dX8_readStone_66 rfl (lv_at hl 2 rfl) ?_
        refine mg_number hX hK hH dX8_readStone_67 ?_
        refine lv_i2l (v := (Int32.toInt64 v_number_79)) hx hb dX8_readStone_70 rfl ?_
        refine lv_lconst (v := 0) hx hb dX8_readStone_71 rfl ?_
        refine lv_aload_n hx hb dX8_readStone_72 rfl (lv_at hl 2 rfl) ?_
        refine mg_fresh hX hK hH dX8_readStone_73 ?_
        refine lv_iconst (v := 0) hx hb dX8_readStone_76 syi_0 ?_
        obtain ⟨x_84, he, hF⟩ := bd1e hF
        refine ml_fresh hX hK hH he dX8_readStone_77 ?_
        refine lv_iconst (v := 1) hx hb dX8_readStone_78 syi_1 ?_
        refine lv_isub hx hb dX8_readStone_79 ?_
        refine lv_i2l (v := (Int32.toInt64 (x_84 - 1))) hx hb dX8_readStone_80 rfl ?_
        obtain ⟨b_85, he, hF⟩ := bd1e hF
        refine mcS hX hK hEv hE0 hH (met_X8_within hE he) gw_StoneYearModel_153 hd_yX8_within ⟨Nat.le_of_ble_eq_true rfl, Nat.le_of_ble_eq_true rfl⟩ rfl rfl hl (Nat.le_of_ble_eq_true rfl) dX8_readStone_81 ⟨Nat.le_of_ble_eq_true rfl, Nat.le_of_ble_eq_true rfl⟩ (fun H locs hH => ?_)
        refine lv_if_eq (tgt := 114) hx hb dX8_readStone_84 rfl (fun c_86 => ?_) (fun c_86 => ?_)
        · have hF := itp c_86 hF
          exact j114 v_wrong_80 v_wrongAt_81 hF _ _ _ hH (lv_sub hl [2, 3, 1, 0] rfl)
        · have hF := itn c_86 hF
          refine lv_aload_n hx hb dX8_readStone_87 rfl (lv_at hl 2 rfl) ?_
          refine lv_aload_n hx hb dX8_readStone_88 rfl (lv_at hl 2 rfl) ?_
          refine mg_number hX hK hH dX8_readStone_89 ?_
          obtain ⟨x_87, he, hF⟩ := bd1e hF
          refine mcV hX hK hEv hE0 hH (met_X8_freshMany hE he) (mrecv hK hH) gw_StoneYearModel_164 hd_yX8_freshMany ⟨Nat.le_of_ble_eq_true rfl, Nat.le_of_ble_eq_true rfl⟩ rfl rfl hl (Nat.le_of_ble_eq_true rfl) dX8_readStone_92 ⟨Nat.le_of_ble_eq_true rfl, Nat.le_of_ble_eq_true rfl⟩ (fun H locs hH => ?_)
          refine lv_aload_n hx hb dX8_readStone_95 rfl (lv_at hl 2 rfl) ?_
          refine mg_fresh hX hK hH dX8_readStone_96 ?_
          refine lv_iconst (v := 1) hx hb dX8_readStone_99 syi_1 ?_
          refine lv_aload_n hx hb dX8_readStone_100 rfl (lv_at hl 2 rfl) ?_
          refine mg_number hX hK hH dX8_readStone_101 ?_
          refine lv_iadd hx hb dX8_readStone_104 ?_
          obtain ⟨x_88, he, hF⟩ := bd1e hF
          refine ml_fresh hX hK hH he dX8_readStone_105 ?_
          refine lv_icmp_ne (tgt := 114) hx hb dX8_readStone_106 rfl (fun c_89 => ?_) (fun c_89 => ?_)
          · have hF := itn c_89 hF
            exact j114 v_wrong_80 v_wrongAt_81 hF _ _ _ hH (lv_sub hl [2, 3, 1, 0] rfl)
          · have hF := itp c_89 hF
            refine lv_aload_n hx hb dX8_readStone_109 rfl (lv_at hl 2 rfl) ?_
            refine lv_iconst (v := 3) hx hb dX8_readStone_110 syi_3 ?_
            obtain ⟨v_wrong_90, v_wrongAt_91, he, hF⟩ := bd2e hF
            refine mcV hX hK hEv hE0 hH (met_X8_fails hE he) (mrecv hK hH) gw_StoneYearModel_149 hd_yX8_fails ⟨Nat.le_of_ble_eq_true rfl, Nat.le_of_ble_eq_true rfl⟩ rfl rfl hl (Nat.le_of_ble_eq_true rfl) dX8_readStone_111 ⟨Nat.le_of_ble_eq_true rfl, Nat.le_of_ble_eq_true rfl⟩ (fun H locs hH => ?_)
            exact j114 v_wrong_90 v_wrongAt_91 hF _ _ _ hH (lv_sub hl [2, 3, 1, 0] rfl)
    · have hF := itn c_51 hF
      obtain ⟨rfl, rfl, rfl, rfl, rfl, rfl, rfl⟩ := re7 hF
      exact hret _ _ _ _ hH dX8_readStone_26
  refine lv_icmp_ne (tgt := 19) hx hb dX8_readStone_11 rfl (fun c_46 => ?_) (fun c_46 => ?_)
  · have hF := itn c_46 hF
    exact j19 v_wrong v_wrongAt hF _ _ _ hH (lv_sub hl [1, 0] rfl)
  · have hF := itp c_46 hF
    refine lv_aload_n hx hb dX8_readStone_14 rfl (lv_at hl 1 rfl) ?_
    refine lv_iconst (v := 4) hx hb dX8_readStone_15 syi_4 ?_
    obtain ⟨v_wrong_47, v_wrongAt_48, he, hF⟩ := bd2e hF
    refine mcV hX hK hEv hE0 hH (met_X8_fails hE he) (mrecv hK hH) gw_StoneYearModel_149 hd_yX8_fails ⟨Nat.le_of_ble_eq_true rfl, Nat.le_of_ble_eq_true rfl⟩ rfl rfl hl (Nat.le_of_ble_eq_true rfl) dX8_readStone_16 ⟨Nat.le_of_ble_eq_true rfl, Nat.le_of_ble_eq_true rfl⟩ (fun H locs hH => ?_)
    exact j19 v_wrong_47 v_wrongAt_48 hF _ _ _ hH (lv_sub hl [1, 0] rfl)
abbrev rm_X8_readWish : Room := { frames := 8, cells := 0, slots := 0, locals := 170 }
set_option maxHeartbeats 4000000 in
theorem met_X8_readWish {l : Launch} {D : va_G} {ad : Nat → Nat} {cA : Nat → ClassId} {a_all : Nat → Int32} {a_hasImage : Nat → Int32} {a_tape : Nat → Int32} {a_fresh : Nat → Int32} {v_taped : Int32} {v_at : Int32} {v_behind : Int32} {v_size : Int32} {v_kind : Int32} {v_number : Int32} {v_wrong : Int32} {v_wrongAt : Int32} {v_depth : Int32} {v_steps : Int32} {v_faultKind : Int32} {v_faultPlace : Int32} {a_on : Nat → Int32} {a_many : Nat → Int32} {v_moved : Int32} {a_pile : Nat → Int32} {v_aside : Int32} {v_judgedBy : Int32} {v_judgedYear : Int32} {a_leastCost : Nat → Int32} {a_matched : Nat → Int32} {a_order : Nat → Int32} {a_lies : Nat → Int64} {a_movedThen : Nat → Int32} {a_yearTable : Nat → Int32} {a_yearMark : Nat → Int32} {a_beginTable : Nat → Int32} {a_beginMark : Nat → Int32} {v_statesTold : Int32} {v_found : Int32} {v_yearFrom : Int32} {v_mark : Int32} {v_beginsMark : Int32} {v_begins : Int32} {a_began : Nat → Int64} {v_isSpent : Int32} {a_wants : Nat → Int32} {a_rowSort : Nat → Int32} {a_rowMany : Nat → Int32} {a_numbers : Nat → Int64}   {ra_fresh : Nat → Int32} {rv_at : Int32} {rv_behind : Int32} {rv_kind : Int32} {rv_number : Int32} {rv_wrong : Int32} {rv_wrongAt : Int32} {ak av fo : Nat} {E : EvT} (hE : EvM E ak av fo) (hF : FX8_readWish a_tape a_fresh v_behind v_size v_number v_wrong v_wrongAt = some (ra_fresh, rv_at, rv_behind, rv_kind, rv_number, rv_wrong, rv_wrongAt)) : MM l yX8_readWish (ws_ yX8_readWish cX8_readWish 5 (Option.none : Option Jvm.ClassFile.FieldType)) rm_X8_readWish D vwA (mT cA) E [.ref (ad 0)] (mW ad cA a_all a_hasImage a_tape a_fresh v_taped v_at v_behind v_size v_kind v_number v_wrong v_wrongAt v_depth v_steps v_faultKind v_faultPlace a_on a_many v_moved a_pile v_aside v_judgedBy v_judgedYear a_leastCost a_matched a_order a_lies a_movedThen a_yearTable a_yearMark a_beginTable a_beginMark v_statesTold v_found v_yearFrom v_mark v_beginsMark v_begins a_began v_isSpent a_wants a_rowSort a_rowMany a_numbers) (mW ad cA a_all a_hasImage a_tape ra_fresh v_taped rv_at rv_behind v_size rv_kind rv_number rv_wrong rv_wrongAt v_depth v_steps v_faultKind v_faultPlace a_on a_many v_moved a_pile v_aside v_judgedBy v_judgedYear a_leastCost a_matched a_order a_lies a_movedThen a_yearTable a_yearMark a_beginTable a_beginMark v_statesTold v_found v_yearFrom v_mark v_beginsMark v_begins a_began v_isSpent a_wants a_rowSort a_rowMany a_numbers) none := by
  refine MM.ofV (by decide) (Nat.le_of_ble_eq_true rfl) ?_
  intro p e s m args below meth c Q A hX hK hE0 hret H locs ls hH hl
  have hX : CallFix p m c cX8_readWish 5 s args lw_all RX8 := hX
  have hx := hX.1
  have hb := hX.2.1
  have hown := hX.2.2.2.1
  have hts := hX.2.2.2.2
  have hl : lv_has ls 5 [(0, .ref (ad 0))] := hl
  have hEv := hE.1
  delta FX8_readWish at hF
  refine lv_aload_n hx hb dX8_readWish_0 rfl (lv_at hl 0 rfl) ?_
  obtain ⟨v_at_45, v_behind_46, v_kind_47, v_number_48, he, hF⟩ := bd4e hF
  refine mcV hX hK hEv hE0 hH (met_X8_next hE he) (mrecv hK hH) gw_StoneYearModel_143 hd_yX8_next ⟨Nat.le_of_ble_eq_true rfl, Nat.le_of_ble_eq_true rfl⟩ rfl rfl hl (Nat.le_of_ble_eq_true rfl) dX8_readWish_1 ⟨Nat.le_of_ble_eq_true rfl, Nat.le_of_ble_eq_true rfl⟩ (fun H locs hH => ?_)
  refine lv_aload_n hx hb dX8_readWish_4 rfl (lv_at hl 0 rfl) ?_
  refine lv_bipush (v := 25) hx hb dX8_readWish_5 syb_25 ?_
  obtain ⟨b_49, he, hF⟩ := bd1e hF
  refine mcV hX hK hEv hE0 hH (met_X8_is hE he) (mrecv hK hH) gw_StoneYearModel_140 hd_yX8_is ⟨Nat.le_of_ble_eq_true rfl, Nat.le_of_ble_eq_true rfl⟩ rfl rfl hl (Nat.le_of_ble_eq_true rfl) dX8_readWish_7 ⟨Nat.le_of_ble_eq_true rfl, Nat.le_of_ble_eq_true rfl⟩ (fun H locs hH => ?_)
  have j55 : ∀ (v_wrong_58 : Int32) (v_wrongAt_59 : Int32), FX8_readWish_j55 a_tape a_fresh v_size v_at_45 v_behind_46 v_kind_47 v_number_48 v_wrong_58 v_wrongAt_59 = some (ra_fresh, rv_at, rv_behind, rv_kind, rv_number, rv_wrong, rv_wrongAt) → ∀ (H : Heap) (locs : List Loc) (ls : Array Slot), MH D vwA A s.heap (mW ad cA a_all a_hasImage a_tape a_fresh v_taped v_at_45 v_behind_46 v_size v_kind_47 v_number_48 v_wrong_58 v_wrongAt_59 v_depth v_steps v_faultKind v_faultPlace a_on a_many v_moved a_pile v_aside v_judgedBy v_judgedYear a_leastCost a_matched a_order a_lies a_movedThen a_yearTable a_yearMark a_beginTable a_beginMark v_statesTold v_found v_yearFrom v_mark v_beginsMark v_begins a_began v_isSpent a_wants a_rowSort a_rowMany a_numbers) H locs → lv_has ls 5 [(0, .ref (ad 0))] → W p l e rm_X8_readWish s m args below meth c H locs 0 0 Q (F0 m 55 ls []) := by
    intro v_wrong_58 v_wrongAt_59 hF H locs ls hH hl
    delta FX8_readWish_j55 at hF
    refine lv_aload_n hx hb dX8_readWish_55 rfl (lv_at hl 0 rfl) ?_
    refine lv_iconst (v := 0) hx hb dX8_readWish_56 syi_0 ?_
    refine lv_aload_n hx hb dX8_readWish_57 rfl (lv_at hl 0 rfl) ?_
    refine mg_fresh hX hK hH dX8_readWish_58 ?_
    refine lv_iconst (v := 0) hx hb dX8_readWish_61 syi_0 ?_
    obtain ⟨x_60, he, hF⟩ := bd1e hF
    refine ml_fresh hX hK hH he dX8_readWish_62 ?_
    refine lv_iconst (v := 1) hx hb dX8_readWish_63 syi_1 ?_
    refine lv_isub hx hb dX8_readWish_64 ?_
    obtain ⟨x_61, v_at_62, v_behind_63, v_kind_64, v_number_65, v_wrong_66, v_wrongAt_67, he, hF⟩ := bd7e hF
    refine mcV hX hK hEv hE0 hH (met_X8_reads hE he) (mrecv hK hH) gw_StoneYearModel_157 hd_yX8_reads ⟨Nat.le_of_ble_eq_true rfl, Nat.le_of_ble_eq_true rfl⟩ rfl rfl hl (Nat.le_of_ble_eq_true rfl) dX8_readWish_65 ⟨Nat.le_of_ble_eq_true rfl, Nat.le_of_ble_eq_true rfl⟩ (fun H locs hH => ?_)
    refine lv_istore_n (lv' := [(1, .int x_61), (0, .ref (ad 0))]) hx hb dX8_readWish_68 rfl hl (by decide) rfl (fun ls hl => ?_)
    refine lv_iconst (v := 0) hx hb dX8_readWish_69 syi_0 ?_
    refine lv_istore_n (lv' := [(2, .int 0), (1, .int x_61), (0, .ref (ad 0))]) hx hb dX8_readWish_70 rfl hl (by decide) rfl (fun ls hl => ?_)
    refine lv_aload_n hx hb dX8_readWish_71 rfl (lv_at hl 2 rfl) ?_
    refine lv_bipush (v := 6) hx hb dX8_readWish_72 syb_6 ?_
    obtain ⟨b_68, v_at_69, v_behind_70, v_kind_71, v_number_72, he, hF⟩ := bd5e hF
    refine mcV hX hK hEv hE0 hH (met_X8_eats hE he) (mrecv hK hH) gw_StoneYearModel_146 hd_yX8_eats ⟨Nat.le_of_ble_eq_true rfl, Nat.le_of_ble_eq_true rfl⟩ rfl rfl hl (Nat.le_of_ble_eq_true rfl) dX8_readWish_74 ⟨Nat.le_of_ble_eq_true rfl, Nat.le_of_ble_eq_true rfl⟩ (fun H locs hH => ?_)
    have j87 : ∀ (x_81 : Int32) (v_at_82 : Int32) (v_behind_83 : Int32) (v_kind_84 : Int32) (v_number_85 : Int32) (v_wrong_86 : Int32) (v_wrongAt_87 : Int32), FX8_readWish_j87 a_tape a_fresh v_size x_61 x_81 v_at_82 v_behind_83 v_kind_84 v_number_85 v_wrong_86 v_wrongAt_87 = some (ra_fresh, rv_at, rv_behind, rv_kind, rv_number, rv_wrong, rv_wrongAt) → ∀ (H : Heap) (locs : List Loc) (ls : Array Slot), MH D vwA A s.heap (mW ad cA a_all a_hasImage a_tape a_fresh v_taped v_at_82 v_behind_83 v_size v_kind_84 v_number_85 v_wrong_86 v_wrongAt_87 v_depth v_steps v_faultKind v_faultPlace a_on a_many v_moved a_pile v_aside v_judgedBy v_judgedYear a_leastCost a_matched a_order a_lies a_movedThen a_yearTable a_yearMark a_beginTable a_beginMark v_statesTold v_found v_yearFrom v_mark v_beginsMark v_begins a_began v_isSpent a_wants a_rowSort a_rowMany a_numbers) H locs → lv_has ls 5 [(0, .ref (ad 0)), (1, .int x_61), (2, .int x_81)] → W p l e rm_X8_readWish s m args below meth c H locs 0 0 Q (F0 m 87 ls []) := by
      intro x_81 v_at_82 v_behind_83 v_kind_84 v_number_85 v_wrong_86 v_wrongAt_87 hF H locs ls hH hl
      delta FX8_readWish_j87 at hF
      refine lv_aload_n hx hb dX8_readWish_87 rfl (lv_at hl 0 rfl) ?_
      refine lv_bipush (v := 7) hx hb dX8_readWish_88 syb_7 ?_
      obtain ⟨v_at_88, v_behind_89, v_kind_90, v_number_91, v_wrong_92, v_wrongAt_93, he, hF⟩ := bd6e hF
      refine mcV hX hK hEv hE0 hH (met_X8_needs hE he) (mrecv hK hH) gw_StoneYearModel_161 hd_yX8_needs ⟨Nat.le_of_ble_eq_true rfl, Nat.le_of_ble_eq_true rfl⟩ rfl rfl hl (Nat.le_of_ble_eq_true rfl) dX8_readWish_90 ⟨Nat.le_of_ble_eq_true rfl, Nat.le_of_ble_eq_true rfl⟩ (fun H locs hH => ?_)
      refine lv_aload_n hx hb dX8_readWish_93 rfl (lv_at hl 0 rfl) ?_
      refine mg_wrong hX hK hH dX8_readWish_94 ?_
      refine lv_if_eq (tgt := 101) hx hb dX8_readWish_97 rfl (fun c_94 => ?_) (fun c_94 => ?_)
      · have hF := itp c_94 hF
        refine lv_iconst (v := 0) hx hb dX8_readWish_101 syi_0 ?_
        refine lv_istore_n (lv' := [(3, .int 0), (0, .ref (ad 0)), (1, .int x_61), (2, .int x_81)]) hx hb dX8_readWish_102 rfl hl (by decide) rfl (fun ls hl => ?_)
        obtain ⟨xx103, ee103, kk103_0, kk103_1⟩ := bdS2e hF
        have k103_0 : ∀ (a_fresh_137 : Nat → Int32) (v_at_138 : Int32) (v_behind_139 : Int32) (v_kind_140 : Int32) (v_number_141 : Int32) (v_wrong_142 : Int32) (v_wrongAt_143 : Int32), xx103 = (.inl (a_fresh_137, v_at_138, v_behind_139, v_kind_140, v_number_141, v_wrong_142, v_wrongAt_143)) → ∀ (H : Heap) (locs : List Loc) (ls : Array Slot), MH D vwA A s.heap (mW ad cA a_all a_hasImage a_tape a_fresh_137 v_taped v_at_138 v_behind_139 v_size v_kind_140 v_number_141 v_wrong_142 v_wrongAt_143 v_depth v_steps v_faultKind v_faultPlace a_on a_many v_moved a_pile v_aside v_judgedBy v_judgedYear a_leastCost a_matched a_order a_lies a_movedThen a_yearTable a_yearMark a_beginTable a_beginMark v_statesTold v_found v_yearFrom v_mark v_beginsMark v_begins a_began v_isSpent a_wants a_rowSort a_rowMany a_numbers) H locs → lv_has ls 5 [] → W p l e rm_X8_readWish s m args below meth c H locs 0 0 Q (F0 m 145 ls []) := by
          intro a_fresh_137 v_at_138 v_behind_139 v_kind_140 v_number_141 v_wrong_142 v_wrongAt_143 hxx H locs ls hH hl
          have hF := un7e (kk103_0 (a_fresh_137, v_at_138, v_behind_139, v_kind_140, v_number_141, v_wrong_142, v_wrongAt_143) hxx)
          obtain ⟨rfl, rfl, rfl, rfl, rfl, rfl, rfl⟩ := re7 hF
          exact hret _ _ _ _ hH dX8_readWish_145
        have k103_1 : ∀ (x_144 : Int32) (a_fresh_145 : Nat → Int32) (v_at_146 : Int32) (v_behind_147 : Int32) (v_kind_148 : Int32) (v_number_149 : Int32) (v_wrong_150 : Int32) (v_wrongAt_151 : Int32), xx103 = (.inr (x_144, a_fresh_145, v_at_146, v_behind_147, v_kind_148, v_number_149, v_wrong_150, v_wrongAt_151)) → ∀ (H : Heap) (locs : List Loc) (ls : Array Slot), MH D vwA A s.heap (mW ad cA a_all a_hasImage a_tape a_fresh_145 v_taped v_at_146 v_behind_147 v_size v_kind_148 v_number_149 v_wrong_150 v_wrongAt_151 v_depth v_steps v_faultKind v_faultPlace a_on a_many v_moved a_pile v_aside v_judgedBy v_judgedYear a_leastCost a_matched a_order a_lies a_movedThen a_yearTable a_yearMark a_beginTable a_beginMark v_statesTold v_found v_yearFrom v_mark v_beginsMark v_begins a_began v_isSpent a_wants a_rowSort a_rowMany a_numbers) H locs → lv_has ls 5 [(0, .ref (ad 0)), (1, .int x_61), (2, .int x_81), (3, .int x_144)] → W p l e rm_X8_readWish s m args below meth c H locs 0 0 Q (F0 m 167 ls []) := by
          intro x_144 a_fresh_145 v_at_146 v_behind_147 v_kind_148 v_number_149 v_wrong_150 v_wrongAt_151 hxx H locs ls hH hl
          have hF := un8e (kk103_1 (x_144, a_fresh_145, v_at_146, v_behind_147, v_kind_148, v_number_149, v_wrong_150, v_wrongAt_151) hxx)
          refine lv_aload_n hx hb dX8_readWish_167 rfl (lv_at hl 0 rfl) ?_
          refine mg_fresh hX hK hH dX8_readWish_168 ?_
          refine lv_bipush (v := 31) hx hb dX8_readWish_171 syb_31 ?_
          refine lv_iload_n hx hb dX8_readWish_173 rfl (lv_at hl 1 rfl) ?_
          refine lv_iadd hx hb dX8_readWish_174 ?_
          refine lv_iload_n hx hb dX8_readWish_175 rfl (lv_at hl 3 rfl) ?_
          obtain ⟨a_fresh_152, he, hF⟩ := bd1e hF
          refine ms_fresh hX hK hH he dX8_readWish_176 (fun H locs hH => ?_)
          refine lv_aload_n hx hb dX8_readWish_177 rfl (lv_at hl 0 rfl) ?_
          refine mg_fresh hX hK hH dX8_readWish_178 ?_
          refine lv_bipush (v := 36) hx hb dX8_readWish_181 syb_36 ?_
          refine lv_iload_n hx hb dX8_readWish_183 rfl (lv_at hl 1 rfl) ?_
          refine lv_iadd hx hb dX8_readWish_184 ?_
          refine lv_iload_n hx hb dX8_readWish_185 rfl (lv_at hl 2 rfl) ?_
          obtain ⟨a_fresh_153, he, hF⟩ := bd1e hF
          refine ms_fresh hX hK hH he dX8_readWish_186 (fun H locs hH => ?_)
          obtain ⟨rfl, rfl, rfl, rfl, rfl, rfl, rfl⟩ := re7 hF
          exact hret _ _ _ _ hH dX8_readWish_187
        obtain ⟨nn103, en103⟩ := loopC_some ee103
        have l103 : ∀ (n : Nat) (x_112 : Int32) (a_fresh_113 : Nat → Int32) (v_at_114 : Int32) (v_behind_115 : Int32) (v_kind_116 : Int32) (v_number_117 : Int32) (v_wrong_118 : Int32) (v_wrongAt_119 : Int32), loopN (fun s => FX8_readWish_b103 a_tape v_size x_61 s.1 s.2.1 s.2.2.1 s.2.2.2.1 s.2.2.2.2.1 s.2.2.2.2.2.1 s.2.2.2.2.2.2.1 s.2.2.2.2.2.2.2) n (x_112, a_fresh_113, v_at_114, v_behind_115, v_kind_116, v_number_117, v_wrong_118, v_wrongAt_119) = some xx103 → ∀ (H : Heap) (locs : List Loc) (ls : Array Slot), MH D vwA A s.heap (mW ad cA a_all a_hasImage a_tape a_fresh_113 v_taped v_at_114 v_behind_115 v_size v_kind_116 v_number_117 v_wrong_118 v_wrongAt_119 v_depth v_steps v_faultKind v_faultPlace a_on a_many v_moved a_pile v_aside v_judgedBy v_judgedYear a_leastCost a_matched a_order a_lies a_movedThen a_yearTable a_yearMark a_beginTable a_beginMark v_statesTold v_found v_yearFrom v_mark v_beginsMark v_begins a_began v_isSpent a_wants a_rowSort a_rowMany a_numbers) H locs → lv_has ls 5 [(0, .ref (ad 0)), (1, .int x_61), (2, .int x_81), (3, .int x_112)] → W p l e rm_X8_readWish s m args below meth c H locs 0 0 Q (F0 m 103 ls []) := by
          intro n
          induction n with
          | zero =>
            intro x_112 a_fresh_113 v_at_114 v_behind_115 v_kind_116 v_number_117 v_wrong_118 v_wrongAt_119 hN
            exact absurd hN loopN_zero
          | succ n ih =>
            intro x_112 a_fresh_113 v_at_114 v_behind_115 v_kind_116 v_number_117 v_wrong_118 v_wrongAt_119 hN H locs ls hH hl
            obtain ⟨yy103, hB103, hY103⟩ := loopN_succ hN
            have hF : FX8_readWish_b103 a_tape v_size x_61 x_112 a_fresh_113 v_at_114 v_behind_115 v_kind_116 v_number_117 v_wrong_118 v_wrongAt_119 = some yy103 := hB103
            delta FX8_readWish_b103 at hF
            refine lv_aload_n hx hb dX8_readWish_103 rfl (lv_at hl 0 rfl) ?_
            refine lv_bipush (v := 25) hx hb dX8_readWish_104 syb_25 ?_
            obtain ⟨b_120, he, hF⟩ := bd1e hF
            refine mcV hX hK hEv hE0 hH (met_X8_is hE he) (mrecv hK hH) gw_StoneYearModel_140 hd_yX8_is ⟨Nat.le_of_ble_eq_true rfl, Nat.le_of_ble_eq_true rfl⟩ rfl rfl hl (Nat.le_of_ble_eq_true rfl) dX8_readWish_106 ⟨Nat.le_of_ble_eq_true rfl, Nat.le_of_ble_eq_true rfl⟩ (fun H locs hH => ?_)
            refine lv_if_eq (tgt := 167) hx hb dX8_readWish_109 rfl (fun c_121 => ?_) (fun c_121 => ?_)
            · have hF := itp c_121 hF
              obtain rfl := Option.some.inj hF
              exact k103_1 x_112 a_fresh_113 v_at_114 v_behind_115 v_kind_116 v_number_117 v_wrong_118 v_wrongAt_119 hY103 _ _ _ hH (lv_sub hl [0, 1, 2, 3] rfl)
            · have hF := itn c_121 hF
              refine lv_iload_n hx hb dX8_readWish_112 rfl (lv_at hl 3 rfl) ?_
              refine lv_aload_n hx hb dX8_readWish_113 rfl (lv_at hl 0 rfl) ?_
              refine mg_fresh hX hK hH dX8_readWish_114 ?_
              refine lv_iconst (v := 1) hx hb dX8_readWish_117 syi_1 ?_
              refine lv_iload_n hx hb dX8_readWish_118 rfl (lv_at hl 1 rfl) ?_
              refine lv_iadd hx hb dX8_readWish_119 ?_
              obtain ⟨x_122, he, hF⟩ := bd1e hF
              refine ml_fresh hX hK hH he dX8_readWish_120 ?_
              have j129 : ∀ (v_wrong_126 : Int32) (v_wrongAt_127 : Int32), FX8_readWish_j129 a_tape v_size x_61 x_112 a_fresh_113 v_at_114 v_behind_115 v_kind_116 v_number_117 v_wrong_126 v_wrongAt_127 = some yy103 → ∀ (H : Heap) (locs : List Loc) (ls : Array Slot), MH D vwA A s.heap (mW ad cA a_all a_hasImage a_tape a_fresh_113 v_taped v_at_114 v_behind_115 v_size v_kind_116 v_number_117 v_wrong_126 v_wrongAt_127 v_depth v_steps v_faultKind v_faultPlace a_on a_many v_moved a_pile v_aside v_judgedBy v_judgedYear a_leastCost a_matched a_order a_lies a_movedThen a_yearTable a_yearMark a_beginTable a_beginMark v_statesTold v_found v_yearFrom v_mark v_beginsMark v_begins a_began v_isSpent a_wants a_rowSort a_rowMany a_numbers) H locs → lv_has ls 5 [(0, .ref (ad 0)), (1, .int x_61), (2, .int x_81), (3, .int x_112)] → W p l e rm_X8_readWish s m args below meth c H locs 0 0 Q (F0 m 129 ls []) := by
                intro v_wrong_126 v_wrongAt_127 hF H locs ls hH hl
                delta FX8_readWish_j129 at hF
                refine lv_aload_n hx hb dX8_readWish_129 rfl (lv_at hl 0 rfl) ?_
                refine lv_iconst (v := 0) hx hb dX8_readWish_130 syi_0 ?_
                refine lv_bipush (v := 7) hx hb dX8_readWish_131 syb_7 ?_
                obtain ⟨x_128, v_at_129, v_behind_130, v_kind_131, v_number_132, v_wrong_133, v_wrongAt_134, he, hF⟩ := bd7e hF
                refine mcV hX hK hEv hE0 hH (met_X8_reads hE he) (mrecv hK hH) gw_StoneYearModel_157 hd_yX8_reads ⟨Nat.le_of_ble_eq_true rfl, Nat.le_of_ble_eq_true rfl⟩ rfl rfl hl (Nat.le_of_ble_eq_true rfl) dX8_readWish_133 ⟨Nat.le_of_ble_eq_true rfl, Nat.le_of_ble_eq_true rfl⟩ (fun H locs hH => ?_)
                refine lv_istore (lv' := [(4, .int x_128), (0, .ref (ad 0)), (1, .int x_61), (2, .int x_81), (3, .int x_112)]) hx hb dX8_readWish_136 hl (by decide) rfl (fun ls hl => ?_)
                refine lv_aload_n hx hb dX8_readWish_138 rfl (lv_at hl 1 rfl) ?_
                refine mg_wrong hX hK hH dX8_readWish_139 ?_
                refine lv_if_eq (tgt := 146) hx hb dX8_readWish_142 rfl (fun c_135 => ?_) (fun c_135 => ?_)
                · have hF := itp c_135 hF
                  refine lv_aload_n hx hb dX8_readWish_146 rfl (lv_at hl 1 rfl) ?_
                  refine mg_fresh hX hK hH dX8_readWish_147 ?_
                  refine lv_bipush (v := 41) hx hb dX8_readWish_150 syb_41 ?_
                  refine lv_iconst (v := 3) hx hb dX8_readWish_152 syi_3 ?_
                  refine lv_iload_n hx hb dX8_readWish_153 rfl (lv_at hl 2 rfl) ?_
                  refine lv_imul hx hb dX8_readWish_154 ?_
                  refine lv_iadd hx hb dX8_readWish_155 ?_
                  refine lv_iload_n hx hb dX8_readWish_156 rfl (lv_at hl 4 rfl) ?_
                  refine lv_iadd hx hb dX8_readWish_157 ?_
                  refine lv_iload hx hb dX8_readWish_158 (lv_at hl 0 rfl) ?_
                  obtain ⟨a_fresh_136, he, hF⟩ := bd1e hF
                  refine ms_fresh hX hK hH he dX8_readWish_160 (fun H locs hH => ?_)
                  refine lv_iinc (v := (x_112 + 1)) (lv' := [(3, .int (x_112 + 1)), (4, .int x_128), (0, .ref (ad 0)), (1, .int x_61), (2, .int x_81)]) hx hb dX8_readWish_161 hl (k := 4) rfl (syc syi_1) (by decide) rfl (fun ls hl => ?_)
                  refine lv_goto (tgt := 103) hx hb dX8_readWish_164 rfl ?_
                  obtain rfl := Option.some.inj hF
                  exact ih (x_112 + 1) a_fresh_136 v_at_129 v_behind_130 v_kind_131 v_number_132 v_wrong_133 v_wrongAt_134 hY103 _ _ _ hH (lv_sub hl [2, 3, 4, 0] rfl)
                · have hF := itn c_135 hF
                  obtain rfl := Option.some.inj hF
                  exact k103_0 a_fresh_113 v_at_129 v_behind_130 v_kind_131 v_number_132 v_wrong_133 v_wrongAt_134 hY103 _ _ _ hH (lv_sub hl [] rfl)
              refine lv_icmp_ne (tgt := 129) hx hb dX8_readWish_121 rfl (fun c_123 => ?_) (fun c_123 => ?_)
              · have hF := itn c_123 hF
                exact j129 v_wrong_118 v_wrongAt_119 hF _ _ _ hH (lv_sub hl [0, 1, 2, 3] rfl)
              · have hF := itp c_123 hF
                refine lv_aload_n hx hb dX8_readWish_124 rfl (lv_at hl 0 rfl) ?_
                refine lv_iconst (v := 3) hx hb dX8_readWish_125 syi_3 ?_
                obtain ⟨v_wrong_124, v_wrongAt_125, he, hF⟩ := bd2e hF
                refine mcV hX hK hEv hE0 hH (met_X8_fails hE he) (mrecv hK hH) gw_StoneYearModel_149 hd_yX8_fails ⟨Nat.le_of_ble_eq_true rfl, Nat.le_of_ble_eq_true rfl⟩ rfl rfl hl (Nat.le_of_ble_eq_true rfl) dX8_readWish_126 ⟨Nat.le_of_ble_eq_true rfl, Nat.le_of_ble_eq_true rfl⟩ (fun H locs hH => ?_)
                exact j129 v_wrong_124 v_wrongAt_125 hF _ _ _ hH (lv_sub hl [0, 1, 2, 3] rfl)
        exact l103 nn103 0 a_fresh v_at_88 v_behind_89 v_kind_90 v_number_91 v_wrong_92 v_wrongAt_93 en103 _ _ _ hH (lv_sub hl [1, 2, 3, 0] rfl)
      · have hF := itn c_94 hF
        obtain ⟨rfl, rfl, rfl, rfl, rfl, rfl, rfl⟩ := re7 hF
        exact hret _ _ _ _ hH dX8_readWish_100
    refine lv_if_eq (tgt := 87) hx hb dX8_readWish_77 rfl (fun c_73 => ?_) (fun c_73 => ?_)
    · have hF := itp c_73 hF
      exact j87 0 v_at_69 v_behind_70 v_kind_71 v_number_72 v_wrong_66 v_wrongAt_67 hF _ _ _ hH (lv_sub hl [2, 1, 0] rfl)
    · have hF := itn c_73 hF
      refine lv_aload_n hx hb dX8_readWish_80 rfl (lv_at hl 2 rfl) ?_
      refine lv_iconst (v := 0) hx hb dX8_readWish_81 syi_0 ?_
      refine lv_iconst (v := 1) hx hb dX8_readWish_82 syi_1 ?_
      obtain ⟨x_74, v_at_75, v_behind_76, v_kind_77, v_number_78, v_wrong_79, v_wrongAt_80, he, hF⟩ := bd7e hF
      refine mcV hX hK hEv hE0 hH (met_X8_reads hE he) (mrecv hK hH) gw_StoneYearModel_157 hd_yX8_reads ⟨Nat.le_of_ble_eq_true rfl, Nat.le_of_ble_eq_true rfl⟩ rfl rfl hl (Nat.le_of_ble_eq_true rfl) dX8_readWish_83 ⟨Nat.le_of_ble_eq_true rfl, Nat.le_of_ble_eq_true rfl⟩ (fun H locs hH => ?_)
      refine lv_istore_n (lv' := [(2, .int x_74), (1, .int x_61), (0, .ref (ad 0))]) hx hb dX8_readWish_86 rfl hl (by decide) rfl (fun ls hl => ?_)
      exact j87 x_74 v_at_75 v_behind_76 v_kind_77 v_number_78 v_wrong_79 v_wrongAt_80 hF _ _ _ hH (lv_sub hl [2, 1, 0] rfl)
  refine lv_if_eq (tgt := 55) hx hb dX8_readWish_10 rfl (fun c_50 => ?_) (fun c_50 => ?_)
  · have hF := itp c_50 hF
    exact j55 v_wrong v_wrongAt hF _ _ _ hH (lv_sub hl [0] rfl)
  · have hF := itn c_50 hF
    refine lv_aload_n hx hb dX8_readWish_13 rfl (lv_at hl 0 rfl) ?_
    refine mg_number hX hK hH dX8_readWish_14 ?_
    refine lv_i2l (v := (Int32.toInt64 v_number_48)) hx hb dX8_readWish_17 rfl ?_
    refine lv_lconst (v := 0) hx hb dX8_readWish_18 rfl ?_
    refine lv_aload_n hx hb dX8_readWish_19 rfl (lv_at hl 0 rfl) ?_
    refine mg_fresh hX hK hH dX8_readWish_20 ?_
    refine lv_iconst (v := 0) hx hb dX8_readWish_23 syi_0 ?_
    obtain ⟨x_51, he, hF⟩ := bd1e hF
    refine ml_fresh hX hK hH he dX8_readWish_24 ?_
    refine lv_iconst (v := 1) hx hb dX8_readWish_25 syi_1 ?_
    refine lv_isub hx hb dX8_readWish_26 ?_
    refine lv_i2l (v := (Int32.toInt64 (x_51 - 1))) hx hb dX8_readWish_27 rfl ?_
    obtain ⟨b_52, he, hF⟩ := bd1e hF
    refine mcS hX hK hEv hE0 hH (met_X8_within hE he) gw_StoneYearModel_153 hd_yX8_within ⟨Nat.le_of_ble_eq_true rfl, Nat.le_of_ble_eq_true rfl⟩ rfl rfl hl (Nat.le_of_ble_eq_true rfl) dX8_readWish_28 ⟨Nat.le_of_ble_eq_true rfl, Nat.le_of_ble_eq_true rfl⟩ (fun H locs hH => ?_)
    refine lv_if_eq (tgt := 55) hx hb dX8_readWish_31 rfl (fun c_53 => ?_) (fun c_53 => ?_)
    · have hF := itp c_53 hF
      exact j55 v_wrong v_wrongAt hF _ _ _ hH (lv_sub hl [0] rfl)
    · have hF := itn c_53 hF
      refine lv_aload_n hx hb dX8_readWish_34 rfl (lv_at hl 0 rfl) ?_
      refine mg_fresh hX hK hH dX8_readWish_35 ?_
      refine lv_bipush (v := 31) hx hb dX8_readWish_38 syb_31 ?_
      refine lv_aload_n hx hb dX8_readWish_40 rfl (lv_at hl 0 rfl) ?_
      refine mg_number hX hK hH dX8_readWish_41 ?_
      refine lv_iadd hx hb dX8_readWish_44 ?_
      obtain ⟨x_54, he, hF⟩ := bd1e hF
      refine ml_fresh hX hK hH he dX8_readWish_45 ?_
      refine lv_iconst (v := (-1)) hx hb dX8_readWish_46 syi_m1 ?_
      refine lv_icmp_eq (tgt := 55) hx hb dX8_readWish_47 rfl (fun c_55 => ?_) (fun c_55 => ?_)
      · have hF := itp c_55 hF
        exact j55 v_wrong v_wrongAt hF _ _ _ hH (lv_sub hl [0] rfl)
      · have hF := itn c_55 hF
        refine lv_aload_n hx hb dX8_readWish_50 rfl (lv_at hl 0 rfl) ?_
        refine lv_iconst (v := 3) hx hb dX8_readWish_51 syi_3 ?_
        obtain ⟨v_wrong_56, v_wrongAt_57, he, hF⟩ := bd2e hF
        refine mcV hX hK hEv hE0 hH (met_X8_fails hE he) (mrecv hK hH) gw_StoneYearModel_149 hd_yX8_fails ⟨Nat.le_of_ble_eq_true rfl, Nat.le_of_ble_eq_true rfl⟩ rfl rfl hl (Nat.le_of_ble_eq_true rfl) dX8_readWish_52 ⟨Nat.le_of_ble_eq_true rfl, Nat.le_of_ble_eq_true rfl⟩ (fun H locs hH => ?_)
        exact j55 v_wrong_56 v_wrongAt_57 hF _ _ _ hH (lv_sub hl [0] rfl)
abbrev rm_X8_readLine : Room := { frames := 9, cells := 0, slots := 0, locals := 195 }
set_option maxHeartbeats 4000000 in
theorem met_X8_readLine {l : Launch} {D : va_G} {ad : Nat → Nat} {cA : Nat → ClassId} {a_all : Nat → Int32} {a_hasImage : Nat → Int32} {a_tape : Nat → Int32} {a_fresh : Nat → Int32} {v_taped : Int32} {v_at : Int32} {v_behind : Int32} {v_size : Int32} {v_kind : Int32} {v_number : Int32} {v_wrong : Int32} {v_wrongAt : Int32} {v_depth : Int32} {v_steps : Int32} {v_faultKind : Int32} {v_faultPlace : Int32} {a_on : Nat → Int32} {a_many : Nat → Int32} {v_moved : Int32} {a_pile : Nat → Int32} {v_aside : Int32} {v_judgedBy : Int32} {v_judgedYear : Int32} {a_leastCost : Nat → Int32} {a_matched : Nat → Int32} {a_order : Nat → Int32} {a_lies : Nat → Int64} {a_movedThen : Nat → Int32} {a_yearTable : Nat → Int32} {a_yearMark : Nat → Int32} {a_beginTable : Nat → Int32} {a_beginMark : Nat → Int32} {v_statesTold : Int32} {v_found : Int32} {v_yearFrom : Int32} {v_mark : Int32} {v_beginsMark : Int32} {v_begins : Int32} {a_began : Nat → Int64} {v_isSpent : Int32} {a_wants : Nat → Int32} {a_rowSort : Nat → Int32} {a_rowMany : Nat → Int32} {a_numbers : Nat → Int64}   {ra_fresh : Nat → Int32} {rv_at : Int32} {rv_behind : Int32} {rv_kind : Int32} {rv_number : Int32} {rv_wrong : Int32} {rv_wrongAt : Int32} {ak av fo : Nat} {E : EvT} (hE : EvM E ak av fo) (hF : FX8_readLine a_tape a_fresh v_at v_behind v_size v_kind v_number v_wrong v_wrongAt = some (ra_fresh, rv_at, rv_behind, rv_kind, rv_number, rv_wrong, rv_wrongAt)) : MM l yX8_readLine (ws_ yX8_readLine cX8_readLine 1 (Option.none : Option Jvm.ClassFile.FieldType)) rm_X8_readLine D vwA (mT cA) E [.ref (ad 0)] (mW ad cA a_all a_hasImage a_tape a_fresh v_taped v_at v_behind v_size v_kind v_number v_wrong v_wrongAt v_depth v_steps v_faultKind v_faultPlace a_on a_many v_moved a_pile v_aside v_judgedBy v_judgedYear a_leastCost a_matched a_order a_lies a_movedThen a_yearTable a_yearMark a_beginTable a_beginMark v_statesTold v_found v_yearFrom v_mark v_beginsMark v_begins a_began v_isSpent a_wants a_rowSort a_rowMany a_numbers) (mW ad cA a_all a_hasImage a_tape ra_fresh v_taped rv_at rv_behind v_size rv_kind rv_number rv_wrong rv_wrongAt v_depth v_steps v_faultKind v_faultPlace a_on a_many v_moved a_pile v_aside v_judgedBy v_judgedYear a_leastCost a_matched a_order a_lies a_movedThen a_yearTable a_yearMark a_beginTable a_beginMark v_statesTold v_found v_yearFrom v_mark v_beginsMark v_begins a_began v_isSpent a_wants a_rowSort a_rowMany a_numbers) none := by
  refine MM.ofV (by decide) (Nat.le_of_ble_eq_true rfl) ?_
  intro p e s m args below meth c Q A hX hK hE0 hret H locs ls hH hl
  have hX : CallFix p m c cX8_readLine 1 s args lw_all RX8 := hX
  have hx := hX.1
  have hb := hX.2.1
  have hown := hX.2.2.2.1
  have hts := hX.2.2.2.2
  have hl : lv_has ls 1 [(0, .ref (ad 0))] := hl
  have hEv := hE.1
  delta FX8_readLine at hF
  refine lv_aload_n hx hb dX8_readLine_0 rfl (lv_at hl 0 rfl) ?_
  refine lv_iconst (v := 0) hx hb dX8_readLine_1 syi_0 ?_
  obtain ⟨b_45, he, hF⟩ := bd1e hF
  refine mcV hX hK hEv hE0 hH (met_X8_is hE he) (mrecv hK hH) gw_StoneYearModel_140 hd_yX8_is ⟨Nat.le_of_ble_eq_true rfl, Nat.le_of_ble_eq_true rfl⟩ rfl rfl hl (Nat.le_of_ble_eq_true rfl) dX8_readLine_2 ⟨Nat.le_of_ble_eq_true rfl, Nat.le_of_ble_eq_true rfl⟩ (fun H locs hH => ?_)
  have j175 : ∀ (a_fresh_134 : Nat → Int32) (v_at_135 : Int32) (v_behind_136 : Int32) (v_kind_137 : Int32) (v_number_138 : Int32) (v_wrong_139 : Int32) (v_wrongAt_140 : Int32), FX8_readLine_j175 a_tape v_size a_fresh_134 v_at_135 v_behind_136 v_kind_137 v_number_138 v_wrong_139 v_wrongAt_140 = some (ra_fresh, rv_at, rv_behind, rv_kind, rv_number, rv_wrong, rv_wrongAt) → ∀ (H : Heap) (locs : List Loc) (ls : Array Slot), MH D vwA A s.heap (mW ad cA a_all a_hasImage a_tape a_fresh_134 v_taped v_at_135 v_behind_136 v_size v_kind_137 v_number_138 v_wrong_139 v_wrongAt_140 v_depth v_steps v_faultKind v_faultPlace a_on a_many v_moved a_pile v_aside v_judgedBy v_judgedYear a_leastCost a_matched a_order a_lies a_movedThen a_yearTable a_yearMark a_beginTable a_beginMark v_statesTold v_found v_yearFrom v_mark v_beginsMark v_begins a_began v_isSpent a_wants a_rowSort a_rowMany a_numbers) H locs → lv_has ls 1 [(0, .ref (ad 0))] → W p l e rm_X8_readLine s m args below meth c H locs 0 0 Q (F0 m 175 ls []) := by
    intro a_fresh_134 v_at_135 v_behind_136 v_kind_137 v_number_138 v_wrong_139 v_wrongAt_140 hF H locs ls hH hl
    delta FX8_readLine_j175 at hF
    refine lv_aload_n hx hb dX8_readLine_175 rfl (lv_at hl 0 rfl) ?_
    refine lv_bipush (v := 26) hx hb dX8_readLine_176 syb_26 ?_
    obtain ⟨v_at_141, v_behind_142, v_kind_143, v_number_144, v_wrong_145, v_wrongAt_146, he, hF⟩ := bd6e hF
    refine mcV hX hK hEv hE0 hH (met_X8_needs hE he) (mrecv hK hH) gw_StoneYearModel_161 hd_yX8_needs ⟨Nat.le_of_ble_eq_true rfl, Nat.le_of_ble_eq_true rfl⟩ rfl rfl hl (Nat.le_of_ble_eq_true rfl) dX8_readLine_178 ⟨Nat.le_of_ble_eq_true rfl, Nat.le_of_ble_eq_true rfl⟩ (fun H locs hH => ?_)
    refine lv_aload_n hx hb dX8_readLine_181 rfl (lv_at hl 0 rfl) ?_
    refine mg_fresh hX hK hH dX8_readLine_182 ?_
    refine lv_bipush (v := 79) hx hb dX8_readLine_185 syb_79 ?_
    refine lv_dup2_11 hx hb dX8_readLine_187 rfl rfl ?_
    obtain ⟨x_147, he, hF⟩ := bd1e hF
    refine ml_fresh hX hK hH he dX8_readLine_188 ?_
    refine lv_iconst (v := 1) hx hb dX8_readLine_189 syi_1 ?_
    refine lv_iadd hx hb dX8_readLine_190 ?_
    obtain ⟨a_fresh_148, he, hF⟩ := bd1e hF
    refine ms_fresh hX hK hH he dX8_readLine_191 (fun H locs hH => ?_)
    obtain ⟨rfl, rfl, rfl, rfl, rfl, rfl, rfl⟩ := re7 hF
    exact hret _ _ _ _ hH dX8_readLine_192
  refine lv_if_eq (tgt := 15) hx hb dX8_readLine_5 rfl (fun c_46 => ?_) (fun c_46 => ?_)
  · have hF := itp c_46 hF
    refine lv_aload_n hx hb dX8_readLine_15 rfl (lv_at hl 0 rfl) ?_
    refine lv_iconst (v := 1) hx hb dX8_readLine_16 syi_1 ?_
    obtain ⟨b_54, he, hF⟩ := bd1e hF
    refine mcV hX hK hEv hE0 hH (met_X8_is hE he) (mrecv hK hH) gw_StoneYearModel_140 hd_yX8_is ⟨Nat.le_of_ble_eq_true rfl, Nat.le_of_ble_eq_true rfl⟩ rfl rfl hl (Nat.le_of_ble_eq_true rfl) dX8_readLine_17 ⟨Nat.le_of_ble_eq_true rfl, Nat.le_of_ble_eq_true rfl⟩ (fun H locs hH => ?_)
    refine lv_if_eq (tgt := 30) hx hb dX8_readLine_20 rfl (fun c_55 => ?_) (fun c_55 => ?_)
    · have hF := itp c_55 hF
      refine lv_aload_n hx hb dX8_readLine_30 rfl (lv_at hl 0 rfl) ?_
      refine lv_iconst (v := 5) hx hb dX8_readLine_31 syi_5 ?_
      obtain ⟨b_63, he, hF⟩ := bd1e hF
      refine mcV hX hK hEv hE0 hH (met_X8_is hE he) (mrecv hK hH) gw_StoneYearModel_140 hd_yX8_is ⟨Nat.le_of_ble_eq_true rfl, Nat.le_of_ble_eq_true rfl⟩ rfl rfl hl (Nat.le_of_ble_eq_true rfl) dX8_readLine_32 ⟨Nat.le_of_ble_eq_true rfl, Nat.le_of_ble_eq_true rfl⟩ (fun H locs hH => ?_)
      refine lv_if_eq (tgt := 45) hx hb dX8_readLine_35 rfl (fun c_64 => ?_) (fun c_64 => ?_)
      · have hF := itp c_64 hF
        refine lv_aload_n hx hb dX8_readLine_45 rfl (lv_at hl 0 rfl) ?_
        refine lv_bipush (v := 8) hx hb dX8_readLine_46 syb_8 ?_
        obtain ⟨b_72, he, hF⟩ := bd1e hF
        refine mcV hX hK hEv hE0 hH (met_X8_is hE he) (mrecv hK hH) gw_StoneYearModel_140 hd_yX8_is ⟨Nat.le_of_ble_eq_true rfl, Nat.le_of_ble_eq_true rfl⟩ rfl rfl hl (Nat.le_of_ble_eq_true rfl) dX8_readLine_48 ⟨Nat.le_of_ble_eq_true rfl, Nat.le_of_ble_eq_true rfl⟩ (fun H locs hH => ?_)
        refine lv_if_eq (tgt := 62) hx hb dX8_readLine_51 rfl (fun c_73 => ?_) (fun c_73 => ?_)
        · have hF := itp c_73 hF
          refine lv_aload_n hx hb dX8_readLine_62 rfl (lv_at hl 0 rfl) ?_
          refine lv_bipush (v := 9) hx hb dX8_readLine_63 syb_9 ?_
          obtain ⟨b_81, he, hF⟩ := bd1e hF
          refine mcV hX hK hEv hE0 hH (met_X8_is hE he) (mrecv hK hH) gw_StoneYearModel_140 hd_yX8_is ⟨Nat.le_of_ble_eq_true rfl, Nat.le_of_ble_eq_true rfl⟩ rfl rfl hl (Nat.le_of_ble_eq_true rfl) dX8_readLine_65 ⟨Nat.le_of_ble_eq_true rfl, Nat.le_of_ble_eq_true rfl⟩ (fun H locs hH => ?_)
          refine lv_if_eq (tgt := 79) hx hb dX8_readLine_68 rfl (fun c_82 => ?_) (fun c_82 => ?_)
          · have hF := itp c_82 hF
            refine lv_aload_n hx hb dX8_readLine_79 rfl (lv_at hl 0 rfl) ?_
            refine lv_bipush (v := 10) hx hb dX8_readLine_80 syb_10 ?_
            obtain ⟨b_90, v_at_91, v_behind_92, v_kind_93, v_number_94, he, hF⟩ := bd5e hF
            refine mcV hX hK hEv hE0 hH (met_X8_eats hE he) (mrecv hK hH) gw_StoneYearModel_146 hd_yX8_eats ⟨Nat.le_of_ble_eq_true rfl, Nat.le_of_ble_eq_true rfl⟩ rfl rfl hl (Nat.le_of_ble_eq_true rfl) dX8_readLine_82 ⟨Nat.le_of_ble_eq_true rfl, Nat.le_of_ble_eq_true rfl⟩ (fun H locs hH => ?_)
            refine lv_if_eq (tgt := 104) hx hb dX8_readLine_85 rfl (fun c_95 => ?_) (fun c_95 => ?_)
            · have hF := itp c_95 hF
              refine lv_aload_n hx hb dX8_readLine_104 rfl (lv_at hl 0 rfl) ?_
              refine lv_bipush (v := 11) hx hb dX8_readLine_105 syb_11 ?_
              obtain ⟨b_104, v_at_105, v_behind_106, v_kind_107, v_number_108, he, hF⟩ := bd5e hF
              refine mcV hX hK hEv hE0 hH (met_X8_eats hE he) (mrecv hK hH) gw_StoneYearModel_146 hd_yX8_eats ⟨Nat.le_of_ble_eq_true rfl, Nat.le_of_ble_eq_true rfl⟩ rfl rfl hl (Nat.le_of_ble_eq_true rfl) dX8_readLine_107 ⟨Nat.le_of_ble_eq_true rfl, Nat.le_of_ble_eq_true rfl⟩ (fun H locs hH => ?_)
              refine lv_if_eq (tgt := 130) hx hb dX8_readLine_110 rfl (fun c_109 => ?_) (fun c_109 => ?_)
              · have hF := itp c_109 hF
                refine lv_aload_n hx hb dX8_readLine_130 rfl (lv_at hl 0 rfl) ?_
                refine lv_bipush (v := 12) hx hb dX8_readLine_131 syb_12 ?_
                obtain ⟨b_118, v_at_119, v_behind_120, v_kind_121, v_number_122, he, hF⟩ := bd5e hF
                refine mcV hX hK hEv hE0 hH (met_X8_eats hE he) (mrecv hK hH) gw_StoneYearModel_146 hd_yX8_eats ⟨Nat.le_of_ble_eq_true rfl, Nat.le_of_ble_eq_true rfl⟩ rfl rfl hl (Nat.le_of_ble_eq_true rfl) dX8_readLine_133 ⟨Nat.le_of_ble_eq_true rfl, Nat.le_of_ble_eq_true rfl⟩ (fun H locs hH => ?_)
                refine lv_if_eq (tgt := 150) hx hb dX8_readLine_136 rfl (fun c_123 => ?_) (fun c_123 => ?_)
                · have hF := itp c_123 hF
                  refine lv_aload_n hx hb dX8_readLine_150 rfl (lv_at hl 0 rfl) ?_
                  refine lv_bipush (v := 13) hx hb dX8_readLine_151 syb_13 ?_
                  obtain ⟨b_125, v_at_126, v_behind_127, v_kind_128, v_number_129, he, hF⟩ := bd5e hF
                  refine mcV hX hK hEv hE0 hH (met_X8_eats hE he) (mrecv hK hH) gw_StoneYearModel_146 hd_yX8_eats ⟨Nat.le_of_ble_eq_true rfl, Nat.le_of_ble_eq_true rfl⟩ rfl rfl hl (Nat.le_of_ble_eq_true rfl) dX8_readLine_153 ⟨Nat.le_of_ble_eq_true rfl, Nat.le_of_ble_eq_true rfl⟩ (fun H locs hH => ?_)
                  refine lv_if_eq (tgt := 170) hx hb dX8_readLine_156 rfl (fun c_130 => ?_) (fun c_130 => ?_)
                  · have hF := itp c_130 hF
                    refine lv_aload_n hx hb dX8_readLine_170 rfl (lv_at hl 0 rfl) ?_
                    refine lv_iconst (v := 2) hx hb dX8_readLine_171 syi_2 ?_
                    obtain ⟨v_wrong_132, v_wrongAt_133, he, hF⟩ := bd2e hF
                    refine mcV hX hK hEv hE0 hH (met_X8_fails hE he) (mrecv hK hH) gw_StoneYearModel_149 hd_yX8_fails ⟨Nat.le_of_ble_eq_true rfl, Nat.le_of_ble_eq_true rfl⟩ rfl rfl hl (Nat.le_of_ble_eq_true rfl) dX8_readLine_172 ⟨Nat.le_of_ble_eq_true rfl, Nat.le_of_ble_eq_true rfl⟩ (fun H locs hH => ?_)
                    exact j175 a_fresh v_at_126 v_behind_127 v_kind_128 v_number_129 v_wrong_132 v_wrongAt_133 hF _ _ _ hH (lv_sub hl [0] rfl)
                  · have hF := itn c_130 hF
                    refine lv_aload_n hx hb dX8_readLine_159 rfl (lv_at hl 0 rfl) ?_
                    refine mg_fresh hX hK hH dX8_readLine_160 ?_
                    refine lv_bipush (v := 78) hx hb dX8_readLine_163 syb_78 ?_
                    refine lv_iconst (v := 1) hx hb dX8_readLine_165 syi_1 ?_
                    obtain ⟨a_fresh_131, he, hF⟩ := bd1e hF
                    refine ms_fresh hX hK hH he dX8_readLine_166 (fun H locs hH => ?_)
                    refine lv_goto (tgt := 175) hx hb dX8_readLine_167 rfl ?_
                    exact j175 a_fresh_131 v_at_126 v_behind_127 v_kind_128 v_number_129 v_wrong v_wrongAt hF _ _ _ hH (lv_sub hl [0] rfl)
                · have hF := itn c_123 hF
                  refine lv_aload_n hx hb dX8_readLine_139 rfl (lv_at hl 0 rfl) ?_
                  refine mg_fresh hX hK hH dX8_readLine_140 ?_
                  refine lv_bipush (v := 77) hx hb dX8_readLine_143 syb_77 ?_
                  refine lv_iconst (v := 1) hx hb dX8_readLine_145 syi_1 ?_
                  obtain ⟨a_fresh_124, he, hF⟩ := bd1e hF
                  refine ms_fresh hX hK hH he dX8_readLine_146 (fun H locs hH => ?_)
                  refine lv_goto (tgt := 175) hx hb dX8_readLine_147 rfl ?_
                  exact j175 a_fresh_124 v_at_119 v_behind_120 v_kind_121 v_number_122 v_wrong v_wrongAt hF _ _ _ hH (lv_sub hl [0] rfl)
              · have hF := itn c_109 hF
                refine lv_aload_n hx hb dX8_readLine_113 rfl (lv_at hl 0 rfl) ?_
                refine mg_fresh hX hK hH dX8_readLine_114 ?_
                refine lv_bipush (v := 76) hx hb dX8_readLine_117 syb_76 ?_
                refine lv_aload_n hx hb dX8_readLine_119 rfl (lv_at hl 0 rfl) ?_
                refine lv_iconst (v := 1) hx hb dX8_readLine_120 syi_1 ?_
                refine lv_bipush (v := 8) hx hb dX8_readLine_121 syb_8 ?_
                obtain ⟨x_110, v_at_111, v_behind_112, v_kind_113, v_number_114, v_wrong_115, v_wrongAt_116, he, hF⟩ := bd7e hF
                refine mcV hX hK hEv hE0 hH (met_X8_reads hE he) (mrecv hK hH) gw_StoneYearModel_157 hd_yX8_reads ⟨Nat.le_of_ble_eq_true rfl, Nat.le_of_ble_eq_true rfl⟩ rfl rfl hl (Nat.le_of_ble_eq_true rfl) dX8_readLine_123 ⟨Nat.le_of_ble_eq_true rfl, Nat.le_of_ble_eq_true rfl⟩ (fun H locs hH => ?_)
                obtain ⟨a_fresh_117, he, hF⟩ := bd1e hF
                refine ms_fresh hX hK hH he dX8_readLine_126 (fun H locs hH => ?_)
                refine lv_goto (tgt := 175) hx hb dX8_readLine_127 rfl ?_
                exact j175 a_fresh_117 v_at_111 v_behind_112 v_kind_113 v_number_114 v_wrong_115 v_wrongAt_116 hF _ _ _ hH (lv_sub hl [0] rfl)
            · have hF := itn c_95 hF
              refine lv_aload_n hx hb dX8_readLine_88 rfl (lv_at hl 0 rfl) ?_
              refine mg_fresh hX hK hH dX8_readLine_89 ?_
              refine lv_bipush (v := 75) hx hb dX8_readLine_92 syb_75 ?_
              refine lv_aload_n hx hb dX8_readLine_94 rfl (lv_at hl 0 rfl) ?_
              refine lv_iconst (v := 1) hx hb dX8_readLine_95 syi_1 ?_
              refine lv_iconst (v := 3) hx hb dX8_readLine_96 syi_3 ?_
              obtain ⟨x_96, v_at_97, v_behind_98, v_kind_99, v_number_100, v_wrong_101, v_wrongAt_102, he, hF⟩ := bd7e hF
              refine mcV hX hK hEv hE0 hH (met_X8_reads hE he) (mrecv hK hH) gw_StoneYearModel_157 hd_yX8_reads ⟨Nat.le_of_ble_eq_true rfl, Nat.le_of_ble_eq_true rfl⟩ rfl rfl hl (Nat.le_of_ble_eq_true rfl) dX8_readLine_97 ⟨Nat.le_of_ble_eq_true rfl, Nat.le_of_ble_eq_true rfl⟩ (fun H locs hH => ?_)
              obtain ⟨a_fresh_103, he, hF⟩ := bd1e hF
              refine ms_fresh hX hK hH he dX8_readLine_100 (fun H locs hH => ?_)
              refine lv_goto (tgt := 175) hx hb dX8_readLine_101 rfl ?_
              exact j175 a_fresh_103 v_at_97 v_behind_98 v_kind_99 v_number_100 v_wrong_101 v_wrongAt_102 hF _ _ _ hH (lv_sub hl [0] rfl)
          · have hF := itn c_82 hF
            refine lv_aload_n hx hb dX8_readLine_71 rfl (lv_at hl 0 rfl) ?_
            refine lv_iconst (v := 1) hx hb dX8_readLine_72 syi_1 ?_
            obtain ⟨a_fresh_83, v_at_84, v_behind_85, v_kind_86, v_number_87, v_wrong_88, v_wrongAt_89, he, hF⟩ := bd7e hF
            refine mcV hX hK hEv hE0 hH (met_X8_readMust hE he) (mrecv hK hH) gw_StoneYearModel_176 hd_yX8_readMust ⟨Nat.le_of_ble_eq_true rfl, Nat.le_of_ble_eq_true rfl⟩ rfl rfl hl (Nat.le_of_ble_eq_true rfl) dX8_readLine_73 ⟨Nat.le_of_ble_eq_true rfl, Nat.le_of_ble_eq_true rfl⟩ (fun H locs hH => ?_)
            refine lv_goto (tgt := 175) hx hb dX8_readLine_76 rfl ?_
            exact j175 a_fresh_83 v_at_84 v_behind_85 v_kind_86 v_number_87 v_wrong_88 v_wrongAt_89 hF _ _ _ hH (lv_sub hl [0] rfl)
        · have hF := itn c_73 hF
          refine lv_aload_n hx hb dX8_readLine_54 rfl (lv_at hl 0 rfl) ?_
          refine lv_iconst (v := 0) hx hb dX8_readLine_55 syi_0 ?_
          obtain ⟨a_fresh_74, v_at_75, v_behind_76, v_kind_77, v_number_78, v_wrong_79, v_wrongAt_80, he, hF⟩ := bd7e hF
          refine mcV hX hK hEv hE0 hH (met_X8_readMust hE he) (mrecv hK hH) gw_StoneYearModel_176 hd_yX8_readMust ⟨Nat.le_of_ble_eq_true rfl, Nat.le_of_ble_eq_true rfl⟩ rfl rfl hl (Nat.le_of_ble_eq_true rfl) dX8_readLine_56 ⟨Nat.le_of_ble_eq_true rfl, Nat.le_of_ble_eq_true rfl⟩ (fun H locs hH => ?_)
          refine lv_goto (tgt := 175) hx hb dX8_readLine_59 rfl ?_
          exact j175 a_fresh_74 v_at_75 v_behind_76 v_kind_77 v_number_78 v_wrong_79 v_wrongAt_80 hF _ _ _ hH (lv_sub hl [0] rfl)
      · have hF := itn c_64 hF
        refine lv_aload_n hx hb dX8_readLine_38 rfl (lv_at hl 0 rfl) ?_
        obtain ⟨a_fresh_65, v_at_66, v_behind_67, v_kind_68, v_number_69, v_wrong_70, v_wrongAt_71, he, hF⟩ := bd7e hF
        refine mcV hX hK hEv hE0 hH (met_X8_readWish hE he) (mrecv hK hH) gw_StoneYearModel_173 hd_yX8_readWish ⟨Nat.le_of_ble_eq_true rfl, Nat.le_of_ble_eq_true rfl⟩ rfl rfl hl (Nat.le_of_ble_eq_true rfl) dX8_readLine_39 ⟨Nat.le_of_ble_eq_true rfl, Nat.le_of_ble_eq_true rfl⟩ (fun H locs hH => ?_)
        refine lv_goto (tgt := 175) hx hb dX8_readLine_42 rfl ?_
        exact j175 a_fresh_65 v_at_66 v_behind_67 v_kind_68 v_number_69 v_wrong_70 v_wrongAt_71 hF _ _ _ hH (lv_sub hl [0] rfl)
    · have hF := itn c_55 hF
      refine lv_aload_n hx hb dX8_readLine_23 rfl (lv_at hl 0 rfl) ?_
      obtain ⟨a_fresh_56, v_at_57, v_behind_58, v_kind_59, v_number_60, v_wrong_61, v_wrongAt_62, he, hF⟩ := bd7e hF
      refine mcV hX hK hEv hE0 hH (met_X8_readStone hE he) (mrecv hK hH) gw_StoneYearModel_170 hd_yX8_readStone ⟨Nat.le_of_ble_eq_true rfl, Nat.le_of_ble_eq_true rfl⟩ rfl rfl hl (Nat.le_of_ble_eq_true rfl) dX8_readLine_24 ⟨Nat.le_of_ble_eq_true rfl, Nat.le_of_ble_eq_true rfl⟩ (fun H locs hH => ?_)
      refine lv_goto (tgt := 175) hx hb dX8_readLine_27 rfl ?_
      exact j175 a_fresh_56 v_at_57 v_behind_58 v_kind_59 v_number_60 v_wrong_61 v_wrongAt_62 hF _ _ _ hH (lv_sub hl [0] rfl)
  · have hF := itn c_46 hF
    refine lv_aload_n hx hb dX8_readLine_8 rfl (lv_at hl 0 rfl) ?_
    obtain ⟨a_fresh_47, v_at_48, v_behind_49, v_kind_50, v_number_51, v_wrong_52, v_wrongAt_53, he, hF⟩ := bd7e hF
    refine mcV hX hK hEv hE0 hH (met_X8_readRow hE he) (mrecv hK hH) gw_StoneYearModel_167 hd_yX8_readRow ⟨Nat.le_of_ble_eq_true rfl, Nat.le_of_ble_eq_true rfl⟩ rfl rfl hl (Nat.le_of_ble_eq_true rfl) dX8_readLine_9 ⟨Nat.le_of_ble_eq_true rfl, Nat.le_of_ble_eq_true rfl⟩ (fun H locs hH => ?_)
    refine lv_goto (tgt := 175) hx hb dX8_readLine_12 rfl ?_
    exact j175 a_fresh_47 v_at_48 v_behind_49 v_kind_50 v_number_51 v_wrong_52 v_wrongAt_53 hF _ _ _ hH (lv_sub hl [0] rfl)
abbrev rm_X8_text : Room := { frames := 48, cells := 0, slots := 0, locals := 997 }
set_option maxHeartbeats 4000000 in
theorem met_X8_text {l : Launch} {D : va_G} {ad : Nat → Nat} {cA : Nat → ClassId} {a_all : Nat → Int32} {a_hasImage : Nat → Int32} {a_tape : Nat → Int32} {a_fresh : Nat → Int32} {v_taped : Int32} {v_at : Int32} {v_behind : Int32} {v_size : Int32} {v_kind : Int32} {v_number : Int32} {v_wrong : Int32} {v_wrongAt : Int32} {v_depth : Int32} {v_steps : Int32} {v_faultKind : Int32} {v_faultPlace : Int32} {a_on : Nat → Int32} {a_many : Nat → Int32} {v_moved : Int32} {a_pile : Nat → Int32} {v_aside : Int32} {v_judgedBy : Int32} {v_judgedYear : Int32} {a_leastCost : Nat → Int32} {a_matched : Nat → Int32} {a_order : Nat → Int32} {a_lies : Nat → Int64} {a_movedThen : Nat → Int32} {a_yearTable : Nat → Int32} {a_yearMark : Nat → Int32} {a_beginTable : Nat → Int32} {a_beginMark : Nat → Int32} {v_statesTold : Int32} {v_found : Int32} {v_yearFrom : Int32} {v_mark : Int32} {v_beginsMark : Int32} {v_begins : Int32} {a_began : Nat → Int64} {v_isSpent : Int32} {a_wants : Nat → Int32} {a_rowSort : Nat → Int32} {a_rowMany : Nat → Int32} {a_numbers : Nat → Int64}  {p1 : Int32} {p2 : Int32} {res : Int32} {ra_all : Nat → Int32} {ra_fresh : Nat → Int32} {rv_taped : Int32} {rv_at : Int32} {rv_behind : Int32} {rv_size : Int32} {rv_kind : Int32} {rv_number : Int32} {rv_wrong : Int32} {rv_wrongAt : Int32} {rv_depth : Int32} {rv_steps : Int32} {rv_faultKind : Int32} {rv_faultPlace : Int32} {ak av fo : Nat} {E : EvT} (hE : EvM E ak av fo) (hF : FX8_text a_all a_tape a_fresh v_taped v_at v_behind v_size v_kind v_number v_wrong v_wrongAt v_depth v_steps v_faultKind v_faultPlace p1 p2 = some (res, ra_all, ra_fresh, rv_taped, rv_at, rv_behind, rv_size, rv_kind, rv_number, rv_wrong, rv_wrongAt, rv_depth, rv_steps, rv_faultKind, rv_faultPlace)) : MM l yX8_text (ws_ yX8_text cX8_text 6 (Option.some Jvm.ClassFile.FieldType.int)) rm_X8_text D vwA (mT cA) E [.ref (ad 0), .int p1, .int p2] (mW ad cA a_all a_hasImage a_tape a_fresh v_taped v_at v_behind v_size v_kind v_number v_wrong v_wrongAt v_depth v_steps v_faultKind v_faultPlace a_on a_many v_moved a_pile v_aside v_judgedBy v_judgedYear a_leastCost a_matched a_order a_lies a_movedThen a_yearTable a_yearMark a_beginTable a_beginMark v_statesTold v_found v_yearFrom v_mark v_beginsMark v_begins a_began v_isSpent a_wants a_rowSort a_rowMany a_numbers) (mW ad cA ra_all a_hasImage a_tape ra_fresh rv_taped rv_at rv_behind rv_size rv_kind rv_number rv_wrong rv_wrongAt rv_depth rv_steps rv_faultKind rv_faultPlace a_on a_many v_moved a_pile v_aside v_judgedBy v_judgedYear a_leastCost a_matched a_order a_lies a_movedThen a_yearTable a_yearMark a_beginTable a_beginMark v_statesTold v_found v_yearFrom v_mark v_beginsMark v_begins a_began v_isSpent a_wants a_rowSort a_rowMany a_numbers) (some (.int res)) := by
  refine MM.ofI (by decide) (Nat.le_of_ble_eq_true rfl) ?_
  intro p e s m args below meth c Q A hX hK hE0 hret H locs ls hH hl
  have hX : CallFix p m c cX8_text 6 s args lw_all RX8 := hX
  have hx := hX.1
  have hb := hX.2.1
  have hown := hX.2.2.2.1
  have hts := hX.2.2.2.2
  have hl : lv_has ls 6 [(0, .ref (ad 0)), (1, .int p1), (2, .int p2)] := hl
  have hEv := hE.1
  delta FX8_text at hF
  refine lv_aload_n hx hb dX8_text_0 rfl (lv_at hl 0 rfl) ?_
  refine lv_iconst (v := 0) hx hb dX8_text_1 syi_0 ?_
  refine mp_thrown hX hK hH dX8_text_2 (fun H locs hH => ?_)
  refine lv_iload_n hx hb dX8_text_5 rfl (lv_at hl 1 rfl) ?_
  refine lv_i2l (v := (Int32.toInt64 p1)) hx hb dX8_text_6 rfl ?_
  refine lv_lconst (v := 0) hx hb dX8_text_7 rfl ?_
  refine lv_lconst (v := 1) hx hb dX8_text_8 rfl ?_
  obtain ⟨b_47, he, hF⟩ := bd1e hF
  refine mcS hX hK hEv hE0 hH (met_X8_within hE he) gw_StoneYearModel_153 hd_yX8_within ⟨Nat.le_of_ble_eq_true rfl, Nat.le_of_ble_eq_true rfl⟩ rfl rfl hl (Nat.le_of_ble_eq_true rfl) dX8_text_9 ⟨Nat.le_of_ble_eq_true rfl, Nat.le_of_ble_eq_true rfl⟩ (fun H locs hH => ?_)
  refine lv_if_ne (tgt := 18) hx hb dX8_text_12 rfl (fun c_48 => ?_) (fun c_48 => ?_)
  · have hF := itn c_48 hF
    refine lv_iload_n hx hb dX8_text_18 rfl (lv_at hl 2 rfl) ?_
    refine lv_i2l (v := (Int32.toInt64 p2)) hx hb dX8_text_19 rfl ?_
    refine lv_lconst (v := 0) hx hb dX8_text_20 rfl ?_
    refine lv_aload_n hx hb dX8_text_21 rfl (lv_at hl 0 rfl) ?_
    refine mg_taped hX hK hH dX8_text_22 ?_
    refine lv_i2l (v := (Int32.toInt64 v_taped)) hx hb dX8_text_25 rfl ?_
    obtain ⟨b_49, he, hF⟩ := bd1e hF
    refine mcS hX hK hEv hE0 hH (met_X8_within hE he) gw_StoneYearModel_153 hd_yX8_within ⟨Nat.le_of_ble_eq_true rfl, Nat.le_of_ble_eq_true rfl⟩ rfl rfl hl (Nat.le_of_ble_eq_true rfl) dX8_text_26 ⟨Nat.le_of_ble_eq_true rfl, Nat.le_of_ble_eq_true rfl⟩ (fun H locs hH => ?_)
    refine lv_if_ne (tgt := 35) hx hb dX8_text_29 rfl (fun c_50 => ?_) (fun c_50 => ?_)
    · have hF := itn c_50 hF
      refine lv_aload_n hx hb dX8_text_35 rfl (lv_at hl 0 rfl) ?_
      refine lv_iload_n hx hb dX8_text_36 rfl (lv_at hl 2 rfl) ?_
      refine mp_size hX hK hH dX8_text_37 (fun H locs hH => ?_)
      refine lv_aload_n hx hb dX8_text_40 rfl (lv_at hl 0 rfl) ?_
      refine lv_iconst (v := 0) hx hb dX8_text_41 syi_0 ?_
      refine mp_taped hX hK hH dX8_text_42 (fun H locs hH => ?_)
      refine lv_aload_n hx hb dX8_text_45 rfl (lv_at hl 0 rfl) ?_
      refine lv_iconst (v := 0) hx hb dX8_text_46 syi_0 ?_
      refine mp_behind hX hK hH dX8_text_47 (fun H locs hH => ?_)
      refine lv_aload_n hx hb dX8_text_50 rfl (lv_at hl 0 rfl) ?_
      refine lv_iconst (v := 0) hx hb dX8_text_51 syi_0 ?_
      refine mp_wrong hX hK hH dX8_text_52 (fun H locs hH => ?_)
      refine lv_aload_n hx hb dX8_text_55 rfl (lv_at hl 0 rfl) ?_
      refine lv_iconst (v := 0) hx hb dX8_text_56 syi_0 ?_
      refine mp_depth hX hK hH dX8_text_57 (fun H locs hH => ?_)
      refine lv_aload_n hx hb dX8_text_60 rfl (lv_at hl 0 rfl) ?_
      refine lv_iconst (v := 0) hx hb dX8_text_61 syi_0 ?_
      refine mp_steps hX hK hH dX8_text_62 (fun H locs hH => ?_)
      refine lv_aload_n hx hb dX8_text_65 rfl (lv_at hl 0 rfl) ?_
      refine mg_fresh hX hK hH dX8_text_66 ?_
      obtain ⟨a_fresh_51, he, hF⟩ := bd1e hF
      refine mcS hX hK hEv hE0 hH (met_X8_plain_fresh hE he) gw_StoneYearModel_86 hd_yX8_plain ⟨Nat.le_of_ble_eq_true rfl, Nat.le_of_ble_eq_true rfl⟩ rfl rfl hl (Nat.le_of_ble_eq_true rfl) dX8_text_69 ⟨Nat.le_of_ble_eq_true rfl, Nat.le_of_ble_eq_true rfl⟩ (fun H locs hH => ?_)
      refine lv_aload_n hx hb dX8_text_72 rfl (lv_at hl 0 rfl) ?_
      refine mg_fresh hX hK hH dX8_text_73 ?_
      refine lv_bipush (v := 114) hx hb dX8_text_76 syb_114 ?_
      refine lv_iconst (v := 0) hx hb dX8_text_78 syi_0 ?_
      obtain ⟨a_fresh_52, he, hF⟩ := bd1e hF
      refine ms_fresh hX hK hH he dX8_text_79 (fun H locs hH => ?_)
      refine lv_aload_n hx hb dX8_text_80 rfl (lv_at hl 0 rfl) ?_
      obtain ⟨v_at_53, v_behind_54, v_kind_55, v_number_56, he, hF⟩ := bd4e hF
      refine mcV hX hK hEv hE0 hH (met_X8_next hE he) (mrecv hK hH) gw_StoneYearModel_143 hd_yX8_next ⟨Nat.le_of_ble_eq_true rfl, Nat.le_of_ble_eq_true rfl⟩ rfl rfl hl (Nat.le_of_ble_eq_true rfl) dX8_text_81 ⟨Nat.le_of_ble_eq_true rfl, Nat.le_of_ble_eq_true rfl⟩ (fun H locs hH => ?_)
      obtain ⟨xx84, ee84, kk84_0⟩ := bd9L hF
      have k84_0 : ∀ (a_fresh_104 : Nat → Int32) (v_at_105 : Int32) (v_behind_106 : Int32) (v_kind_107 : Int32) (v_number_108 : Int32) (v_wrong_109 : Int32) (v_wrongAt_110 : Int32) (v_depth_111 : Int32) (v_steps_112 : Int32), xx84 = (a_fresh_104, v_at_105, v_behind_106, v_kind_107, v_number_108, v_wrong_109, v_wrongAt_110, v_depth_111, v_steps_112) → ∀ (H : Heap) (locs : List Loc) (ls : Array Slot), MH D vwA A s.heap (mW ad cA a_all a_hasImage a_tape a_fresh_104 0 v_at_105 v_behind_106 p2 v_kind_107 v_number_108 v_wrong_109 v_wrongAt_110 v_depth_111 v_steps_112 v_faultKind v_faultPlace a_on a_many v_moved a_pile v_aside v_judgedBy v_judgedYear a_leastCost a_matched a_order a_lies a_movedThen a_yearTable a_yearMark a_beginTable a_beginMark v_statesTold v_found v_yearFrom v_mark v_beginsMark v_begins a_began v_isSpent a_wants a_rowSort a_rowMany a_numbers) H locs → lv_has ls 6 [(0, .ref (ad 0)), (1, .int p1)] → W p l e rm_X8_text s m args below meth c H locs 0 0 Q (F0 m 118 ls []) := by
        intro a_fresh_104 v_at_105 v_behind_106 v_kind_107 v_number_108 v_wrong_109 v_wrongAt_110 v_depth_111 v_steps_112 hxx H locs ls hH hl
        have hF := un9e (kk84_0 (a_fresh_104, v_at_105, v_behind_106, v_kind_107, v_number_108, v_wrong_109, v_wrongAt_110, v_depth_111, v_steps_112) hxx)
        refine lv_aload_n hx hb dX8_text_118 rfl (lv_at hl 0 rfl) ?_
        refine lv_aload_n hx hb dX8_text_119 rfl (lv_at hl 0 rfl) ?_
        refine mg_wrong hX hK hH dX8_text_120 ?_
        refine mp_faultKind hX hK hH dX8_text_123 (fun H locs hH => ?_)
        refine lv_aload_n hx hb dX8_text_126 rfl (lv_at hl 0 rfl) ?_
        refine lv_aload_n hx hb dX8_text_127 rfl (lv_at hl 0 rfl) ?_
        refine mg_wrong hX hK hH dX8_text_128 ?_
        have j142 : ∀ (x_114 : Int32), FX8_text_j142 a_all p1 p2 a_fresh_104 v_at_105 v_behind_106 v_kind_107 v_number_108 v_wrong_109 v_wrongAt_110 v_depth_111 v_steps_112 x_114 = some (res, ra_all, ra_fresh, rv_taped, rv_at, rv_behind, rv_size, rv_kind, rv_number, rv_wrong, rv_wrongAt, rv_depth, rv_steps, rv_faultKind, rv_faultPlace) → ∀ (H : Heap) (locs : List Loc) (ls : Array Slot), MH D vwA A s.heap (mW ad cA a_all a_hasImage a_tape a_fresh_104 0 v_at_105 v_behind_106 p2 v_kind_107 v_number_108 v_wrong_109 v_wrongAt_110 v_depth_111 v_steps_112 v_wrong_109 v_faultPlace a_on a_many v_moved a_pile v_aside v_judgedBy v_judgedYear a_leastCost a_matched a_order a_lies a_movedThen a_yearTable a_yearMark a_beginTable a_beginMark v_statesTold v_found v_yearFrom v_mark v_beginsMark v_begins a_began v_isSpent a_wants a_rowSort a_rowMany a_numbers) H locs → lv_has ls 6 [(0, .ref (ad 0)), (1, .int p1)] → W p l e rm_X8_text s m args below meth c H locs 0 0 Q (F0 m 142 ls [.int x_114, .ref (ad 0)]) := by
          intro x_114 hF H locs ls hH hl
          delta FX8_text_j142 at hF
          refine mp_faultPlace hX hK hH dX8_text_142 (fun H locs hH => ?_)
          refine lv_aload_n hx hb dX8_text_145 rfl (lv_at hl 0 rfl) ?_
          refine mg_wrong hX hK hH dX8_text_146 ?_
          refine lv_if_eq (tgt := 160) hx hb dX8_text_149 rfl (fun c_115 => ?_) (fun c_115 => ?_)
          · have hF := itp c_115 hF
            refine lv_iload_n hx hb dX8_text_160 rfl (lv_at hl 1 rfl) ?_
            have j170 : ∀ (x_117 : Int32), FX8_text_j170 a_all p1 p2 a_fresh_104 v_at_105 v_behind_106 v_kind_107 v_number_108 v_wrong_109 v_wrongAt_110 v_depth_111 v_steps_112 x_114 x_117 = some (res, ra_all, ra_fresh, rv_taped, rv_at, rv_behind, rv_size, rv_kind, rv_number, rv_wrong, rv_wrongAt, rv_depth, rv_steps, rv_faultKind, rv_faultPlace) → ∀ (H : Heap) (locs : List Loc) (ls : Array Slot), MH D vwA A s.heap (mW ad cA a_all a_hasImage a_tape a_fresh_104 0 v_at_105 v_behind_106 p2 v_kind_107 v_number_108 v_wrong_109 v_wrongAt_110 v_depth_111 v_steps_112 v_wrong_109 x_114 a_on a_many v_moved a_pile v_aside v_judgedBy v_judgedYear a_leastCost a_matched a_order a_lies a_movedThen a_yearTable a_yearMark a_beginTable a_beginMark v_statesTold v_found v_yearFrom v_mark v_beginsMark v_begins a_began v_isSpent a_wants a_rowSort a_rowMany a_numbers) H locs → lv_has ls 6 [(0, .ref (ad 0)), (1, .int p1)] → W p l e rm_X8_text s m args below meth c H locs 0 0 Q (F0 m 170 ls [.int x_117]) := by
              intro x_117 hF H locs ls hH hl
              delta FX8_text_j170 at hF
              refine lv_istore_n (lv' := [(3, .int x_117), (0, .ref (ad 0)), (1, .int p1)]) hx hb dX8_text_170 rfl hl (by decide) rfl (fun ls hl => ?_)
              refine lv_iload_n hx hb dX8_text_171 rfl (lv_at hl 2 rfl) ?_
              have j183 : ∀ (x_119 : Int32), FX8_text_j183 a_all p1 p2 a_fresh_104 v_at_105 v_behind_106 v_kind_107 v_number_108 v_wrong_109 v_wrongAt_110 v_depth_111 v_steps_112 x_114 x_117 x_119 = some (res, ra_all, ra_fresh, rv_taped, rv_at, rv_behind, rv_size, rv_kind, rv_number, rv_wrong, rv_wrongAt, rv_depth, rv_steps, rv_faultKind, rv_faultPlace) → ∀ (H : Heap) (locs : List Loc) (ls : Array Slot), MH D vwA A s.heap (mW ad cA a_all a_hasImage a_tape a_fresh_104 0 v_at_105 v_behind_106 p2 v_kind_107 v_number_108 v_wrong_109 v_wrongAt_110 v_depth_111 v_steps_112 v_wrong_109 x_114 a_on a_many v_moved a_pile v_aside v_judgedBy v_judgedYear a_leastCost a_matched a_order a_lies a_movedThen a_yearTable a_yearMark a_beginTable a_beginMark v_statesTold v_found v_yearFrom v_mark v_beginsMark v_begins a_began v_isSpent a_wants a_rowSort a_rowMany a_numbers) H locs → lv_has ls 6 [(0, .ref (ad 0)), (1, .int p1), (3, .int x_117)] → W p l e rm_X8_text s m args below meth c H locs 0 0 Q (F0 m 183 ls [.int x_119]) := by
                intro x_119 hF H locs ls hH hl
                delta FX8_text_j183 at hF
                refine lv_istore (lv' := [(4, .int x_119), (0, .ref (ad 0)), (1, .int p1), (3, .int x_117)]) hx hb dX8_text_183 hl (by decide) rfl (fun ls hl => ?_)
                refine lv_iload_n hx hb dX8_text_185 rfl (lv_at hl 3 rfl) ?_
                refine lv_istore (lv' := [(5, .int x_117), (4, .int x_119), (0, .ref (ad 0)), (1, .int p1), (3, .int x_117)]) hx hb dX8_text_186 hl (by decide) rfl (fun ls hl => ?_)
                obtain ⟨xx188, ee188, kk188_0⟩ := bd1L hF
                have k188_0 : ∀ (a_all_128 : Nat → Int32), xx188 = a_all_128 → ∀ (H : Heap) (locs : List Loc) (ls : Array Slot), MH D vwA A s.heap (mW ad cA a_all_128 a_hasImage a_tape a_fresh_104 0 v_at_105 v_behind_106 p2 v_kind_107 v_number_108 v_wrong_109 v_wrongAt_110 v_depth_111 v_steps_112 v_wrong_109 x_114 a_on a_many v_moved a_pile v_aside v_judgedBy v_judgedYear a_leastCost a_matched a_order a_lies a_movedThen a_yearTable a_yearMark a_beginTable a_beginMark v_statesTold v_found v_yearFrom v_mark v_beginsMark v_begins a_began v_isSpent a_wants a_rowSort a_rowMany a_numbers) H locs → lv_has ls 6 [(0, .ref (ad 0)), (1, .int p1)] → W p l e rm_X8_text s m args below meth c H locs 0 0 Q (F0 m 215 ls []) := by
                  intro a_all_128 hxx H locs ls hH hl
                  have hF := un1e (kk188_0 a_all_128 hxx)
                  refine lv_iload_n hx hb dX8_text_215 rfl (lv_at hl 1 rfl) ?_
                  refine lv_if_ne (tgt := 229) hx hb dX8_text_216 rfl (fun c_129 => ?_) (fun c_129 => ?_)
                  · have hF := itn c_129 hF
                    refine lv_aload_n hx hb dX8_text_229 rfl (lv_at hl 0 rfl) ?_
                    refine mg_all hX hK hH dX8_text_230 ?_
                    refine lv_bipush (v := 114) hx hb dX8_text_233 syb_114 ?_
                    obtain ⟨x_131, he, hF⟩ := bd1e hF
                    refine ml_all hX hK hH he dX8_text_235 ?_
                    obtain ⟨rfl, rfl, rfl, rfl, rfl, rfl, rfl, rfl, rfl, rfl, rfl, rfl, rfl, rfl, rfl⟩ := re15 hF
                    exact hret _ _ _ _ hH dX8_text_236
                  · have hF := itp c_129 hF
                    refine lv_aload_n hx hb dX8_text_219 rfl (lv_at hl 0 rfl) ?_
                    refine mg_all hX hK hH dX8_text_220 ?_
                    refine lv_bipush (v := 79) hx hb dX8_text_223 syb_79 ?_
                    obtain ⟨x_130, he, hF⟩ := bd1e hF
                    refine ml_all hX hK hH he dX8_text_225 ?_
                    refine lv_goto (tgt := 236) hx hb dX8_text_226 rfl ?_
                    obtain ⟨rfl, rfl, rfl, rfl, rfl, rfl, rfl, rfl, rfl, rfl, rfl, rfl, rfl, rfl, rfl⟩ := re15 hF
                    exact hret _ _ _ _ hH dX8_text_236
                obtain ⟨nn188, en188⟩ := loopC_some ee188
                have l188 : ∀ (n : Nat) (x_123 : Int32) (a_all_124 : Nat → Int32), loopN (fun s => FX8_text_b188 a_fresh_104 x_119 s.1 s.2) n (x_123, a_all_124) = some xx188 → ∀ (H : Heap) (locs : List Loc) (ls : Array Slot), MH D vwA A s.heap (mW ad cA a_all_124 a_hasImage a_tape a_fresh_104 0 v_at_105 v_behind_106 p2 v_kind_107 v_number_108 v_wrong_109 v_wrongAt_110 v_depth_111 v_steps_112 v_wrong_109 x_114 a_on a_many v_moved a_pile v_aside v_judgedBy v_judgedYear a_leastCost a_matched a_order a_lies a_movedThen a_yearTable a_yearMark a_beginTable a_beginMark v_statesTold v_found v_yearFrom v_mark v_beginsMark v_begins a_began v_isSpent a_wants a_rowSort a_rowMany a_numbers) H locs → lv_has ls 6 [(0, .ref (ad 0)), (1, .int p1), (4, .int x_119), (5, .int x_123)] → W p l e rm_X8_text s m args below meth c H locs 0 0 Q (F0 m 188 ls []) := by
                  intro n
                  induction n with
                  | zero =>
                    intro x_123 a_all_124 hN
                    exact absurd hN loopN_zero
                  | succ n ih =>
                    intro x_123 a_all_124 hN H locs ls hH hl
                    obtain ⟨yy188, hB188, hY188⟩ := loopN_succ hN
                    have hF : FX8_text_b188 a_fresh_104 x_119 x_123 a_all_124 = some yy188 := hB188
                    delta FX8_text_b188 at hF
                    refine lv_iload hx hb dX8_text_188 (lv_at hl 3 rfl) ?_
                    refine lv_iload hx hb dX8_text_190 (lv_at hl 2 rfl) ?_
                    refine lv_icmp_ge (tgt := 215) hx hb dX8_text_192 rfl (fun c_125 => ?_) (fun c_125 => ?_)
                    · have hF := itp c_125 hF
                      obtain rfl := Option.some.inj hF
                      exact k188_0 a_all_124 hY188 _ _ _ hH (lv_sub hl [0, 1] rfl)
                    · have hF := itn c_125 hF
                      refine lv_aload_n hx hb dX8_text_195 rfl (lv_at hl 0 rfl) ?_
                      refine mg_all hX hK hH dX8_text_196 ?_
                      refine lv_iload hx hb dX8_text_199 (lv_at hl 3 rfl) ?_
                      refine lv_aload_n hx hb dX8_text_201 rfl (lv_at hl 0 rfl) ?_
                      refine mg_fresh hX hK hH dX8_text_202 ?_
                      refine lv_iload hx hb dX8_text_205 (lv_at hl 3 rfl) ?_
                      obtain ⟨x_126, he, hF⟩ := bd1e hF
                      refine ml_fresh hX hK hH he dX8_text_207 ?_
                      obtain ⟨a_all_127, he, hF⟩ := bd1e hF
                      refine ms_all hX hK hH he dX8_text_208 (fun H locs hH => ?_)
                      refine lv_iinc (v := (x_123 + 1)) (lv' := [(5, .int (x_123 + 1)), (0, .ref (ad 0)), (1, .int p1), (4, .int x_119)]) hx hb dX8_text_209 hl (k := 3) rfl (syc syi_1) (by decide) rfl (fun ls hl => ?_)
                      refine lv_goto (tgt := 188) hx hb dX8_text_212 rfl ?_
                      obtain rfl := Option.some.inj hF
                      exact ih (x_123 + 1) a_all_127 hY188 _ _ _ hH (lv_sub hl [1, 2, 3, 0] rfl)
                exact l188 nn188 x_117 a_all en188 _ _ _ hH (lv_sub hl [2, 3, 1, 0] rfl)
              refine lv_if_ne (tgt := 180) hx hb dX8_text_172 rfl (fun c_118 => ?_) (fun c_118 => ?_)
              · have hF := itn c_118 hF
                refine lv_sipush (v := 531) hx hb dX8_text_180 sys_531 ?_
                exact j183 531 hF _ _ _ hH (lv_sub hl [1, 2, 0] rfl)
              · have hF := itp c_118 hF
                refine lv_bipush (v := 113) hx hb dX8_text_175 syb_113 ?_
                refine lv_goto (tgt := 183) hx hb dX8_text_177 rfl ?_
                exact j183 113 hF _ _ _ hH (lv_sub hl [1, 2, 0] rfl)
            refine lv_if_ne (tgt := 168) hx hb dX8_text_161 rfl (fun c_116 => ?_) (fun c_116 => ?_)
            · have hF := itn c_116 hF
              refine lv_bipush (v := 114) hx hb dX8_text_168 syb_114 ?_
              exact j170 114 hF _ _ _ hH (lv_sub hl [0, 1] rfl)
            · have hF := itp c_116 hF
              refine lv_iconst (v := 0) hx hb dX8_text_164 syi_0 ?_
              refine lv_goto (tgt := 170) hx hb dX8_text_165 rfl ?_
              exact j170 0 hF _ _ _ hH (lv_sub hl [0, 1] rfl)
          · have hF := itn c_115 hF
            refine lv_bipush (v := (-10)) hx hb dX8_text_152 syb_m10 ?_
            refine lv_aload_n hx hb dX8_text_154 rfl (lv_at hl 0 rfl) ?_
            refine mg_wrong hX hK hH dX8_text_155 ?_
            refine lv_isub hx hb dX8_text_158 ?_
            obtain ⟨rfl, rfl, rfl, rfl, rfl, rfl, rfl, rfl, rfl, rfl, rfl, rfl, rfl, rfl, rfl⟩ := re15 hF
            exact hret _ _ _ _ hH dX8_text_159
        refine lv_if_ne (tgt := 138) hx hb dX8_text_131 rfl (fun c_113 => ?_) (fun c_113 => ?_)
        · have hF := itn c_113 hF
          refine lv_aload_n hx hb dX8_text_138 rfl (lv_at hl 0 rfl) ?_
          refine mg_wrongAt hX hK hH dX8_text_139 ?_
          exact j142 v_wrongAt_110 hF _ _ _ hH (lv_sub hl [0, 1] rfl)
        · have hF := itp c_113 hF
          refine lv_iconst (v := (-1)) hx hb dX8_text_134 syi_m1 ?_
          refine lv_goto (tgt := 142) hx hb dX8_text_135 rfl ?_
          exact j142 (-1) hF _ _ _ hH (lv_sub hl [0, 1] rfl)
      obtain ⟨nn84, en84⟩ := loopC_some ee84
      have l84 : ∀ (n : Nat) (a_fresh_76 : Nat → Int32) (v_at_77 : Int32) (v_behind_78 : Int32) (v_kind_79 : Int32) (v_number_80 : Int32) (v_wrong_81 : Int32) (v_wrongAt_82 : Int32) (v_depth_83 : Int32) (v_steps_84 : Int32), loopN (fun s => FX8_text_b84 a_tape p1 p2 s.1 s.2.1 s.2.2.1 s.2.2.2.1 s.2.2.2.2.1 s.2.2.2.2.2.1 s.2.2.2.2.2.2.1 s.2.2.2.2.2.2.2.1 s.2.2.2.2.2.2.2.2) n (a_fresh_76, v_at_77, v_behind_78, v_kind_79, v_number_80, v_wrong_81, v_wrongAt_82, v_depth_83, v_steps_84) = some xx84 → ∀ (H : Heap) (locs : List Loc) (ls : Array Slot), MH D vwA A s.heap (mW ad cA a_all a_hasImage a_tape a_fresh_76 0 v_at_77 v_behind_78 p2 v_kind_79 v_number_80 v_wrong_81 v_wrongAt_82 v_depth_83 v_steps_84 v_faultKind v_faultPlace a_on a_many v_moved a_pile v_aside v_judgedBy v_judgedYear a_leastCost a_matched a_order a_lies a_movedThen a_yearTable a_yearMark a_beginTable a_beginMark v_statesTold v_found v_yearFrom v_mark v_beginsMark v_begins a_began v_isSpent a_wants a_rowSort a_rowMany a_numbers) H locs → lv_has ls 6 [(0, .ref (ad 0)), (1, .int p1)] → W p l e rm_X8_text s m args below meth c H locs 0 0 Q (F0 m 84 ls []) := by
        intro n
        induction n with
        | zero =>
          intro a_fresh_76 v_at_77 v_behind_78 v_kind_79 v_number_80 v_wrong_81 v_wrongAt_82 v_depth_83 v_steps_84 hN
          exact absurd hN loopN_zero
        | succ n ih =>
          intro a_fresh_76 v_at_77 v_behind_78 v_kind_79 v_number_80 v_wrong_81 v_wrongAt_82 v_depth_83 v_steps_84 hN H locs ls hH hl
          obtain ⟨yy84, hB84, hY84⟩ := loopN_succ hN
          have hF : FX8_text_b84 a_tape p1 p2 a_fresh_76 v_at_77 v_behind_78 v_kind_79 v_number_80 v_wrong_81 v_wrongAt_82 v_depth_83 v_steps_84 = some yy84 := hB84
          delta FX8_text_b84 at hF
          refine lv_aload_n hx hb dX8_text_84 rfl (lv_at hl 0 rfl) ?_
          refine mg_wrong hX hK hH dX8_text_85 ?_
          refine lv_if_ne (tgt := 118) hx hb dX8_text_88 rfl (fun c_85 => ?_) (fun c_85 => ?_)
          · have hF := itn c_85 hF
            obtain rfl := Option.some.inj hF
            exact k84_0 a_fresh_76 v_at_77 v_behind_78 v_kind_79 v_number_80 v_wrong_81 v_wrongAt_82 v_depth_83 v_steps_84 hY84 _ _ _ hH (lv_sub hl [0, 1] rfl)
          · have hF := itp c_85 hF
            refine lv_aload_n hx hb dX8_text_91 rfl (lv_at hl 0 rfl) ?_
            refine mg_kind hX hK hH dX8_text_92 ?_
            refine lv_bipush (v := 29) hx hb dX8_text_95 syb_29 ?_
            refine lv_icmp_eq (tgt := 118) hx hb dX8_text_97 rfl (fun c_86 => ?_) (fun c_86 => ?_)
            · have hF := itp c_86 hF
              obtain rfl := Option.some.inj hF
              exact k84_0 a_fresh_76 v_at_77 v_behind_78 v_kind_79 v_number_80 v_wrong_81 v_wrongAt_82 v_depth_83 v_steps_84 hY84 _ _ _ hH (lv_sub hl [0, 1] rfl)
            · have hF := itn c_86 hF
              refine lv_iload_n hx hb dX8_text_100 rfl (lv_at hl 1 rfl) ?_
              refine lv_if_ne (tgt := 111) hx hb dX8_text_101 rfl (fun c_87 => ?_) (fun c_87 => ?_)
              · have hF := itn c_87 hF
                refine lv_aload_n hx hb dX8_text_111 rfl (lv_at hl 0 rfl) ?_
                obtain ⟨a_fresh_95, v_at_96, v_behind_97, v_kind_98, v_number_99, v_wrong_100, v_wrongAt_101, v_depth_102, v_steps_103, he, hF⟩ := bd9e hF
                refine mcV hX hK hEv hE0 hH (met_X8_readBar hE he) (mrecv hK hH) gw_StoneYearModel_205 hd_yX8_readBar ⟨Nat.le_of_ble_eq_true rfl, Nat.le_of_ble_eq_true rfl⟩ rfl rfl hl (Nat.le_of_ble_eq_true rfl) dX8_text_112 ⟨Nat.le_of_ble_eq_true rfl, Nat.le_of_ble_eq_true rfl⟩ (fun H locs hH => ?_)
                refine lv_goto (tgt := 84) hx hb dX8_text_115 rfl ?_
                obtain rfl := Option.some.inj hF
                exact ih a_fresh_95 v_at_96 v_behind_97 v_kind_98 v_number_99 v_wrong_100 v_wrongAt_101 v_depth_102 v_steps_103 hY84 _ _ _ hH (lv_sub hl [0, 1] rfl)
              · have hF := itp c_87 hF
                refine lv_aload_n hx hb dX8_text_104 rfl (lv_at hl 0 rfl) ?_
                obtain ⟨a_fresh_88, v_at_89, v_behind_90, v_kind_91, v_number_92, v_wrong_93, v_wrongAt_94, he, hF⟩ := bd7e hF
                refine mcV hX hK hEv hE0 hH (met_X8_readLine hE he) (mrecv hK hH) gw_StoneYearModel_202 hd_yX8_readLine ⟨Nat.le_of_ble_eq_true rfl, Nat.le_of_ble_eq_true rfl⟩ rfl rfl hl (Nat.le_of_ble_eq_true rfl) dX8_text_105 ⟨Nat.le_of_ble_eq_true rfl, Nat.le_of_ble_eq_true rfl⟩ (fun H locs hH => ?_)
                refine lv_goto (tgt := 84) hx hb dX8_text_108 rfl ?_
                obtain rfl := Option.some.inj hF
                exact ih a_fresh_88 v_at_89 v_behind_90 v_kind_91 v_number_92 v_wrong_93 v_wrongAt_94 v_depth_83 v_steps_84 hY84 _ _ _ hH (lv_sub hl [0, 1] rfl)
      exact l84 nn84 a_fresh_52 v_at_53 v_behind_54 v_kind_55 v_number_56 0 v_wrongAt 0 0 en84 _ _ _ hH (lv_sub hl [0, 1] rfl)
    · have hF := itp c_50 hF
      refine lv_bipush (v := (-3)) hx hb dX8_text_32 syb_m3 ?_
      obtain ⟨rfl, rfl, rfl, rfl, rfl, rfl, rfl, rfl, rfl, rfl, rfl, rfl, rfl, rfl, rfl⟩ := re15 hF
      exact hret _ _ _ _ hH dX8_text_34
  · have hF := itp c_48 hF
    refine lv_bipush (v := (-2)) hx hb dX8_text_15 syb_m2 ?_
    obtain ⟨rfl, rfl, rfl, rfl, rfl, rfl, rfl, rfl, rfl, rfl, rfl, rfl, rfl, rfl, rfl⟩ := re15 hF
    exact hret _ _ _ _ hH dX8_text_17
abbrev rm_X8_fault : Room := { frames := 0, cells := 0, slots := 0, locals := 0 }
set_option maxHeartbeats 4000000 in
theorem met_X8_fault {l : Launch} {D : va_G} {ad : Nat → Nat} {cA : Nat → ClassId} {a_all : Nat → Int32} {a_hasImage : Nat → Int32} {a_tape : Nat → Int32} {a_fresh : Nat → Int32} {v_taped : Int32} {v_at : Int32} {v_behind : Int32} {v_size : Int32} {v_kind : Int32} {v_number : Int32} {v_wrong : Int32} {v_wrongAt : Int32} {v_depth : Int32} {v_steps : Int32} {v_faultKind : Int32} {v_faultPlace : Int32} {a_on : Nat → Int32} {a_many : Nat → Int32} {v_moved : Int32} {a_pile : Nat → Int32} {v_aside : Int32} {v_judgedBy : Int32} {v_judgedYear : Int32} {a_leastCost : Nat → Int32} {a_matched : Nat → Int32} {a_order : Nat → Int32} {a_lies : Nat → Int64} {a_movedThen : Nat → Int32} {a_yearTable : Nat → Int32} {a_yearMark : Nat → Int32} {a_beginTable : Nat → Int32} {a_beginMark : Nat → Int32} {v_statesTold : Int32} {v_found : Int32} {v_yearFrom : Int32} {v_mark : Int32} {v_beginsMark : Int32} {v_begins : Int32} {a_began : Nat → Int64} {v_isSpent : Int32} {a_wants : Nat → Int32} {a_rowSort : Nat → Int32} {a_rowMany : Nat → Int32} {a_numbers : Nat → Int64}  {p1 : Int32} {res : Int32} {ak av fo : Nat} {E : EvT} (hE : EvM E ak av fo) (hF : FX8_fault v_faultKind v_faultPlace p1 = some res) : MM l yX8_fault (ws_ yX8_fault cX8_fault 2 (Option.some Jvm.ClassFile.FieldType.int)) rm_X8_fault D vwA (mT cA) E [.ref (ad 0), .int p1] (mW ad cA a_all a_hasImage a_tape a_fresh v_taped v_at v_behind v_size v_kind v_number v_wrong v_wrongAt v_depth v_steps v_faultKind v_faultPlace a_on a_many v_moved a_pile v_aside v_judgedBy v_judgedYear a_leastCost a_matched a_order a_lies a_movedThen a_yearTable a_yearMark a_beginTable a_beginMark v_statesTold v_found v_yearFrom v_mark v_beginsMark v_begins a_began v_isSpent a_wants a_rowSort a_rowMany a_numbers) (mW ad cA a_all a_hasImage a_tape a_fresh v_taped v_at v_behind v_size v_kind v_number v_wrong v_wrongAt v_depth v_steps v_faultKind v_faultPlace a_on a_many v_moved a_pile v_aside v_judgedBy v_judgedYear a_leastCost a_matched a_order a_lies a_movedThen a_yearTable a_yearMark a_beginTable a_beginMark v_statesTold v_found v_yearFrom v_mark v_beginsMark v_begins a_began v_isSpent a_wants a_rowSort a_rowMany a_numbers) (some (.int res)) := by
  refine MM.ofI (by decide) (Nat.le_of_ble_eq_true rfl) ?_
  intro p e s m args below meth c Q A hX hK hE0 hret H locs ls hH hl
  have hX : CallFix p m c cX8_fault 2 s args lw_all RX8 := hX
  have hx := hX.1
  have hb := hX.2.1
  have hown := hX.2.2.2.1
  have hts := hX.2.2.2.2
  have hl : lv_has ls 2 [(0, .ref (ad 0)), (1, .int p1)] := hl
  have hEv := hE.1
  delta FX8_fault at hF
  refine lv_aload_n hx hb dX8_fault_0 rfl (lv_at hl 0 rfl) ?_
  refine lv_iconst (v := 0) hx hb dX8_fault_1 syi_0 ?_
  refine mp_thrown hX hK hH dX8_fault_2 (fun H locs hH => ?_)
  refine lv_iload_n hx hb dX8_fault_5 rfl (lv_at hl 1 rfl) ?_
  refine lv_if_ne (tgt := 16) hx hb dX8_fault_6 rfl (fun c_46 => ?_) (fun c_46 => ?_)
  · have hF := itn c_46 hF
    refine lv_iload_n hx hb dX8_fault_16 rfl (lv_at hl 1 rfl) ?_
    refine lv_iconst (v := 1) hx hb dX8_fault_17 syi_1 ?_
    refine lv_icmp_ne (tgt := 28) hx hb dX8_fault_18 rfl (fun c_47 => ?_) (fun c_47 => ?_)
    · have hF := itn c_47 hF
      refine lv_iconst (v := (-1)) hx hb dX8_fault_28 syi_m1 ?_
      obtain rfl := Option.some.inj hF
      exact hret _ _ _ _ hH dX8_fault_29
    · have hF := itp c_47 hF
      refine lv_aload_n hx hb dX8_fault_21 rfl (lv_at hl 0 rfl) ?_
      refine mg_faultPlace hX hK hH dX8_fault_22 ?_
      refine lv_goto (tgt := 29) hx hb dX8_fault_25 rfl ?_
      obtain rfl := Option.some.inj hF
      exact hret _ _ _ _ hH dX8_fault_29
  · have hF := itp c_46 hF
    refine lv_aload_n hx hb dX8_fault_9 rfl (lv_at hl 0 rfl) ?_
    refine mg_faultKind hX hK hH dX8_fault_10 ?_
    refine lv_goto (tgt := 29) hx hb dX8_fault_13 rfl ?_
    obtain rfl := Option.some.inj hF
    exact hret _ _ _ _ hH dX8_fault_29
abbrev rm_X8_isStone : Room := { frames := 1, cells := 0, slots := 0, locals := 25 }
set_option maxHeartbeats 4000000 in
theorem met_X8_isStone {l : Launch} {D : va_G} {ad : Nat → Nat} {cA : Nat → ClassId} {a_all : Nat → Int32} {a_hasImage : Nat → Int32} {a_tape : Nat → Int32} {a_fresh : Nat → Int32} {v_taped : Int32} {v_at : Int32} {v_behind : Int32} {v_size : Int32} {v_kind : Int32} {v_number : Int32} {v_wrong : Int32} {v_wrongAt : Int32} {v_depth : Int32} {v_steps : Int32} {v_faultKind : Int32} {v_faultPlace : Int32} {a_on : Nat → Int32} {a_many : Nat → Int32} {v_moved : Int32} {a_pile : Nat → Int32} {v_aside : Int32} {v_judgedBy : Int32} {v_judgedYear : Int32} {a_leastCost : Nat → Int32} {a_matched : Nat → Int32} {a_order : Nat → Int32} {a_lies : Nat → Int64} {a_movedThen : Nat → Int32} {a_yearTable : Nat → Int32} {a_yearMark : Nat → Int32} {a_beginTable : Nat → Int32} {a_beginMark : Nat → Int32} {v_statesTold : Int32} {v_found : Int32} {v_yearFrom : Int32} {v_mark : Int32} {v_beginsMark : Int32} {v_begins : Int32} {a_began : Nat → Int64} {v_isSpent : Int32} {a_wants : Nat → Int32} {a_rowSort : Nat → Int32} {a_rowMany : Nat → Int32} {a_numbers : Nat → Int64}  {p1 : Int32} {res : Bool} {ak av fo : Nat} {E : EvT} (hE : EvM E ak av fo) (hF : FX8_isStone a_all p1 = some res) : MM l yX8_isStone (ws_ yX8_isStone cX8_isStone 2 (Option.some Jvm.ClassFile.FieldType.boolean)) rm_X8_isStone D vwA (mT cA) E [.ref (ad 0), .int p1] (mW ad cA a_all a_hasImage a_tape a_fresh v_taped v_at v_behind v_size v_kind v_number v_wrong v_wrongAt v_depth v_steps v_faultKind v_faultPlace a_on a_many v_moved a_pile v_aside v_judgedBy v_judgedYear a_leastCost a_matched a_order a_lies a_movedThen a_yearTable a_yearMark a_beginTable a_beginMark v_statesTold v_found v_yearFrom v_mark v_beginsMark v_begins a_began v_isSpent a_wants a_rowSort a_rowMany a_numbers) (mW ad cA a_all a_hasImage a_tape a_fresh v_taped v_at v_behind v_size v_kind v_number v_wrong v_wrongAt v_depth v_steps v_faultKind v_faultPlace a_on a_many v_moved a_pile v_aside v_judgedBy v_judgedYear a_leastCost a_matched a_order a_lies a_movedThen a_yearTable a_yearMark a_beginTable a_beginMark v_statesTold v_found v_yearFrom v_mark v_beginsMark v_begins a_began v_isSpent a_wants a_rowSort a_rowMany a_numbers) (some (.int (b2i res))) := by
  refine MM.ofZ (by decide) (Nat.le_of_ble_eq_true rfl) ?_
  intro p e s m args below meth c Q A hX hK hE0 hret H locs ls hH hl
  have hX : CallFix p m c cX8_isStone 2 s args lw_all RX8 := hX
  have hx := hX.1
  have hb := hX.2.1
  have hown := hX.2.2.2.1
  have hts := hX.2.2.2.2
  have hl : lv_has ls 2 [(0, .ref (ad 0)), (1, .int p1)] := hl
  have hEv := hE.1
  delta FX8_isStone at hF
  refine lv_iload_n hx hb dX8_isStone_0 rfl (lv_at hl 1 rfl) ?_
  refine lv_i2l (v := (Int32.toInt64 p1)) hx hb dX8_isStone_1 rfl ?_
  refine lv_lconst (v := 0) hx hb dX8_isStone_2 rfl ?_
  refine lv_aload_n hx hb dX8_isStone_3 rfl (lv_at hl 0 rfl) ?_
  refine mg_all hX hK hH dX8_isStone_4 ?_
  refine lv_bipush (v := 6) hx hb dX8_isStone_7 syb_6 ?_
  obtain ⟨x_46, he, hF⟩ := bd1e hF
  refine ml_all hX hK hH he dX8_isStone_9 ?_
  refine lv_iconst (v := 1) hx hb dX8_isStone_10 syi_1 ?_
  refine lv_isub hx hb dX8_isStone_11 ?_
  refine lv_i2l (v := (Int32.toInt64 (x_46 - 1))) hx hb dX8_isStone_12 rfl ?_
  obtain ⟨b_47, he, hF⟩ := bd1e hF
  refine mcS hX hK hEv hE0 hH (met_X8_within hE he) gw_StoneYearModel_153 hd_yX8_within ⟨Nat.le_of_ble_eq_true rfl, Nat.le_of_ble_eq_true rfl⟩ rfl rfl hl (Nat.le_of_ble_eq_true rfl) dX8_isStone_13 ⟨Nat.le_of_ble_eq_true rfl, Nat.le_of_ble_eq_true rfl⟩ (fun H locs hH => ?_)
  obtain rfl := Option.some.inj hF
  exact hret _ _ _ _ hH dX8_isStone_16
abbrev rm_X8_placeOf : Room := { frames := 0, cells := 0, slots := 0, locals := 0 }
set_option maxHeartbeats 4000000 in
theorem met_X8_placeOf {l : Launch} {D : va_G} {ad : Nat → Nat} {cA : Nat → ClassId} {a_all : Nat → Int32} {a_hasImage : Nat → Int32} {a_tape : Nat → Int32} {a_fresh : Nat → Int32} {v_taped : Int32} {v_at : Int32} {v_behind : Int32} {v_size : Int32} {v_kind : Int32} {v_number : Int32} {v_wrong : Int32} {v_wrongAt : Int32} {v_depth : Int32} {v_steps : Int32} {v_faultKind : Int32} {v_faultPlace : Int32} {a_on : Nat → Int32} {a_many : Nat → Int32} {v_moved : Int32} {a_pile : Nat → Int32} {v_aside : Int32} {v_judgedBy : Int32} {v_judgedYear : Int32} {a_leastCost : Nat → Int32} {a_matched : Nat → Int32} {a_order : Nat → Int32} {a_lies : Nat → Int64} {a_movedThen : Nat → Int32} {a_yearTable : Nat → Int32} {a_yearMark : Nat → Int32} {a_beginTable : Nat → Int32} {a_beginMark : Nat → Int32} {v_statesTold : Int32} {v_found : Int32} {v_yearFrom : Int32} {v_mark : Int32} {v_beginsMark : Int32} {v_begins : Int32} {a_began : Nat → Int64} {v_isSpent : Int32} {a_wants : Nat → Int32} {a_rowSort : Nat → Int32} {a_rowMany : Nat → Int32} {a_numbers : Nat → Int64}  {p1 : Int32} {res : Int32} {ak av fo : Nat} {E : EvT} (hE : EvM E ak av fo) (hF : FX8_placeOf a_all p1 = some res) : MM l yX8_placeOf (ws_ yX8_placeOf cX8_placeOf 3 (Option.some Jvm.ClassFile.FieldType.int)) rm_X8_placeOf D vwA (mT cA) E [.ref (ad 0), .int p1] (mW ad cA a_all a_hasImage a_tape a_fresh v_taped v_at v_behind v_size v_kind v_number v_wrong v_wrongAt v_depth v_steps v_faultKind v_faultPlace a_on a_many v_moved a_pile v_aside v_judgedBy v_judgedYear a_leastCost a_matched a_order a_lies a_movedThen a_yearTable a_yearMark a_beginTable a_beginMark v_statesTold v_found v_yearFrom v_mark v_beginsMark v_begins a_began v_isSpent a_wants a_rowSort a_rowMany a_numbers) (mW ad cA a_all a_hasImage a_tape a_fresh v_taped v_at v_behind v_size v_kind v_number v_wrong v_wrongAt v_depth v_steps v_faultKind v_faultPlace a_on a_many v_moved a_pile v_aside v_judgedBy v_judgedYear a_leastCost a_matched a_order a_lies a_movedThen a_yearTable a_yearMark a_beginTable a_beginMark v_statesTold v_found v_yearFrom v_mark v_beginsMark v_begins a_began v_isSpent a_wants a_rowSort a_rowMany a_numbers) (some (.int res)) := by
  refine MM.ofI (by decide) (Nat.le_of_ble_eq_true rfl) ?_
  intro p e s m args below meth c Q A hX hK hE0 hret H locs ls hH hl
  have hX : CallFix p m c cX8_placeOf 3 s args lw_all RX8 := hX
  have hx := hX.1
  have hb := hX.2.1
  have hown := hX.2.2.2.1
  have hts := hX.2.2.2.2
  have hl : lv_has ls 3 [(0, .ref (ad 0)), (1, .int p1)] := hl
  have hEv := hE.1
  delta FX8_placeOf at hF
  refine lv_iconst (v := 0) hx hb dX8_placeOf_0 syi_0 ?_
  refine lv_istore_n (lv' := [(2, .int 0), (0, .ref (ad 0)), (1, .int p1)]) hx hb dX8_placeOf_1 rfl hl (by decide) rfl (fun ls hl => ?_)
  obtain ⟨xx2, ee2, kk2_0, kk2_1⟩ := bdS2e hF
  have k2_0 : ∀ (x_53 : Int32), xx2 = (.inl x_53) → ∀ (H : Heap) (locs : List Loc) (ls : Array Slot), MH D vwA A s.heap (mW ad cA a_all a_hasImage a_tape a_fresh v_taped v_at v_behind v_size v_kind v_number v_wrong v_wrongAt v_depth v_steps v_faultKind v_faultPlace a_on a_many v_moved a_pile v_aside v_judgedBy v_judgedYear a_leastCost a_matched a_order a_lies a_movedThen a_yearTable a_yearMark a_beginTable a_beginMark v_statesTold v_found v_yearFrom v_mark v_beginsMark v_begins a_began v_isSpent a_wants a_rowSort a_rowMany a_numbers) H locs → lv_has ls 3 [(2, .int x_53)] → W p l e rm_X8_placeOf s m args below meth c H locs 0 0 Q (F0 m 23 ls []) := by
    intro x_53 hxx H locs ls hH hl
    have hF := un1e (kk2_0 x_53 hxx)
    refine lv_iload_n hx hb dX8_placeOf_23 rfl (lv_at hl 0 rfl) ?_
    obtain rfl := Option.some.inj hF
    exact hret _ _ _ _ hH dX8_placeOf_24
  have k2_1 : xx2 = (.inr ()) → ∀ (H : Heap) (locs : List Loc) (ls : Array Slot), MH D vwA A s.heap (mW ad cA a_all a_hasImage a_tape a_fresh v_taped v_at v_behind v_size v_kind v_number v_wrong v_wrongAt v_depth v_steps v_faultKind v_faultPlace a_on a_many v_moved a_pile v_aside v_judgedBy v_judgedYear a_leastCost a_matched a_order a_lies a_movedThen a_yearTable a_yearMark a_beginTable a_beginMark v_statesTold v_found v_yearFrom v_mark v_beginsMark v_begins a_began v_isSpent a_wants a_rowSort a_rowMany a_numbers) H locs → lv_has ls 3 [] → W p l e rm_X8_placeOf s m args below meth c H locs 0 0 Q (F0 m 31 ls []) := by
    intro hxx H locs ls hH hl
    have hF := un0e (kk2_1 () hxx)
    refine lv_iconst (v := (-1)) hx hb dX8_placeOf_31 syi_m1 ?_
    obtain rfl := Option.some.inj hF
    exact hret _ _ _ _ hH dX8_placeOf_32
  obtain ⟨nn2, en2⟩ := loopC_some ee2
  have l2 : ∀ (n : Nat) (x_49 : Int32), loopN (fun s => FX8_placeOf_b2 a_all p1 s) n x_49 = some xx2 → ∀ (H : Heap) (locs : List Loc) (ls : Array Slot), MH D vwA A s.heap (mW ad cA a_all a_hasImage a_tape a_fresh v_taped v_at v_behind v_size v_kind v_number v_wrong v_wrongAt v_depth v_steps v_faultKind v_faultPlace a_on a_many v_moved a_pile v_aside v_judgedBy v_judgedYear a_leastCost a_matched a_order a_lies a_movedThen a_yearTable a_yearMark a_beginTable a_beginMark v_statesTold v_found v_yearFrom v_mark v_beginsMark v_begins a_began v_isSpent a_wants a_rowSort a_rowMany a_numbers) H locs → lv_has ls 3 [(0, .ref (ad 0)), (1, .int p1), (2, .int x_49)] → W p l e rm_X8_placeOf s m args below meth c H locs 0 0 Q (F0 m 2 ls []) := by
    intro n
    induction n with
    | zero =>
      intro x_49 hN
      exact absurd hN loopN_zero
    | succ n ih =>
      intro x_49 hN H locs ls hH hl
      obtain ⟨yy2, hB2, hY2⟩ := loopN_succ hN
      have hF : FX8_placeOf_b2 a_all p1 x_49 = some yy2 := hB2
      delta FX8_placeOf_b2 at hF
      refine lv_iload_n hx hb dX8_placeOf_2 rfl (lv_at hl 2 rfl) ?_
      refine lv_bipush (v := 15) hx hb dX8_placeOf_3 syb_15 ?_
      refine lv_icmp_ge (tgt := 31) hx hb dX8_placeOf_5 rfl (fun c_50 => ?_) (fun c_50 => ?_)
      · have hF := itp c_50 hF
        obtain rfl := Option.some.inj hF
        exact k2_1 hY2 _ _ _ hH (lv_sub hl [] rfl)
      · have hF := itn c_50 hF
        refine lv_aload_n hx hb dX8_placeOf_8 rfl (lv_at hl 0 rfl) ?_
        refine mg_all hX hK hH dX8_placeOf_9 ?_
        refine lv_bipush (v := 80) hx hb dX8_placeOf_12 syb_80 ?_
        refine lv_iload_n hx hb dX8_placeOf_14 rfl (lv_at hl 2 rfl) ?_
        refine lv_iadd hx hb dX8_placeOf_15 ?_
        obtain ⟨x_51, he, hF⟩ := bd1e hF
        refine ml_all hX hK hH he dX8_placeOf_16 ?_
        refine lv_iload_n hx hb dX8_placeOf_17 rfl (lv_at hl 1 rfl) ?_
        refine lv_iconst (v := 1) hx hb dX8_placeOf_18 syi_1 ?_
        refine lv_iadd hx hb dX8_placeOf_19 ?_
        refine lv_icmp_ne (tgt := 25) hx hb dX8_placeOf_20 rfl (fun c_52 => ?_) (fun c_52 => ?_)
        · have hF := itn c_52 hF
          refine lv_iinc (v := (x_49 + 1)) (lv' := [(2, .int (x_49 + 1)), (0, .ref (ad 0)), (1, .int p1)]) hx hb dX8_placeOf_25 hl (k := 2) rfl (syc syi_1) (by decide) rfl (fun ls hl => ?_)
          refine lv_goto (tgt := 2) hx hb dX8_placeOf_28 rfl ?_
          obtain rfl := Option.some.inj hF
          exact ih (x_49 + 1) hY2 _ _ _ hH (lv_sub hl [1, 2, 0] rfl)
        · have hF := itp c_52 hF
          obtain rfl := Option.some.inj hF
          exact k2_0 x_49 hY2 _ _ _ hH (lv_sub hl [2] rfl)
  exact l2 nn2 0 en2 _ _ _ hH (lv_sub hl [1, 2, 0] rfl)
abbrev rm_X8_stone : Room := { frames := 2, cells := 0, slots := 0, locals := 46 }
set_option maxHeartbeats 4000000 in
theorem met_X8_stone {l : Launch} {D : va_G} {ad : Nat → Nat} {cA : Nat → ClassId} {a_all : Nat → Int32} {a_hasImage : Nat → Int32} {a_tape : Nat → Int32} {a_fresh : Nat → Int32} {v_taped : Int32} {v_at : Int32} {v_behind : Int32} {v_size : Int32} {v_kind : Int32} {v_number : Int32} {v_wrong : Int32} {v_wrongAt : Int32} {v_depth : Int32} {v_steps : Int32} {v_faultKind : Int32} {v_faultPlace : Int32} {a_on : Nat → Int32} {a_many : Nat → Int32} {v_moved : Int32} {a_pile : Nat → Int32} {v_aside : Int32} {v_judgedBy : Int32} {v_judgedYear : Int32} {a_leastCost : Nat → Int32} {a_matched : Nat → Int32} {a_order : Nat → Int32} {a_lies : Nat → Int64} {a_movedThen : Nat → Int32} {a_yearTable : Nat → Int32} {a_yearMark : Nat → Int32} {a_beginTable : Nat → Int32} {a_beginMark : Nat → Int32} {v_statesTold : Int32} {v_found : Int32} {v_yearFrom : Int32} {v_mark : Int32} {v_beginsMark : Int32} {v_begins : Int32} {a_began : Nat → Int64} {v_isSpent : Int32} {a_wants : Nat → Int32} {a_rowSort : Nat → Int32} {a_rowMany : Nat → Int32} {a_numbers : Nat → Int64}  {p1 : Int32} {p2 : Int32} {res : Int32} {ak av fo : Nat} {E : EvT} (hE : EvM E ak av fo) (hF : FX8_stone a_all p1 p2 = some res) : MM l yX8_stone (ws_ yX8_stone cX8_stone 3 (Option.some Jvm.ClassFile.FieldType.int)) rm_X8_stone D vwA (mT cA) E [.ref (ad 0), .int p1, .int p2] (mW ad cA a_all a_hasImage a_tape a_fresh v_taped v_at v_behind v_size v_kind v_number v_wrong v_wrongAt v_depth v_steps v_faultKind v_faultPlace a_on a_many v_moved a_pile v_aside v_judgedBy v_judgedYear a_leastCost a_matched a_order a_lies a_movedThen a_yearTable a_yearMark a_beginTable a_beginMark v_statesTold v_found v_yearFrom v_mark v_beginsMark v_begins a_began v_isSpent a_wants a_rowSort a_rowMany a_numbers) (mW ad cA a_all a_hasImage a_tape a_fresh v_taped v_at v_behind v_size v_kind v_number v_wrong v_wrongAt v_depth v_steps v_faultKind v_faultPlace a_on a_many v_moved a_pile v_aside v_judgedBy v_judgedYear a_leastCost a_matched a_order a_lies a_movedThen a_yearTable a_yearMark a_beginTable a_beginMark v_statesTold v_found v_yearFrom v_mark v_beginsMark v_begins a_began v_isSpent a_wants a_rowSort a_rowMany a_numbers) (some (.int res)) := by
  refine MM.ofI (by decide) (Nat.le_of_ble_eq_true rfl) ?_
  intro p e s m args below meth c Q A hX hK hE0 hret H locs ls hH hl
  have hX : CallFix p m c cX8_stone 3 s args lw_all RX8 := hX
  have hx := hX.1
  have hb := hX.2.1
  have hown := hX.2.2.2.1
  have hts := hX.2.2.2.2
  have hl : lv_has ls 3 [(0, .ref (ad 0)), (1, .int p1), (2, .int p2)] := hl
  have hEv := hE.1
  delta FX8_stone at hF
  refine lv_aload_n hx hb dX8_stone_0 rfl (lv_at hl 0 rfl) ?_
  refine lv_iconst (v := 0) hx hb dX8_stone_1 syi_0 ?_
  refine mp_thrown hX hK hH dX8_stone_2 (fun H locs hH => ?_)
  refine lv_aload_n hx hb dX8_stone_5 rfl (lv_at hl 0 rfl) ?_
  refine lv_iload_n hx hb dX8_stone_6 rfl (lv_at hl 1 rfl) ?_
  obtain ⟨b_47, he, hF⟩ := bd1e hF
  refine mcV hX hK hEv hE0 hH (met_X8_isStone hE he) (mrecv hK hH) gw_StoneYearModel_250 hd_yX8_isStone ⟨Nat.le_of_ble_eq_true rfl, Nat.le_of_ble_eq_true rfl⟩ rfl rfl hl (Nat.le_of_ble_eq_true rfl) dX8_stone_7 ⟨Nat.le_of_ble_eq_true rfl, Nat.le_of_ble_eq_true rfl⟩ (fun H locs hH => ?_)
  refine lv_if_eq (tgt := 25) hx hb dX8_stone_10 rfl (fun c_48 => ?_) (fun c_48 => ?_)
  · have hF := itp c_48 hF
    refine lv_bipush (v := (-2)) hx hb dX8_stone_25 syb_m2 ?_
    obtain rfl := Option.some.inj hF
    exact hret _ _ _ _ hH dX8_stone_27
  · have hF := itn c_48 hF
    refine lv_iload_n hx hb dX8_stone_13 rfl (lv_at hl 2 rfl) ?_
    refine lv_i2l (v := (Int32.toInt64 p2)) hx hb dX8_stone_14 rfl ?_
    refine lv_lconst (v := 0) hx hb dX8_stone_15 rfl ?_
    refine lv_ldc2 (v := 6) hx hb hown (hts _ q1874) dX8_stone_16 ?_
    obtain ⟨b_49, he, hF⟩ := bd1e hF
    refine mcS hX hK hEv hE0 hH (met_X8_within hE he) gw_StoneYearModel_153 hd_yX8_within ⟨Nat.le_of_ble_eq_true rfl, Nat.le_of_ble_eq_true rfl⟩ rfl rfl hl (Nat.le_of_ble_eq_true rfl) dX8_stone_19 ⟨Nat.le_of_ble_eq_true rfl, Nat.le_of_ble_eq_true rfl⟩ (fun H locs hH => ?_)
    refine lv_if_ne (tgt := 28) hx hb dX8_stone_22 rfl (fun c_50 => ?_) (fun c_50 => ?_)
    · have hF := itn c_50 hF
      refine lv_iload_n hx hb dX8_stone_28 rfl (lv_at hl 2 rfl) ?_
      by_cases c_51_0 : p2 = 0
      · have hF := itp c_51_0 hF
        refine lv_tableIn (tgt := 68) hx hb dX8_stone_29 (by rw [c_51_0]; decide) (by rw [c_51_0]; decide) (by rw [c_51_0]; rfl) rfl ?_
        refine lv_aload_n hx hb dX8_stone_68 rfl (lv_at hl 0 rfl) ?_
        refine mg_all hX hK hH dX8_stone_69 ?_
        refine lv_bipush (v := 7) hx hb dX8_stone_72 syb_7 ?_
        refine lv_iload_n hx hb dX8_stone_74 rfl (lv_at hl 1 rfl) ?_
        refine lv_iadd hx hb dX8_stone_75 ?_
        obtain ⟨x_58, he, hF⟩ := bd1e hF
        refine ml_all hX hK hH he dX8_stone_76 ?_
        obtain rfl := Option.some.inj hF
        exact hret _ _ _ _ hH dX8_stone_77
      · have hF := itn c_51_0 hF
        by_cases c_51_1 : p2 = 1
        · have hF := itp c_51_1 hF
          refine lv_tableIn (tgt := 78) hx hb dX8_stone_29 (by rw [c_51_1]; decide) (by rw [c_51_1]; decide) (by rw [c_51_1]; rfl) rfl ?_
          refine lv_aload_n hx hb dX8_stone_78 rfl (lv_at hl 0 rfl) ?_
          refine mg_all hX hK hH dX8_stone_79 ?_
          refine lv_bipush (v := 15) hx hb dX8_stone_82 syb_15 ?_
          refine lv_iload_n hx hb dX8_stone_84 rfl (lv_at hl 1 rfl) ?_
          refine lv_iadd hx hb dX8_stone_85 ?_
          obtain ⟨x_57, he, hF⟩ := bd1e hF
          refine ml_all hX hK hH he dX8_stone_86 ?_
          obtain rfl := Option.some.inj hF
          exact hret _ _ _ _ hH dX8_stone_87
        · have hF := itn c_51_1 hF
          by_cases c_51_2 : p2 = 2
          · have hF := itp c_51_2 hF
            refine lv_tableIn (tgt := 88) hx hb dX8_stone_29 (by rw [c_51_2]; decide) (by rw [c_51_2]; decide) (by rw [c_51_2]; rfl) rfl ?_
            refine lv_aload_n hx hb dX8_stone_88 rfl (lv_at hl 0 rfl) ?_
            refine mg_all hX hK hH dX8_stone_89 ?_
            refine lv_bipush (v := 23) hx hb dX8_stone_92 syb_23 ?_
            refine lv_iload_n hx hb dX8_stone_94 rfl (lv_at hl 1 rfl) ?_
            refine lv_iadd hx hb dX8_stone_95 ?_
            obtain ⟨x_56, he, hF⟩ := bd1e hF
            refine ml_all hX hK hH he dX8_stone_96 ?_
            obtain rfl := Option.some.inj hF
            exact hret _ _ _ _ hH dX8_stone_97
          · have hF := itn c_51_2 hF
            by_cases c_51_3 : p2 = 3
            · have hF := itp c_51_3 hF
              refine lv_tableIn (tgt := 98) hx hb dX8_stone_29 (by rw [c_51_3]; decide) (by rw [c_51_3]; decide) (by rw [c_51_3]; rfl) rfl ?_
              refine lv_aload_n hx hb dX8_stone_98 rfl (lv_at hl 0 rfl) ?_
              refine lv_iload_n hx hb dX8_stone_99 rfl (lv_at hl 1 rfl) ?_
              obtain ⟨x_55, he, hF⟩ := bd1e hF
              refine mcV hX hK hEv hE0 hH (met_X8_placeOf hE he) (mrecv hK hH) gw_StoneYearModel_255 hd_yX8_placeOf ⟨Nat.le_of_ble_eq_true rfl, Nat.le_of_ble_eq_true rfl⟩ rfl rfl hl (Nat.le_of_ble_eq_true rfl) dX8_stone_100 ⟨Nat.le_of_ble_eq_true rfl, Nat.le_of_ble_eq_true rfl⟩ (fun H locs hH => ?_)
              obtain rfl := Option.some.inj hF
              exact hret _ _ _ _ hH dX8_stone_103
            · have hF := itn c_51_3 hF
              by_cases c_51_4 : p2 = 4
              · have hF := itp c_51_4 hF
                refine lv_tableIn (tgt := 104) hx hb dX8_stone_29 (by rw [c_51_4]; decide) (by rw [c_51_4]; decide) (by rw [c_51_4]; rfl) rfl ?_
                refine lv_aload_n hx hb dX8_stone_104 rfl (lv_at hl 0 rfl) ?_
                refine mg_all hX hK hH dX8_stone_105 ?_
                refine lv_bipush (v := 95) hx hb dX8_stone_108 syb_95 ?_
                obtain ⟨x_54, he, hF⟩ := bd1e hF
                refine ml_all hX hK hH he dX8_stone_110 ?_
                refine lv_iload_n hx hb dX8_stone_111 rfl (lv_at hl 1 rfl) ?_
                refine lv_ishr hx hb dX8_stone_112 ?_
                refine lv_iconst (v := 1) hx hb dX8_stone_113 syi_1 ?_
                refine lv_iand hx hb dX8_stone_114 ?_
                obtain rfl := Option.some.inj hF
                exact hret _ _ _ _ hH dX8_stone_115
              · have hF := itn c_51_4 hF
                by_cases c_51_5 : p2 = 5
                · have hF := itp c_51_5 hF
                  refine lv_tableIn (tgt := 116) hx hb dX8_stone_29 (by rw [c_51_5]; decide) (by rw [c_51_5]; decide) (by rw [c_51_5]; rfl) rfl ?_
                  refine lv_aload_n hx hb dX8_stone_116 rfl (lv_at hl 0 rfl) ?_
                  refine mg_all hX hK hH dX8_stone_117 ?_
                  refine lv_bipush (v := 96) hx hb dX8_stone_120 syb_96 ?_
                  refine lv_iload_n hx hb dX8_stone_122 rfl (lv_at hl 1 rfl) ?_
                  refine lv_iadd hx hb dX8_stone_123 ?_
                  obtain ⟨x_53, he, hF⟩ := bd1e hF
                  refine ml_all hX hK hH he dX8_stone_124 ?_
                  obtain rfl := Option.some.inj hF
                  exact hret _ _ _ _ hH dX8_stone_125
                · have hF := itn c_51_5 hF
                  have tc_51_0 := lv_neT (a := 0) c_51_0 (by decide)
                  have tc_51_1 := lv_neT (a := 1) c_51_1 (by decide)
                  have tc_51_2 := lv_neT (a := 2) c_51_2 (by decide)
                  have tc_51_3 := lv_neT (a := 3) c_51_3 (by decide)
                  have tc_51_4 := lv_neT (a := 4) c_51_4 (by decide)
                  have tc_51_5 := lv_neT (a := 5) c_51_5 (by decide)
                  refine lv_tableOut (tgt := 126) hx hb dX8_stone_29 (by omega) rfl ?_
                  refine lv_aload_n hx hb dX8_stone_126 rfl (lv_at hl 0 rfl) ?_
                  refine mg_all hX hK hH dX8_stone_127 ?_
                  refine lv_bipush (v := 104) hx hb dX8_stone_130 syb_104 ?_
                  refine lv_iload_n hx hb dX8_stone_132 rfl (lv_at hl 1 rfl) ?_
                  refine lv_iadd hx hb dX8_stone_133 ?_
                  obtain ⟨x_52, he, hF⟩ := bd1e hF
                  refine ml_all hX hK hH he dX8_stone_134 ?_
                  obtain rfl := Option.some.inj hF
                  exact hret _ _ _ _ hH dX8_stone_135
    · have hF := itp c_50 hF
      refine lv_bipush (v := (-2)) hx hb dX8_stone_25 syb_m2 ?_
      obtain rfl := Option.some.inj hF
      exact hret _ _ _ _ hH dX8_stone_27
abbrev rm_X8_lies : Room := { frames := 1, cells := 0, slots := 0, locals := 25 }
set_option maxHeartbeats 4000000 in
theorem met_X8_lies {l : Launch} {D : va_G} {ad : Nat → Nat} {cA : Nat → ClassId} {a_all : Nat → Int32} {a_hasImage : Nat → Int32} {a_tape : Nat → Int32} {a_fresh : Nat → Int32} {v_taped : Int32} {v_at : Int32} {v_behind : Int32} {v_size : Int32} {v_kind : Int32} {v_number : Int32} {v_wrong : Int32} {v_wrongAt : Int32} {v_depth : Int32} {v_steps : Int32} {v_faultKind : Int32} {v_faultPlace : Int32} {a_on : Nat → Int32} {a_many : Nat → Int32} {v_moved : Int32} {a_pile : Nat → Int32} {v_aside : Int32} {v_judgedBy : Int32} {v_judgedYear : Int32} {a_leastCost : Nat → Int32} {a_matched : Nat → Int32} {a_order : Nat → Int32} {a_lies : Nat → Int64} {a_movedThen : Nat → Int32} {a_yearTable : Nat → Int32} {a_yearMark : Nat → Int32} {a_beginTable : Nat → Int32} {a_beginMark : Nat → Int32} {v_statesTold : Int32} {v_found : Int32} {v_yearFrom : Int32} {v_mark : Int32} {v_beginsMark : Int32} {v_begins : Int32} {a_began : Nat → Int64} {v_isSpent : Int32} {a_wants : Nat → Int32} {a_rowSort : Nat → Int32} {a_rowMany : Nat → Int32} {a_numbers : Nat → Int64}  {p1 : Int32} {res : Int32} {ak av fo : Nat} {E : EvT} (hE : EvM E ak av fo) (hF : FX8_lies a_all p1 = some res) : MM l yX8_lies (ws_ yX8_lies cX8_lies 2 (Option.some Jvm.ClassFile.FieldType.int)) rm_X8_lies D vwA (mT cA) E [.ref (ad 0), .int p1] (mW ad cA a_all a_hasImage a_tape a_fresh v_taped v_at v_behind v_size v_kind v_number v_wrong v_wrongAt v_depth v_steps v_faultKind v_faultPlace a_on a_many v_moved a_pile v_aside v_judgedBy v_judgedYear a_leastCost a_matched a_order a_lies a_movedThen a_yearTable a_yearMark a_beginTable a_beginMark v_statesTold v_found v_yearFrom v_mark v_beginsMark v_begins a_began v_isSpent a_wants a_rowSort a_rowMany a_numbers) (mW ad cA a_all a_hasImage a_tape a_fresh v_taped v_at v_behind v_size v_kind v_number v_wrong v_wrongAt v_depth v_steps v_faultKind v_faultPlace a_on a_many v_moved a_pile v_aside v_judgedBy v_judgedYear a_leastCost a_matched a_order a_lies a_movedThen a_yearTable a_yearMark a_beginTable a_beginMark v_statesTold v_found v_yearFrom v_mark v_beginsMark v_begins a_began v_isSpent a_wants a_rowSort a_rowMany a_numbers) (some (.int res)) := by
  refine MM.ofI (by decide) (Nat.le_of_ble_eq_true rfl) ?_
  intro p e s m args below meth c Q A hX hK hE0 hret H locs ls hH hl
  have hX : CallFix p m c cX8_lies 2 s args lw_all RX8 := hX
  have hx := hX.1
  have hb := hX.2.1
  have hown := hX.2.2.2.1
  have hts := hX.2.2.2.2
  have hl : lv_has ls 2 [(0, .ref (ad 0)), (1, .int p1)] := hl
  have hEv := hE.1
  delta FX8_lies at hF
  refine lv_aload_n hx hb dX8_lies_0 rfl (lv_at hl 0 rfl) ?_
  refine lv_iconst (v := 0) hx hb dX8_lies_1 syi_0 ?_
  refine mp_thrown hX hK hH dX8_lies_2 (fun H locs hH => ?_)
  refine lv_iload_n hx hb dX8_lies_5 rfl (lv_at hl 1 rfl) ?_
  refine lv_i2l (v := (Int32.toInt64 p1)) hx hb dX8_lies_6 rfl ?_
  refine lv_lconst (v := 0) hx hb dX8_lies_7 rfl ?_
  refine lv_ldc2 (v := 14) hx hb hown (hts _ q1883) dX8_lies_8 ?_
  obtain ⟨b_46, he, hF⟩ := bd1e hF
  refine mcS hX hK hEv hE0 hH (met_X8_within hE he) gw_StoneYearModel_153 hd_yX8_within ⟨Nat.le_of_ble_eq_true rfl, Nat.le_of_ble_eq_true rfl⟩ rfl rfl hl (Nat.le_of_ble_eq_true rfl) dX8_lies_11 ⟨Nat.le_of_ble_eq_true rfl, Nat.le_of_ble_eq_true rfl⟩ (fun H locs hH => ?_)
  refine lv_if_eq (tgt := 31) hx hb dX8_lies_14 rfl (fun c_47 => ?_) (fun c_47 => ?_)
  · have hF := itp c_47 hF
    refine lv_bipush (v := (-3)) hx hb dX8_lies_31 syb_m3 ?_
    obtain rfl := Option.some.inj hF
    exact hret _ _ _ _ hH dX8_lies_33
  · have hF := itn c_47 hF
    refine lv_aload_n hx hb dX8_lies_17 rfl (lv_at hl 0 rfl) ?_
    refine mg_all hX hK hH dX8_lies_18 ?_
    refine lv_bipush (v := 80) hx hb dX8_lies_21 syb_80 ?_
    refine lv_iload_n hx hb dX8_lies_23 rfl (lv_at hl 1 rfl) ?_
    refine lv_iadd hx hb dX8_lies_24 ?_
    obtain ⟨x_48, he, hF⟩ := bd1e hF
    refine ml_all hX hK hH he dX8_lies_25 ?_
    refine lv_iconst (v := 1) hx hb dX8_lies_26 syi_1 ?_
    refine lv_isub hx hb dX8_lies_27 ?_
    refine lv_goto (tgt := 33) hx hb dX8_lies_28 rfl ?_
    obtain rfl := Option.some.inj hF
    exact hret _ _ _ _ hH dX8_lies_33
abbrev rm_X8_isRow : Room := { frames := 1, cells := 0, slots := 0, locals := 25 }
set_option maxHeartbeats 4000000 in
theorem met_X8_isRow {l : Launch} {D : va_G} {ad : Nat → Nat} {cA : Nat → ClassId} {a_all : Nat → Int32} {a_hasImage : Nat → Int32} {a_tape : Nat → Int32} {a_fresh : Nat → Int32} {v_taped : Int32} {v_at : Int32} {v_behind : Int32} {v_size : Int32} {v_kind : Int32} {v_number : Int32} {v_wrong : Int32} {v_wrongAt : Int32} {v_depth : Int32} {v_steps : Int32} {v_faultKind : Int32} {v_faultPlace : Int32} {a_on : Nat → Int32} {a_many : Nat → Int32} {v_moved : Int32} {a_pile : Nat → Int32} {v_aside : Int32} {v_judgedBy : Int32} {v_judgedYear : Int32} {a_leastCost : Nat → Int32} {a_matched : Nat → Int32} {a_order : Nat → Int32} {a_lies : Nat → Int64} {a_movedThen : Nat → Int32} {a_yearTable : Nat → Int32} {a_yearMark : Nat → Int32} {a_beginTable : Nat → Int32} {a_beginMark : Nat → Int32} {v_statesTold : Int32} {v_found : Int32} {v_yearFrom : Int32} {v_mark : Int32} {v_beginsMark : Int32} {v_begins : Int32} {a_began : Nat → Int64} {v_isSpent : Int32} {a_wants : Nat → Int32} {a_rowSort : Nat → Int32} {a_rowMany : Nat → Int32} {a_numbers : Nat → Int64}  {p1 : Int32} {res : Bool} {ak av fo : Nat} {E : EvT} (hE : EvM E ak av fo) (hF : FX8_isRow a_all p1 = some res) : MM l yX8_isRow (ws_ yX8_isRow cX8_isRow 2 (Option.some Jvm.ClassFile.FieldType.boolean)) rm_X8_isRow D vwA (mT cA) E [.ref (ad 0), .int p1] (mW ad cA a_all a_hasImage a_tape a_fresh v_taped v_at v_behind v_size v_kind v_number v_wrong v_wrongAt v_depth v_steps v_faultKind v_faultPlace a_on a_many v_moved a_pile v_aside v_judgedBy v_judgedYear a_leastCost a_matched a_order a_lies a_movedThen a_yearTable a_yearMark a_beginTable a_beginMark v_statesTold v_found v_yearFrom v_mark v_beginsMark v_begins a_began v_isSpent a_wants a_rowSort a_rowMany a_numbers) (mW ad cA a_all a_hasImage a_tape a_fresh v_taped v_at v_behind v_size v_kind v_number v_wrong v_wrongAt v_depth v_steps v_faultKind v_faultPlace a_on a_many v_moved a_pile v_aside v_judgedBy v_judgedYear a_leastCost a_matched a_order a_lies a_movedThen a_yearTable a_yearMark a_beginTable a_beginMark v_statesTold v_found v_yearFrom v_mark v_beginsMark v_begins a_began v_isSpent a_wants a_rowSort a_rowMany a_numbers) (some (.int (b2i res))) := by
  refine MM.ofZ (by decide) (Nat.le_of_ble_eq_true rfl) ?_
  intro p e s m args below meth c Q A hX hK hE0 hret H locs ls hH hl
  have hX : CallFix p m c cX8_isRow 2 s args lw_all RX8 := hX
  have hx := hX.1
  have hb := hX.2.1
  have hown := hX.2.2.2.1
  have hts := hX.2.2.2.2
  have hl : lv_has ls 2 [(0, .ref (ad 0)), (1, .int p1)] := hl
  have hEv := hE.1
  delta FX8_isRow at hF
  refine lv_iload_n hx hb dX8_isRow_0 rfl (lv_at hl 1 rfl) ?_
  refine lv_i2l (v := (Int32.toInt64 p1)) hx hb dX8_isRow_1 rfl ?_
  refine lv_lconst (v := 0) hx hb dX8_isRow_2 rfl ?_
  refine lv_aload_n hx hb dX8_isRow_3 rfl (lv_at hl 0 rfl) ?_
  refine mg_all hX hK hH dX8_isRow_4 ?_
  refine lv_iconst (v := 0) hx hb dX8_isRow_7 syi_0 ?_
  obtain ⟨x_46, he, hF⟩ := bd1e hF
  refine ml_all hX hK hH he dX8_isRow_8 ?_
  refine lv_iconst (v := 1) hx hb dX8_isRow_9 syi_1 ?_
  refine lv_isub hx hb dX8_isRow_10 ?_
  refine lv_i2l (v := (Int32.toInt64 (x_46 - 1))) hx hb dX8_isRow_11 rfl ?_
  obtain ⟨b_47, he, hF⟩ := bd1e hF
  refine mcS hX hK hEv hE0 hH (met_X8_within hE he) gw_StoneYearModel_153 hd_yX8_within ⟨Nat.le_of_ble_eq_true rfl, Nat.le_of_ble_eq_true rfl⟩ rfl rfl hl (Nat.le_of_ble_eq_true rfl) dX8_isRow_12 ⟨Nat.le_of_ble_eq_true rfl, Nat.le_of_ble_eq_true rfl⟩ (fun H locs hH => ?_)
  obtain rfl := Option.some.inj hF
  exact hret _ _ _ _ hH dX8_isRow_15
abbrev rm_X8_counts : Room := { frames := 0, cells := 0, slots := 0, locals := 0 }
set_option maxHeartbeats 4000000 in
theorem met_X8_counts {l : Launch} {D : va_G} {ad : Nat → Nat} {cA : Nat → ClassId} {a_all : Nat → Int32} {a_hasImage : Nat → Int32} {a_tape : Nat → Int32} {a_fresh : Nat → Int32} {v_taped : Int32} {v_at : Int32} {v_behind : Int32} {v_size : Int32} {v_kind : Int32} {v_number : Int32} {v_wrong : Int32} {v_wrongAt : Int32} {v_depth : Int32} {v_steps : Int32} {v_faultKind : Int32} {v_faultPlace : Int32} {a_on : Nat → Int32} {a_many : Nat → Int32} {v_moved : Int32} {a_pile : Nat → Int32} {v_aside : Int32} {v_judgedBy : Int32} {v_judgedYear : Int32} {a_leastCost : Nat → Int32} {a_matched : Nat → Int32} {a_order : Nat → Int32} {a_lies : Nat → Int64} {a_movedThen : Nat → Int32} {a_yearTable : Nat → Int32} {a_yearMark : Nat → Int32} {a_beginTable : Nat → Int32} {a_beginMark : Nat → Int32} {v_statesTold : Int32} {v_found : Int32} {v_yearFrom : Int32} {v_mark : Int32} {v_beginsMark : Int32} {v_begins : Int32} {a_began : Nat → Int64} {v_isSpent : Int32} {a_wants : Nat → Int32} {a_rowSort : Nat → Int32} {a_rowMany : Nat → Int32} {a_numbers : Nat → Int64}   {ra_many : Nat → Int32} {ak av fo : Nat} {E : EvT} (hE : EvM E ak av fo) (hF : FX8_counts a_on a_many = some ra_many) : MM l yX8_counts (ws_ yX8_counts cX8_counts 3 (Option.none : Option Jvm.ClassFile.FieldType)) rm_X8_counts D vwA (mT cA) E [.ref (ad 0)] (mW ad cA a_all a_hasImage a_tape a_fresh v_taped v_at v_behind v_size v_kind v_number v_wrong v_wrongAt v_depth v_steps v_faultKind v_faultPlace a_on a_many v_moved a_pile v_aside v_judgedBy v_judgedYear a_leastCost a_matched a_order a_lies a_movedThen a_yearTable a_yearMark a_beginTable a_beginMark v_statesTold v_found v_yearFrom v_mark v_beginsMark v_begins a_began v_isSpent a_wants a_rowSort a_rowMany a_numbers) (mW ad cA a_all a_hasImage a_tape a_fresh v_taped v_at v_behind v_size v_kind v_number v_wrong v_wrongAt v_depth v_steps v_faultKind v_faultPlace a_on ra_many v_moved a_pile v_aside v_judgedBy v_judgedYear a_leastCost a_matched a_order a_lies a_movedThen a_yearTable a_yearMark a_beginTable a_beginMark v_statesTold v_found v_yearFrom v_mark v_beginsMark v_begins a_began v_isSpent a_wants a_rowSort a_rowMany a_numbers) none := by
  refine MM.ofV (by decide) (Nat.le_of_ble_eq_true rfl) ?_
  intro p e s m args below meth c Q A hX hK hE0 hret H locs ls hH hl
  have hX : CallFix p m c cX8_counts 3 s args lw_all RX8 := hX
  have hx := hX.1
  have hb := hX.2.1
  have hown := hX.2.2.2.1
  have hts := hX.2.2.2.2
  have hl : lv_has ls 3 [(0, .ref (ad 0))] := hl
  have hEv := hE.1
  delta FX8_counts at hF
  refine lv_iconst (v := 0) hx hb dX8_counts_0 syi_0 ?_
  refine lv_istore_n (lv' := [(1, .int 0), (0, .ref (ad 0))]) hx hb dX8_counts_1 rfl hl (by decide) rfl (fun ls hl => ?_)
  obtain ⟨xx2, ee2, kk2_0⟩ := bd1L hF
  have k2_0 : ∀ (a_many_81 : Nat → Int32), xx2 = a_many_81 → ∀ (H : Heap) (locs : List Loc) (ls : Array Slot), MH D vwA A s.heap (mW ad cA a_all a_hasImage a_tape a_fresh v_taped v_at v_behind v_size v_kind v_number v_wrong v_wrongAt v_depth v_steps v_faultKind v_faultPlace a_on a_many_81 v_moved a_pile v_aside v_judgedBy v_judgedYear a_leastCost a_matched a_order a_lies a_movedThen a_yearTable a_yearMark a_beginTable a_beginMark v_statesTold v_found v_yearFrom v_mark v_beginsMark v_begins a_began v_isSpent a_wants a_rowSort a_rowMany a_numbers) H locs → lv_has ls 3 [] → W p l e rm_X8_counts s m args below meth c H locs 0 0 Q (F0 m 60 ls []) := by
    intro a_many_81 hxx H locs ls hH hl
    have hF := un1e (kk2_0 a_many_81 hxx)
    obtain rfl := Option.some.inj hF
    exact hret _ _ _ _ hH dX8_counts_60
  obtain ⟨nn2, en2⟩ := loopC_some ee2
  have l2 : ∀ (n : Nat) (x_62 : Int32) (a_many_63 : Nat → Int32), loopN (fun s => FX8_counts_b2 a_on s.1 s.2) n (x_62, a_many_63) = some xx2 → ∀ (H : Heap) (locs : List Loc) (ls : Array Slot), MH D vwA A s.heap (mW ad cA a_all a_hasImage a_tape a_fresh v_taped v_at v_behind v_size v_kind v_number v_wrong v_wrongAt v_depth v_steps v_faultKind v_faultPlace a_on a_many_63 v_moved a_pile v_aside v_judgedBy v_judgedYear a_leastCost a_matched a_order a_lies a_movedThen a_yearTable a_yearMark a_beginTable a_beginMark v_statesTold v_found v_yearFrom v_mark v_beginsMark v_begins a_began v_isSpent a_wants a_rowSort a_rowMany a_numbers) H locs → lv_has ls 3 [(0, .ref (ad 0)), (1, .int x_62)] → W p l e rm_X8_counts s m args below meth c H locs 0 0 Q (F0 m 2 ls []) := by
    intro n
    induction n with
    | zero =>
      intro x_62 a_many_63 hN
      exact absurd hN loopN_zero
    | succ n ih =>
      intro x_62 a_many_63 hN H locs ls hH hl
      obtain ⟨yy2, hB2, hY2⟩ := loopN_succ hN
      have hF : FX8_counts_b2 a_on x_62 a_many_63 = some yy2 := hB2
      delta FX8_counts_b2 at hF
      refine lv_iload_n hx hb dX8_counts_2 rfl (lv_at hl 1 rfl) ?_
      refine lv_iconst (v := 5) hx hb dX8_counts_3 syi_5 ?_
      refine lv_icmp_ge (tgt := 60) hx hb dX8_counts_4 rfl (fun c_64 => ?_) (fun c_64 => ?_)
      · have hF := itp c_64 hF
        obtain rfl := Option.some.inj hF
        exact k2_0 a_many_63 hY2 _ _ _ hH (lv_sub hl [] rfl)
      · have hF := itn c_64 hF
        refine lv_aload_n hx hb dX8_counts_7 rfl (lv_at hl 0 rfl) ?_
        refine mg_many hX hK hH dX8_counts_8 ?_
        refine lv_iload_n hx hb dX8_counts_11 rfl (lv_at hl 1 rfl) ?_
        refine lv_iconst (v := 0) hx hb dX8_counts_12 syi_0 ?_
        obtain ⟨a_many_65, he, hF⟩ := bd1e hF
        refine ms_many hX hK hH he dX8_counts_13 (fun H locs hH => ?_)
        refine lv_iconst (v := 0) hx hb dX8_counts_14 syi_0 ?_
        refine lv_istore_n (lv' := [(2, .int 0), (0, .ref (ad 0)), (1, .int x_62)]) hx hb dX8_counts_15 rfl hl (by decide) rfl (fun ls hl => ?_)
        obtain ⟨xx16, ee16, kk16_0⟩ := bd1L hF
        have k16_0 : ∀ (a_many_80 : Nat → Int32), xx16 = a_many_80 → ∀ (H : Heap) (locs : List Loc) (ls : Array Slot), MH D vwA A s.heap (mW ad cA a_all a_hasImage a_tape a_fresh v_taped v_at v_behind v_size v_kind v_number v_wrong v_wrongAt v_depth v_steps v_faultKind v_faultPlace a_on a_many_80 v_moved a_pile v_aside v_judgedBy v_judgedYear a_leastCost a_matched a_order a_lies a_movedThen a_yearTable a_yearMark a_beginTable a_beginMark v_statesTold v_found v_yearFrom v_mark v_beginsMark v_begins a_began v_isSpent a_wants a_rowSort a_rowMany a_numbers) H locs → lv_has ls 3 [(0, .ref (ad 0)), (1, .int x_62)] → W p l e rm_X8_counts s m args below meth c H locs 0 0 Q (F0 m 54 ls []) := by
          intro a_many_80 hxx H locs ls hH hl
          have hF := un1e (kk16_0 a_many_80 hxx)
          refine lv_iinc (v := (x_62 + 1)) (lv' := [(1, .int (x_62 + 1)), (0, .ref (ad 0))]) hx hb dX8_counts_54 hl (k := 1) rfl (syc syi_1) (by decide) rfl (fun ls hl => ?_)
          refine lv_goto (tgt := 2) hx hb dX8_counts_57 rfl ?_
          obtain rfl := Option.some.inj hF
          exact ih (x_62 + 1) a_many_80 hY2 _ _ _ hH (lv_sub hl [1, 0] rfl)
        obtain ⟨nn16, en16⟩ := loopC_some ee16
        have l16 : ∀ (n : Nat) (x_72 : Int32) (a_many_73 : Nat → Int32), loopN (fun s => FX8_counts_b16 a_on x_62 s.1 s.2) n (x_72, a_many_73) = some xx16 → ∀ (H : Heap) (locs : List Loc) (ls : Array Slot), MH D vwA A s.heap (mW ad cA a_all a_hasImage a_tape a_fresh v_taped v_at v_behind v_size v_kind v_number v_wrong v_wrongAt v_depth v_steps v_faultKind v_faultPlace a_on a_many_73 v_moved a_pile v_aside v_judgedBy v_judgedYear a_leastCost a_matched a_order a_lies a_movedThen a_yearTable a_yearMark a_beginTable a_beginMark v_statesTold v_found v_yearFrom v_mark v_beginsMark v_begins a_began v_isSpent a_wants a_rowSort a_rowMany a_numbers) H locs → lv_has ls 3 [(0, .ref (ad 0)), (1, .int x_62), (2, .int x_72)] → W p l e rm_X8_counts s m args below meth c H locs 0 0 Q (F0 m 16 ls []) := by
          intro n
          induction n with
          | zero =>
            intro x_72 a_many_73 hN
            exact absurd hN loopN_zero
          | succ n ih =>
            intro x_72 a_many_73 hN H locs ls hH hl
            obtain ⟨yy16, hB16, hY16⟩ := loopN_succ hN
            have hF : FX8_counts_b16 a_on x_62 x_72 a_many_73 = some yy16 := hB16
            delta FX8_counts_b16 at hF
            refine lv_iload_n hx hb dX8_counts_16 rfl (lv_at hl 2 rfl) ?_
            refine lv_iconst (v := 3) hx hb dX8_counts_17 syi_3 ?_
            refine lv_icmp_ge (tgt := 54) hx hb dX8_counts_18 rfl (fun c_74 => ?_) (fun c_74 => ?_)
            · have hF := itp c_74 hF
              obtain rfl := Option.some.inj hF
              exact k16_0 a_many_73 hY16 _ _ _ hH (lv_sub hl [0, 1] rfl)
            · have hF := itn c_74 hF
              refine lv_aload_n hx hb dX8_counts_21 rfl (lv_at hl 0 rfl) ?_
              refine mg_many hX hK hH dX8_counts_22 ?_
              refine lv_iload_n hx hb dX8_counts_25 rfl (lv_at hl 1 rfl) ?_
              refine lv_dup2_11 hx hb dX8_counts_26 rfl rfl ?_
              obtain ⟨x_75, he, hF⟩ := bd1e hF
              refine ml_many hX hK hH he dX8_counts_27 ?_
              refine lv_aload_n hx hb dX8_counts_28 rfl (lv_at hl 0 rfl) ?_
              refine mg_on hX hK hH dX8_counts_29 ?_
              refine lv_iconst (v := 3) hx hb dX8_counts_32 syi_3 ?_
              refine lv_iload_n hx hb dX8_counts_33 rfl (lv_at hl 1 rfl) ?_
              refine lv_imul hx hb dX8_counts_34 ?_
              refine lv_iload_n hx hb dX8_counts_35 rfl (lv_at hl 2 rfl) ?_
              refine lv_iadd hx hb dX8_counts_36 ?_
              obtain ⟨x_76, he, hF⟩ := bd1e hF
              refine ml_on hX hK hH he dX8_counts_37 ?_
              have j46 : ∀ (x_78 : Int32), FX8_counts_j46 x_62 x_72 a_many_73 x_75 x_78 = some yy16 → ∀ (H : Heap) (locs : List Loc) (ls : Array Slot), MH D vwA A s.heap (mW ad cA a_all a_hasImage a_tape a_fresh v_taped v_at v_behind v_size v_kind v_number v_wrong v_wrongAt v_depth v_steps v_faultKind v_faultPlace a_on a_many_73 v_moved a_pile v_aside v_judgedBy v_judgedYear a_leastCost a_matched a_order a_lies a_movedThen a_yearTable a_yearMark a_beginTable a_beginMark v_statesTold v_found v_yearFrom v_mark v_beginsMark v_begins a_began v_isSpent a_wants a_rowSort a_rowMany a_numbers) H locs → lv_has ls 3 [(0, .ref (ad 0)), (1, .int x_62), (2, .int x_72)] → W p l e rm_X8_counts s m args below meth c H locs 0 0 Q (F0 m 46 ls [.int x_78, .int x_75, .int x_62, .ref (ad 6)]) := by
                intro x_78 hF H locs ls hH hl
                delta FX8_counts_j46 at hF
                refine lv_iadd hx hb dX8_counts_46 ?_
                obtain ⟨a_many_79, he, hF⟩ := bd1e hF
                refine ms_many hX hK hH he dX8_counts_47 (fun H locs hH => ?_)
                refine lv_iinc (v := (x_72 + 1)) (lv' := [(2, .int (x_72 + 1)), (0, .ref (ad 0)), (1, .int x_62)]) hx hb dX8_counts_48 hl (k := 2) rfl (syc syi_1) (by decide) rfl (fun ls hl => ?_)
                refine lv_goto (tgt := 16) hx hb dX8_counts_51 rfl ?_
                obtain rfl := Option.some.inj hF
                exact ih (x_72 + 1) a_many_79 hY16 _ _ _ hH (lv_sub hl [1, 2, 0] rfl)
              refine lv_if_le (tgt := 45) hx hb dX8_counts_38 rfl (fun c_77 => ?_) (fun c_77 => ?_)
              · have hF := itp c_77 hF
                refine lv_iconst (v := 0) hx hb dX8_counts_45 syi_0 ?_
                exact j46 0 hF _ _ _ hH (lv_sub hl [0, 1, 2] rfl)
              · have hF := itn c_77 hF
                refine lv_iconst (v := 1) hx hb dX8_counts_41 syi_1 ?_
                refine lv_goto (tgt := 46) hx hb dX8_counts_42 rfl ?_
                exact j46 1 hF _ _ _ hH (lv_sub hl [0, 1, 2] rfl)
        exact l16 nn16 0 a_many_65 en16 _ _ _ hH (lv_sub hl [1, 2, 0] rfl)
  exact l2 nn2 0 a_many en2 _ _ _ hH (lv_sub hl [1, 0] rfl)
abbrev rm_X8_looksNow : Room := { frames := 1, cells := 0, slots := 0, locals := 22 }
set_option maxHeartbeats 4000000 in
theorem met_X8_looksNow {l : Launch} {D : va_G} {ad : Nat → Nat} {cA : Nat → ClassId} {a_all : Nat → Int32} {a_hasImage : Nat → Int32} {a_tape : Nat → Int32} {a_fresh : Nat → Int32} {v_taped : Int32} {v_at : Int32} {v_behind : Int32} {v_size : Int32} {v_kind : Int32} {v_number : Int32} {v_wrong : Int32} {v_wrongAt : Int32} {v_depth : Int32} {v_steps : Int32} {v_faultKind : Int32} {v_faultPlace : Int32} {a_on : Nat → Int32} {a_many : Nat → Int32} {v_moved : Int32} {a_pile : Nat → Int32} {v_aside : Int32} {v_judgedBy : Int32} {v_judgedYear : Int32} {a_leastCost : Nat → Int32} {a_matched : Nat → Int32} {a_order : Nat → Int32} {a_lies : Nat → Int64} {a_movedThen : Nat → Int32} {a_yearTable : Nat → Int32} {a_yearMark : Nat → Int32} {a_beginTable : Nat → Int32} {a_beginMark : Nat → Int32} {v_statesTold : Int32} {v_found : Int32} {v_yearFrom : Int32} {v_mark : Int32} {v_beginsMark : Int32} {v_begins : Int32} {a_began : Nat → Int64} {v_isSpent : Int32} {a_wants : Nat → Int32} {a_rowSort : Nat → Int32} {a_rowMany : Nat → Int32} {a_numbers : Nat → Int64}   {ra_on : Nat → Int32} {ra_many : Nat → Int32} {rv_moved : Int32} {ak av fo : Nat} {E : EvT} (hE : EvM E ak av fo) (hF : FX8_looksNow a_all a_on a_many = some (ra_on, ra_many, rv_moved)) : MM l yX8_looksNow (ws_ yX8_looksNow cX8_looksNow 2 (Option.none : Option Jvm.ClassFile.FieldType)) rm_X8_looksNow D vwA (mT cA) E [.ref (ad 0)] (mW ad cA a_all a_hasImage a_tape a_fresh v_taped v_at v_behind v_size v_kind v_number v_wrong v_wrongAt v_depth v_steps v_faultKind v_faultPlace a_on a_many v_moved a_pile v_aside v_judgedBy v_judgedYear a_leastCost a_matched a_order a_lies a_movedThen a_yearTable a_yearMark a_beginTable a_beginMark v_statesTold v_found v_yearFrom v_mark v_beginsMark v_begins a_began v_isSpent a_wants a_rowSort a_rowMany a_numbers) (mW ad cA a_all a_hasImage a_tape a_fresh v_taped v_at v_behind v_size v_kind v_number v_wrong v_wrongAt v_depth v_steps v_faultKind v_faultPlace ra_on ra_many rv_moved a_pile v_aside v_judgedBy v_judgedYear a_leastCost a_matched a_order a_lies a_movedThen a_yearTable a_yearMark a_beginTable a_beginMark v_statesTold v_found v_yearFrom v_mark v_beginsMark v_begins a_began v_isSpent a_wants a_rowSort a_rowMany a_numbers) none := by
  refine MM.ofV (by decide) (Nat.le_of_ble_eq_true rfl) ?_
  intro p e s m args below meth c Q A hX hK hE0 hret H locs ls hH hl
  have hX : CallFix p m c cX8_looksNow 2 s args lw_all RX8 := hX
  have hx := hX.1
  have hb := hX.2.1
  have hown := hX.2.2.2.1
  have hts := hX.2.2.2.2
  have hl : lv_has ls 2 [(0, .ref (ad 0))] := hl
  have hEv := hE.1
  delta FX8_looksNow at hF
  refine lv_iconst (v := 0) hx hb dX8_looksNow_0 syi_0 ?_
  refine lv_istore_n (lv' := [(1, .int 0), (0, .ref (ad 0))]) hx hb dX8_looksNow_1 rfl hl (by decide) rfl (fun ls hl => ?_)
  obtain ⟨xx2, ee2, kk2_0⟩ := bd1L hF
  have k2_0 : ∀ (a_on_53 : Nat → Int32), xx2 = a_on_53 → ∀ (H : Heap) (locs : List Loc) (ls : Array Slot), MH D vwA A s.heap (mW ad cA a_all a_hasImage a_tape a_fresh v_taped v_at v_behind v_size v_kind v_number v_wrong v_wrongAt v_depth v_steps v_faultKind v_faultPlace a_on_53 a_many v_moved a_pile v_aside v_judgedBy v_judgedYear a_leastCost a_matched a_order a_lies a_movedThen a_yearTable a_yearMark a_beginTable a_beginMark v_statesTold v_found v_yearFrom v_mark v_beginsMark v_begins a_began v_isSpent a_wants a_rowSort a_rowMany a_numbers) H locs → lv_has ls 2 [(0, .ref (ad 0))] → W p l e rm_X8_looksNow s m args below meth c H locs 0 0 Q (F0 m 29 ls []) := by
    intro a_on_53 hxx H locs ls hH hl
    have hF := un1e (kk2_0 a_on_53 hxx)
    refine lv_aload_n hx hb dX8_looksNow_29 rfl (lv_at hl 0 rfl) ?_
    refine lv_aload_n hx hb dX8_looksNow_30 rfl (lv_at hl 0 rfl) ?_
    refine mg_all hX hK hH dX8_looksNow_31 ?_
    refine lv_bipush (v := 95) hx hb dX8_looksNow_34 syb_95 ?_
    obtain ⟨x_54, he, hF⟩ := bd1e hF
    refine ml_all hX hK hH he dX8_looksNow_36 ?_
    refine mp_moved hX hK hH dX8_looksNow_37 (fun H locs hH => ?_)
    refine lv_aload_n hx hb dX8_looksNow_40 rfl (lv_at hl 0 rfl) ?_
    obtain ⟨a_many_55, he, hF⟩ := bd1e hF
    refine mcV hX hK hEv hE0 hH (met_X8_counts hE he) (mrecv hK hH) gw_StoneYearModel_214 hd_yX8_counts ⟨Nat.le_of_ble_eq_true rfl, Nat.le_of_ble_eq_true rfl⟩ rfl rfl hl (Nat.le_of_ble_eq_true rfl) dX8_looksNow_41 ⟨Nat.le_of_ble_eq_true rfl, Nat.le_of_ble_eq_true rfl⟩ (fun H locs hH => ?_)
    obtain ⟨rfl, rfl, rfl⟩ := re3 hF
    exact hret _ _ _ _ hH dX8_looksNow_44
  obtain ⟨nn2, en2⟩ := loopC_some ee2
  have l2 : ∀ (n : Nat) (x_48 : Int32) (a_on_49 : Nat → Int32), loopN (fun s => FX8_looksNow_b2 a_all s.1 s.2) n (x_48, a_on_49) = some xx2 → ∀ (H : Heap) (locs : List Loc) (ls : Array Slot), MH D vwA A s.heap (mW ad cA a_all a_hasImage a_tape a_fresh v_taped v_at v_behind v_size v_kind v_number v_wrong v_wrongAt v_depth v_steps v_faultKind v_faultPlace a_on_49 a_many v_moved a_pile v_aside v_judgedBy v_judgedYear a_leastCost a_matched a_order a_lies a_movedThen a_yearTable a_yearMark a_beginTable a_beginMark v_statesTold v_found v_yearFrom v_mark v_beginsMark v_begins a_began v_isSpent a_wants a_rowSort a_rowMany a_numbers) H locs → lv_has ls 2 [(0, .ref (ad 0)), (1, .int x_48)] → W p l e rm_X8_looksNow s m args below meth c H locs 0 0 Q (F0 m 2 ls []) := by
    intro n
    induction n with
    | zero =>
      intro x_48 a_on_49 hN
      exact absurd hN loopN_zero
    | succ n ih =>
      intro x_48 a_on_49 hN H locs ls hH hl
      obtain ⟨yy2, hB2, hY2⟩ := loopN_succ hN
      have hF : FX8_looksNow_b2 a_all x_48 a_on_49 = some yy2 := hB2
      delta FX8_looksNow_b2 at hF
      refine lv_iload_n hx hb dX8_looksNow_2 rfl (lv_at hl 1 rfl) ?_
      refine lv_bipush (v := 15) hx hb dX8_looksNow_3 syb_15 ?_
      refine lv_icmp_ge (tgt := 29) hx hb dX8_looksNow_5 rfl (fun c_50 => ?_) (fun c_50 => ?_)
      · have hF := itp c_50 hF
        obtain rfl := Option.some.inj hF
        exact k2_0 a_on_49 hY2 _ _ _ hH (lv_sub hl [0] rfl)
      · have hF := itn c_50 hF
        refine lv_aload_n hx hb dX8_looksNow_8 rfl (lv_at hl 0 rfl) ?_
        refine mg_on hX hK hH dX8_looksNow_9 ?_
        refine lv_iload_n hx hb dX8_looksNow_12 rfl (lv_at hl 1 rfl) ?_
        refine lv_aload_n hx hb dX8_looksNow_13 rfl (lv_at hl 0 rfl) ?_
        refine mg_all hX hK hH dX8_looksNow_14 ?_
        refine lv_bipush (v := 80) hx hb dX8_looksNow_17 syb_80 ?_
        refine lv_iload_n hx hb dX8_looksNow_19 rfl (lv_at hl 1 rfl) ?_
        refine lv_iadd hx hb dX8_looksNow_20 ?_
        obtain ⟨x_51, he, hF⟩ := bd1e hF
        refine ml_all hX hK hH he dX8_looksNow_21 ?_
        obtain ⟨a_on_52, he, hF⟩ := bd1e hF
        refine ms_on hX hK hH he dX8_looksNow_22 (fun H locs hH => ?_)
        refine lv_iinc (v := (x_48 + 1)) (lv' := [(1, .int (x_48 + 1)), (0, .ref (ad 0))]) hx hb dX8_looksNow_23 hl (k := 1) rfl (syc syi_1) (by decide) rfl (fun ls hl => ?_)
        refine lv_goto (tgt := 2) hx hb dX8_looksNow_26 rfl ?_
        obtain rfl := Option.some.inj hF
        exact ih (x_48 + 1) a_on_52 hY2 _ _ _ hH (lv_sub hl [1, 0] rfl)
  exact l2 nn2 0 a_on en2 _ _ _ hH (lv_sub hl [1, 0] rfl)
abbrev rm_X8_row : Room := { frames := 2, cells := 0, slots := 0, locals := 46 }
set_option maxHeartbeats 4000000 in
theorem met_X8_row {l : Launch} {D : va_G} {ad : Nat → Nat} {cA : Nat → ClassId} {a_all : Nat → Int32} {a_hasImage : Nat → Int32} {a_tape : Nat → Int32} {a_fresh : Nat → Int32} {v_taped : Int32} {v_at : Int32} {v_behind : Int32} {v_size : Int32} {v_kind : Int32} {v_number : Int32} {v_wrong : Int32} {v_wrongAt : Int32} {v_depth : Int32} {v_steps : Int32} {v_faultKind : Int32} {v_faultPlace : Int32} {a_on : Nat → Int32} {a_many : Nat → Int32} {v_moved : Int32} {a_pile : Nat → Int32} {v_aside : Int32} {v_judgedBy : Int32} {v_judgedYear : Int32} {a_leastCost : Nat → Int32} {a_matched : Nat → Int32} {a_order : Nat → Int32} {a_lies : Nat → Int64} {a_movedThen : Nat → Int32} {a_yearTable : Nat → Int32} {a_yearMark : Nat → Int32} {a_beginTable : Nat → Int32} {a_beginMark : Nat → Int32} {v_statesTold : Int32} {v_found : Int32} {v_yearFrom : Int32} {v_mark : Int32} {v_beginsMark : Int32} {v_begins : Int32} {a_began : Nat → Int64} {v_isSpent : Int32} {a_wants : Nat → Int32} {a_rowSort : Nat → Int32} {a_rowMany : Nat → Int32} {a_numbers : Nat → Int64}  {p1 : Int32} {p2 : Int32} {res : Int32} {ra_on : Nat → Int32} {ra_many : Nat → Int32} {rv_moved : Int32} {ak av fo : Nat} {E : EvT} (hE : EvM E ak av fo) (hF : FX8_row a_all a_on a_many v_moved p1 p2 = some (res, ra_on, ra_many, rv_moved)) : MM l yX8_row (ws_ yX8_row cX8_row 3 (Option.some Jvm.ClassFile.FieldType.int)) rm_X8_row D vwA (mT cA) E [.ref (ad 0), .int p1, .int p2] (mW ad cA a_all a_hasImage a_tape a_fresh v_taped v_at v_behind v_size v_kind v_number v_wrong v_wrongAt v_depth v_steps v_faultKind v_faultPlace a_on a_many v_moved a_pile v_aside v_judgedBy v_judgedYear a_leastCost a_matched a_order a_lies a_movedThen a_yearTable a_yearMark a_beginTable a_beginMark v_statesTold v_found v_yearFrom v_mark v_beginsMark v_begins a_began v_isSpent a_wants a_rowSort a_rowMany a_numbers) (mW ad cA a_all a_hasImage a_tape a_fresh v_taped v_at v_behind v_size v_kind v_number v_wrong v_wrongAt v_depth v_steps v_faultKind v_faultPlace ra_on ra_many rv_moved a_pile v_aside v_judgedBy v_judgedYear a_leastCost a_matched a_order a_lies a_movedThen a_yearTable a_yearMark a_beginTable a_beginMark v_statesTold v_found v_yearFrom v_mark v_beginsMark v_begins a_began v_isSpent a_wants a_rowSort a_rowMany a_numbers) (some (.int res)) := by
  refine MM.ofI (by decide) (Nat.le_of_ble_eq_true rfl) ?_
  intro p e s m args below meth c Q A hX hK hE0 hret H locs ls hH hl
  have hX : CallFix p m c cX8_row 3 s args lw_all RX8 := hX
  have hx := hX.1
  have hb := hX.2.1
  have hown := hX.2.2.2.1
  have hts := hX.2.2.2.2
  have hl : lv_has ls 3 [(0, .ref (ad 0)), (1, .int p1), (2, .int p2)] := hl
  have hEv := hE.1
  delta FX8_row at hF
  refine lv_aload_n hx hb dX8_row_0 rfl (lv_at hl 0 rfl) ?_
  refine lv_iconst (v := 0) hx hb dX8_row_1 syi_0 ?_
  refine mp_thrown hX hK hH dX8_row_2 (fun H locs hH => ?_)
  refine lv_aload_n hx hb dX8_row_5 rfl (lv_at hl 0 rfl) ?_
  refine lv_iload_n hx hb dX8_row_6 rfl (lv_at hl 1 rfl) ?_
  obtain ⟨b_47, he, hF⟩ := bd1e hF
  refine mcV hX hK hEv hE0 hH (met_X8_isRow hE he) (mrecv hK hH) gw_StoneYearModel_223 hd_yX8_isRow ⟨Nat.le_of_ble_eq_true rfl, Nat.le_of_ble_eq_true rfl⟩ rfl rfl hl (Nat.le_of_ble_eq_true rfl) dX8_row_7 ⟨Nat.le_of_ble_eq_true rfl, Nat.le_of_ble_eq_true rfl⟩ (fun H locs hH => ?_)
  refine lv_if_eq (tgt := 25) hx hb dX8_row_10 rfl (fun c_48 => ?_) (fun c_48 => ?_)
  · have hF := itp c_48 hF
    refine lv_bipush (v := (-2)) hx hb dX8_row_25 syb_m2 ?_
    obtain ⟨rfl, rfl, rfl, rfl⟩ := re4 hF
    exact hret _ _ _ _ hH dX8_row_27
  · have hF := itn c_48 hF
    refine lv_iload_n hx hb dX8_row_13 rfl (lv_at hl 2 rfl) ?_
    refine lv_i2l (v := (Int32.toInt64 p2)) hx hb dX8_row_14 rfl ?_
    refine lv_lconst (v := 0) hx hb dX8_row_15 rfl ?_
    refine lv_ldc2 (v := 6) hx hb hown (hts _ q1874) dX8_row_16 ?_
    obtain ⟨b_49, he, hF⟩ := bd1e hF
    refine mcS hX hK hEv hE0 hH (met_X8_within hE he) gw_StoneYearModel_153 hd_yX8_within ⟨Nat.le_of_ble_eq_true rfl, Nat.le_of_ble_eq_true rfl⟩ rfl rfl hl (Nat.le_of_ble_eq_true rfl) dX8_row_19 ⟨Nat.le_of_ble_eq_true rfl, Nat.le_of_ble_eq_true rfl⟩ (fun H locs hH => ?_)
    refine lv_if_ne (tgt := 28) hx hb dX8_row_22 rfl (fun c_50 => ?_) (fun c_50 => ?_)
    · have hF := itn c_50 hF
      refine lv_aload_n hx hb dX8_row_28 rfl (lv_at hl 0 rfl) ?_
      obtain ⟨a_on_51, a_many_52, v_moved_53, he, hF⟩ := bd3e hF
      refine mcV hX hK hEv hE0 hH (met_X8_looksNow hE he) (mrecv hK hH) gw_StoneYearModel_260 hd_yX8_looksNow ⟨Nat.le_of_ble_eq_true rfl, Nat.le_of_ble_eq_true rfl⟩ rfl rfl hl (Nat.le_of_ble_eq_true rfl) dX8_row_29 ⟨Nat.le_of_ble_eq_true rfl, Nat.le_of_ble_eq_true rfl⟩ (fun H locs hH => ?_)
      refine lv_iload_n hx hb dX8_row_32 rfl (lv_at hl 2 rfl) ?_
      by_cases c_54_0 : p2 = 0
      · have hF := itp c_54_0 hF
        refine lv_tableIn (tgt := 64) hx hb dX8_row_33 (by rw [c_54_0]; decide) (by rw [c_54_0]; decide) (by rw [c_54_0]; rfl) rfl ?_
        refine lv_aload_n hx hb dX8_row_64 rfl (lv_at hl 0 rfl) ?_
        refine mg_all hX hK hH dX8_row_65 ?_
        refine lv_iconst (v := 1) hx hb dX8_row_68 syi_1 ?_
        refine lv_iload_n hx hb dX8_row_69 rfl (lv_at hl 1 rfl) ?_
        refine lv_iadd hx hb dX8_row_70 ?_
        obtain ⟨x_59, he, hF⟩ := bd1e hF
        refine ml_all hX hK hH he dX8_row_71 ?_
        obtain ⟨rfl, rfl, rfl, rfl⟩ := re4 hF
        exact hret _ _ _ _ hH dX8_row_72
      · have hF := itn c_54_0 hF
        by_cases c_54_1 : p2 = 1
        · have hF := itp c_54_1 hF
          refine lv_tableIn (tgt := 73) hx hb dX8_row_33 (by rw [c_54_1]; decide) (by rw [c_54_1]; decide) (by rw [c_54_1]; rfl) rfl ?_
          refine lv_aload_n hx hb dX8_row_73 rfl (lv_at hl 0 rfl) ?_
          refine mg_many hX hK hH dX8_row_74 ?_
          refine lv_iload_n hx hb dX8_row_77 rfl (lv_at hl 1 rfl) ?_
          obtain ⟨x_58, he, hF⟩ := bd1e hF
          refine ml_many hX hK hH he dX8_row_78 ?_
          obtain ⟨rfl, rfl, rfl, rfl⟩ := re4 hF
          exact hret _ _ _ _ hH dX8_row_79
        · have hF := itn c_54_1 hF
          by_cases c_54_2 : p2 = 2
          · have hF := itp c_54_2 hF
            refine lv_tableIn (tgt := 80) hx hb dX8_row_33 (by rw [c_54_2]; decide) (by rw [c_54_2]; decide) (by rw [c_54_2]; rfl) rfl ?_
            refine lv_aload_n hx hb dX8_row_80 rfl (lv_at hl 0 rfl) ?_
            refine mg_all hX hK hH dX8_row_81 ?_
            refine lv_bipush (v := 31) hx hb dX8_row_84 syb_31 ?_
            refine lv_iload_n hx hb dX8_row_86 rfl (lv_at hl 1 rfl) ?_
            refine lv_iadd hx hb dX8_row_87 ?_
            obtain ⟨x_57, he, hF⟩ := bd1e hF
            refine ml_all hX hK hH he dX8_row_88 ?_
            obtain ⟨rfl, rfl, rfl, rfl⟩ := re4 hF
            exact hret _ _ _ _ hH dX8_row_89
          · have hF := itn c_54_2 hF
            by_cases c_54_3 : p2 = 3
            · have hF := itp c_54_3 hF
              refine lv_tableIn (tgt := 90) hx hb dX8_row_33 (by rw [c_54_3]; decide) (by rw [c_54_3]; decide) (by rw [c_54_3]; rfl) rfl ?_
              refine lv_aload_n hx hb dX8_row_90 rfl (lv_at hl 0 rfl) ?_
              refine mg_all hX hK hH dX8_row_91 ?_
              refine lv_bipush (v := 36) hx hb dX8_row_94 syb_36 ?_
              refine lv_iload_n hx hb dX8_row_96 rfl (lv_at hl 1 rfl) ?_
              refine lv_iadd hx hb dX8_row_97 ?_
              obtain ⟨x_56, he, hF⟩ := bd1e hF
              refine ml_all hX hK hH he dX8_row_98 ?_
              obtain ⟨rfl, rfl, rfl, rfl⟩ := re4 hF
              exact hret _ _ _ _ hH dX8_row_99
            · have hF := itn c_54_3 hF
              have tc_54_0 := lv_neT (a := 0) c_54_0 (by decide)
              have tc_54_1 := lv_neT (a := 1) c_54_1 (by decide)
              have tc_54_2 := lv_neT (a := 2) c_54_2 (by decide)
              have tc_54_3 := lv_neT (a := 3) c_54_3 (by decide)
              refine lv_tableOut (tgt := 100) hx hb dX8_row_33 (by omega) rfl ?_
              refine lv_aload_n hx hb dX8_row_100 rfl (lv_at hl 0 rfl) ?_
              refine mg_all hX hK hH dX8_row_101 ?_
              refine lv_bipush (v := 41) hx hb dX8_row_104 syb_41 ?_
              refine lv_iconst (v := 3) hx hb dX8_row_106 syi_3 ?_
              refine lv_iload_n hx hb dX8_row_107 rfl (lv_at hl 1 rfl) ?_
              refine lv_imul hx hb dX8_row_108 ?_
              refine lv_iadd hx hb dX8_row_109 ?_
              refine lv_iload_n hx hb dX8_row_110 rfl (lv_at hl 2 rfl) ?_
              refine lv_iadd hx hb dX8_row_111 ?_
              refine lv_iconst (v := 4) hx hb dX8_row_112 syi_4 ?_
              refine lv_isub hx hb dX8_row_113 ?_
              obtain ⟨x_55, he, hF⟩ := bd1e hF
              refine ml_all hX hK hH he dX8_row_114 ?_
              obtain ⟨rfl, rfl, rfl, rfl⟩ := re4 hF
              exact hret _ _ _ _ hH dX8_row_115
    · have hF := itp c_50 hF
      refine lv_bipush (v := (-2)) hx hb dX8_row_25 syb_m2 ?_
      obtain ⟨rfl, rfl, rfl, rfl⟩ := re4 hF
      exact hret _ _ _ _ hH dX8_row_27
abbrev rm_X8_brokenMust : Room := { frames := 0, cells := 0, slots := 0, locals := 0 }
set_option maxHeartbeats 4000000 in
theorem met_X8_brokenMust {l : Launch} {D : va_G} {ad : Nat → Nat} {cA : Nat → ClassId} {a_all : Nat → Int32} {a_hasImage : Nat → Int32} {a_tape : Nat → Int32} {a_fresh : Nat → Int32} {v_taped : Int32} {v_at : Int32} {v_behind : Int32} {v_size : Int32} {v_kind : Int32} {v_number : Int32} {v_wrong : Int32} {v_wrongAt : Int32} {v_depth : Int32} {v_steps : Int32} {v_faultKind : Int32} {v_faultPlace : Int32} {a_on : Nat → Int32} {a_many : Nat → Int32} {v_moved : Int32} {a_pile : Nat → Int32} {v_aside : Int32} {v_judgedBy : Int32} {v_judgedYear : Int32} {a_leastCost : Nat → Int32} {a_matched : Nat → Int32} {a_order : Nat → Int32} {a_lies : Nat → Int64} {a_movedThen : Nat → Int32} {a_yearTable : Nat → Int32} {a_yearMark : Nat → Int32} {a_beginTable : Nat → Int32} {a_beginMark : Nat → Int32} {v_statesTold : Int32} {v_found : Int32} {v_yearFrom : Int32} {v_mark : Int32} {v_beginsMark : Int32} {v_begins : Int32} {a_began : Nat → Int64} {v_isSpent : Int32} {a_wants : Nat → Int32} {a_rowSort : Nat → Int32} {a_rowMany : Nat → Int32} {a_numbers : Nat → Int64}   {res : Int32} {ak av fo : Nat} {E : EvT} (hE : EvM E ak av fo) (hF : FX8_brokenMust a_all a_many v_aside = some res) : MM l yX8_brokenMust (ws_ yX8_brokenMust cX8_brokenMust 3 (Option.some Jvm.ClassFile.FieldType.int)) rm_X8_brokenMust D vwA (mT cA) E [.ref (ad 0)] (mW ad cA a_all a_hasImage a_tape a_fresh v_taped v_at v_behind v_size v_kind v_number v_wrong v_wrongAt v_depth v_steps v_faultKind v_faultPlace a_on a_many v_moved a_pile v_aside v_judgedBy v_judgedYear a_leastCost a_matched a_order a_lies a_movedThen a_yearTable a_yearMark a_beginTable a_beginMark v_statesTold v_found v_yearFrom v_mark v_beginsMark v_begins a_began v_isSpent a_wants a_rowSort a_rowMany a_numbers) (mW ad cA a_all a_hasImage a_tape a_fresh v_taped v_at v_behind v_size v_kind v_number v_wrong v_wrongAt v_depth v_steps v_faultKind v_faultPlace a_on a_many v_moved a_pile v_aside v_judgedBy v_judgedYear a_leastCost a_matched a_order a_lies a_movedThen a_yearTable a_yearMark a_beginTable a_beginMark v_statesTold v_found v_yearFrom v_mark v_beginsMark v_begins a_began v_isSpent a_wants a_rowSort a_rowMany a_numbers) (some (.int res)) := by
  refine MM.ofI (by decide) (Nat.le_of_ble_eq_true rfl) ?_
  intro p e s m args below meth c Q A hX hK hE0 hret H locs ls hH hl
  have hX : CallFix p m c cX8_brokenMust 3 s args lw_all RX8 := hX
  have hx := hX.1
  have hb := hX.2.1
  have hown := hX.2.2.2.1
  have hts := hX.2.2.2.2
  have hl : lv_has ls 3 [(0, .ref (ad 0))] := hl
  have hEv := hE.1
  delta FX8_brokenMust at hF
  refine lv_iconst (v := 0) hx hb dX8_brokenMust_0 syi_0 ?_
  refine lv_istore_n (lv' := [(1, .int 0), (0, .ref (ad 0))]) hx hb dX8_brokenMust_1 rfl hl (by decide) rfl (fun ls hl => ?_)
  obtain ⟨xx2, ee2, kk2_0, kk2_1, kk2_2⟩ := bdS3e hF
  have k2_0 : ∀ (x_68 : Int32), xx2 = (.inl x_68) → ∀ (H : Heap) (locs : List Loc) (ls : Array Slot), MH D vwA A s.heap (mW ad cA a_all a_hasImage a_tape a_fresh v_taped v_at v_behind v_size v_kind v_number v_wrong v_wrongAt v_depth v_steps v_faultKind v_faultPlace a_on a_many v_moved a_pile v_aside v_judgedBy v_judgedYear a_leastCost a_matched a_order a_lies a_movedThen a_yearTable a_yearMark a_beginTable a_beginMark v_statesTold v_found v_yearFrom v_mark v_beginsMark v_begins a_began v_isSpent a_wants a_rowSort a_rowMany a_numbers) H locs → lv_has ls 3 [(1, .int x_68)] → W p l e rm_X8_brokenMust s m args below meth c H locs 0 0 Q (F0 m 64 ls []) := by
    intro x_68 hxx H locs ls hH hl
    have hF := un1e (kk2_0 x_68 hxx)
    refine lv_goto (tgt := 80) hx hb dX8_brokenMust_64 rfl ?_
    refine lv_iload_n hx hb dX8_brokenMust_80 rfl (lv_at hl 0 rfl) ?_
    obtain rfl := Option.some.inj hF
    exact hret _ _ _ _ hH dX8_brokenMust_81
  have k2_1 : ∀ (x_69 : Int32), xx2 = (.inr (.inl x_69)) → ∀ (H : Heap) (locs : List Loc) (ls : Array Slot), MH D vwA A s.heap (mW ad cA a_all a_hasImage a_tape a_fresh v_taped v_at v_behind v_size v_kind v_number v_wrong v_wrongAt v_depth v_steps v_faultKind v_faultPlace a_on a_many v_moved a_pile v_aside v_judgedBy v_judgedYear a_leastCost a_matched a_order a_lies a_movedThen a_yearTable a_yearMark a_beginTable a_beginMark v_statesTold v_found v_yearFrom v_mark v_beginsMark v_begins a_began v_isSpent a_wants a_rowSort a_rowMany a_numbers) H locs → lv_has ls 3 [(1, .int x_69)] → W p l e rm_X8_brokenMust s m args below meth c H locs 0 0 Q (F0 m 80 ls []) := by
    intro x_69 hxx H locs ls hH hl
    have hF := un1e (kk2_1 x_69 hxx)
    refine lv_iload_n hx hb dX8_brokenMust_80 rfl (lv_at hl 0 rfl) ?_
    obtain rfl := Option.some.inj hF
    exact hret _ _ _ _ hH dX8_brokenMust_81
  have k2_2 : xx2 = (.inr (.inr ())) → ∀ (H : Heap) (locs : List Loc) (ls : Array Slot), MH D vwA A s.heap (mW ad cA a_all a_hasImage a_tape a_fresh v_taped v_at v_behind v_size v_kind v_number v_wrong v_wrongAt v_depth v_steps v_faultKind v_faultPlace a_on a_many v_moved a_pile v_aside v_judgedBy v_judgedYear a_leastCost a_matched a_order a_lies a_movedThen a_yearTable a_yearMark a_beginTable a_beginMark v_statesTold v_found v_yearFrom v_mark v_beginsMark v_begins a_began v_isSpent a_wants a_rowSort a_rowMany a_numbers) H locs → lv_has ls 3 [] → W p l e rm_X8_brokenMust s m args below meth c H locs 0 0 Q (F0 m 88 ls []) := by
    intro hxx H locs ls hH hl
    have hF := un0e (kk2_2 () hxx)
    refine lv_iconst (v := (-1)) hx hb dX8_brokenMust_88 syi_m1 ?_
    obtain rfl := Option.some.inj hF
    exact hret _ _ _ _ hH dX8_brokenMust_89
  obtain ⟨nn2, en2⟩ := loopC_some ee2
  have l2 : ∀ (n : Nat) (x_56 : Int32), loopN (fun s => FX8_brokenMust_b2 a_all a_many v_aside s) n x_56 = some xx2 → ∀ (H : Heap) (locs : List Loc) (ls : Array Slot), MH D vwA A s.heap (mW ad cA a_all a_hasImage a_tape a_fresh v_taped v_at v_behind v_size v_kind v_number v_wrong v_wrongAt v_depth v_steps v_faultKind v_faultPlace a_on a_many v_moved a_pile v_aside v_judgedBy v_judgedYear a_leastCost a_matched a_order a_lies a_movedThen a_yearTable a_yearMark a_beginTable a_beginMark v_statesTold v_found v_yearFrom v_mark v_beginsMark v_begins a_began v_isSpent a_wants a_rowSort a_rowMany a_numbers) H locs → lv_has ls 3 [(0, .ref (ad 0)), (1, .int x_56)] → W p l e rm_X8_brokenMust s m args below meth c H locs 0 0 Q (F0 m 2 ls []) := by
    intro n
    induction n with
    | zero =>
      intro x_56 hN
      exact absurd hN loopN_zero
    | succ n ih =>
      intro x_56 hN H locs ls hH hl
      obtain ⟨yy2, hB2, hY2⟩ := loopN_succ hN
      have hF : FX8_brokenMust_b2 a_all a_many v_aside x_56 = some yy2 := hB2
      delta FX8_brokenMust_b2 at hF
      refine lv_iload_n hx hb dX8_brokenMust_2 rfl (lv_at hl 1 rfl) ?_
      refine lv_aload_n hx hb dX8_brokenMust_3 rfl (lv_at hl 0 rfl) ?_
      refine mg_all hX hK hH dX8_brokenMust_4 ?_
      refine lv_bipush (v := 56) hx hb dX8_brokenMust_7 syb_56 ?_
      obtain ⟨x_57, he, hF⟩ := bd1e hF
      refine ml_all hX hK hH he dX8_brokenMust_9 ?_
      refine lv_icmp_ge (tgt := 88) hx hb dX8_brokenMust_10 rfl (fun c_58 => ?_) (fun c_58 => ?_)
      · have hF := itp c_58 hF
        obtain rfl := Option.some.inj hF
        exact k2_2 hY2 _ _ _ hH (lv_sub hl [] rfl)
      · have hF := itn c_58 hF
        refine lv_iload_n hx hb dX8_brokenMust_13 rfl (lv_at hl 1 rfl) ?_
        refine lv_aload_n hx hb dX8_brokenMust_14 rfl (lv_at hl 0 rfl) ?_
        refine mg_aside hX hK hH dX8_brokenMust_15 ?_
        have j82 : FX8_brokenMust_j82 x_56 = some yy2 → ∀ (H : Heap) (locs : List Loc) (ls : Array Slot), MH D vwA A s.heap (mW ad cA a_all a_hasImage a_tape a_fresh v_taped v_at v_behind v_size v_kind v_number v_wrong v_wrongAt v_depth v_steps v_faultKind v_faultPlace a_on a_many v_moved a_pile v_aside v_judgedBy v_judgedYear a_leastCost a_matched a_order a_lies a_movedThen a_yearTable a_yearMark a_beginTable a_beginMark v_statesTold v_found v_yearFrom v_mark v_beginsMark v_begins a_began v_isSpent a_wants a_rowSort a_rowMany a_numbers) H locs → lv_has ls 3 [(0, .ref (ad 0)), (1, .int x_56)] → W p l e rm_X8_brokenMust s m args below meth c H locs 0 0 Q (F0 m 82 ls []) := by
          intro hF H locs ls hH hl
          delta FX8_brokenMust_j82 at hF
          refine lv_iinc (v := (x_56 + 1)) (lv' := [(1, .int (x_56 + 1)), (0, .ref (ad 0))]) hx hb dX8_brokenMust_82 hl (k := 1) rfl (syc syi_1) (by decide) rfl (fun ls hl => ?_)
          refine lv_goto (tgt := 2) hx hb dX8_brokenMust_85 rfl ?_
          obtain rfl := Option.some.inj hF
          exact ih (x_56 + 1) hY2 _ _ _ hH (lv_sub hl [1, 0] rfl)
        refine lv_icmp_ne (tgt := 24) hx hb dX8_brokenMust_18 rfl (fun c_59 => ?_) (fun c_59 => ?_)
        · have hF := itn c_59 hF
          refine lv_aload_n hx hb dX8_brokenMust_24 rfl (lv_at hl 0 rfl) ?_
          refine mg_many hX hK hH dX8_brokenMust_25 ?_
          refine lv_aload_n hx hb dX8_brokenMust_28 rfl (lv_at hl 0 rfl) ?_
          refine mg_all hX hK hH dX8_brokenMust_29 ?_
          refine lv_bipush (v := 63) hx hb dX8_brokenMust_32 syb_63 ?_
          refine lv_iload_n hx hb dX8_brokenMust_34 rfl (lv_at hl 1 rfl) ?_
          refine lv_iadd hx hb dX8_brokenMust_35 ?_
          obtain ⟨x_60, he, hF⟩ := bd1e hF
          refine ml_all hX hK hH he dX8_brokenMust_36 ?_
          obtain ⟨x_61, he, hF⟩ := bd1e hF
          refine ml_many hX hK hH he dX8_brokenMust_37 ?_
          refine lv_istore_n (lv' := [(2, .int x_61), (0, .ref (ad 0)), (1, .int x_56)]) hx hb dX8_brokenMust_38 rfl hl (by decide) rfl (fun ls hl => ?_)
          refine lv_aload_n hx hb dX8_brokenMust_39 rfl (lv_at hl 1 rfl) ?_
          refine mg_all hX hK hH dX8_brokenMust_40 ?_
          refine lv_bipush (v := 57) hx hb dX8_brokenMust_43 syb_57 ?_
          refine lv_iload_n hx hb dX8_brokenMust_45 rfl (lv_at hl 2 rfl) ?_
          refine lv_iadd hx hb dX8_brokenMust_46 ?_
          obtain ⟨x_62, he, hF⟩ := bd1e hF
          refine ml_all hX hK hH he dX8_brokenMust_47 ?_
          refine lv_if_ne (tgt := 67) hx hb dX8_brokenMust_48 rfl (fun c_63 => ?_) (fun c_63 => ?_)
          · have hF := itn c_63 hF
            refine lv_iload_n hx hb dX8_brokenMust_67 rfl (lv_at hl 0 rfl) ?_
            refine lv_aload_n hx hb dX8_brokenMust_68 rfl (lv_at hl 1 rfl) ?_
            refine mg_all hX hK hH dX8_brokenMust_69 ?_
            refine lv_bipush (v := 69) hx hb dX8_brokenMust_72 syb_69 ?_
            refine lv_iload_n hx hb dX8_brokenMust_74 rfl (lv_at hl 2 rfl) ?_
            refine lv_iadd hx hb dX8_brokenMust_75 ?_
            obtain ⟨x_66, he, hF⟩ := bd1e hF
            refine ml_all hX hK hH he dX8_brokenMust_76 ?_
            refine lv_icmp_le (tgt := 82) hx hb dX8_brokenMust_77 rfl (fun c_67 => ?_) (fun c_67 => ?_)
            · have hF := itp c_67 hF
              exact j82 hF _ _ _ hH (lv_sub hl [1, 2] rfl)
            · have hF := itn c_67 hF
              obtain rfl := Option.some.inj hF
              exact k2_1 x_56 hY2 _ _ _ hH (lv_sub hl [2] rfl)
          · have hF := itp c_63 hF
            refine lv_iload_n hx hb dX8_brokenMust_51 rfl (lv_at hl 0 rfl) ?_
            refine lv_aload_n hx hb dX8_brokenMust_52 rfl (lv_at hl 1 rfl) ?_
            refine mg_all hX hK hH dX8_brokenMust_53 ?_
            refine lv_bipush (v := 69) hx hb dX8_brokenMust_56 syb_69 ?_
            refine lv_iload_n hx hb dX8_brokenMust_58 rfl (lv_at hl 2 rfl) ?_
            refine lv_iadd hx hb dX8_brokenMust_59 ?_
            obtain ⟨x_64, he, hF⟩ := bd1e hF
            refine ml_all hX hK hH he dX8_brokenMust_60 ?_
            refine lv_icmp_ge (tgt := 82) hx hb dX8_brokenMust_61 rfl (fun c_65 => ?_) (fun c_65 => ?_)
            · have hF := itp c_65 hF
              exact j82 hF _ _ _ hH (lv_sub hl [1, 2] rfl)
            · have hF := itn c_65 hF
              obtain rfl := Option.some.inj hF
              exact k2_0 x_56 hY2 _ _ _ hH (lv_sub hl [2] rfl)
        · have hF := itp c_59 hF
          refine lv_goto (tgt := 82) hx hb dX8_brokenMust_21 rfl ?_
          exact j82 hF _ _ _ hH (lv_sub hl [0, 1] rfl)
  exact l2 nn2 0 en2 _ _ _ hH (lv_sub hl [1, 0] rfl)
abbrev rm_X8_heavy : Room := { frames := 1, cells := 0, slots := 0, locals := 22 }
set_option maxHeartbeats 4000000 in
theorem met_X8_heavy {l : Launch} {D : va_G} {ad : Nat → Nat} {cA : Nat → ClassId} {a_all : Nat → Int32} {a_hasImage : Nat → Int32} {a_tape : Nat → Int32} {a_fresh : Nat → Int32} {v_taped : Int32} {v_at : Int32} {v_behind : Int32} {v_size : Int32} {v_kind : Int32} {v_number : Int32} {v_wrong : Int32} {v_wrongAt : Int32} {v_depth : Int32} {v_steps : Int32} {v_faultKind : Int32} {v_faultPlace : Int32} {a_on : Nat → Int32} {a_many : Nat → Int32} {v_moved : Int32} {a_pile : Nat → Int32} {v_aside : Int32} {v_judgedBy : Int32} {v_judgedYear : Int32} {a_leastCost : Nat → Int32} {a_matched : Nat → Int32} {a_order : Nat → Int32} {a_lies : Nat → Int64} {a_movedThen : Nat → Int32} {a_yearTable : Nat → Int32} {a_yearMark : Nat → Int32} {a_beginTable : Nat → Int32} {a_beginMark : Nat → Int32} {v_statesTold : Int32} {v_found : Int32} {v_yearFrom : Int32} {v_mark : Int32} {v_beginsMark : Int32} {v_begins : Int32} {a_began : Nat → Int64} {v_isSpent : Int32} {a_wants : Nat → Int32} {a_rowSort : Nat → Int32} {a_rowMany : Nat → Int32} {a_numbers : Nat → Int64}   {res : Int32} {ak av fo : Nat} {E : EvT} (hE : EvM E ak av fo) (hF : FX8_heavy a_all = some res) : MM l yX8_heavy (ws_ yX8_heavy cX8_heavy 5 (Option.some Jvm.ClassFile.FieldType.int)) rm_X8_heavy D vwA (mT cA) E [.ref (ad 0)] (mW ad cA a_all a_hasImage a_tape a_fresh v_taped v_at v_behind v_size v_kind v_number v_wrong v_wrongAt v_depth v_steps v_faultKind v_faultPlace a_on a_many v_moved a_pile v_aside v_judgedBy v_judgedYear a_leastCost a_matched a_order a_lies a_movedThen a_yearTable a_yearMark a_beginTable a_beginMark v_statesTold v_found v_yearFrom v_mark v_beginsMark v_begins a_began v_isSpent a_wants a_rowSort a_rowMany a_numbers) (mW ad cA a_all a_hasImage a_tape a_fresh v_taped v_at v_behind v_size v_kind v_number v_wrong v_wrongAt v_depth v_steps v_faultKind v_faultPlace a_on a_many v_moved a_pile v_aside v_judgedBy v_judgedYear a_leastCost a_matched a_order a_lies a_movedThen a_yearTable a_yearMark a_beginTable a_beginMark v_statesTold v_found v_yearFrom v_mark v_beginsMark v_begins a_began v_isSpent a_wants a_rowSort a_rowMany a_numbers) (some (.int res)) := by
  refine MM.ofI (by decide) (Nat.le_of_ble_eq_true rfl) ?_
  intro p e s m args below meth c Q A hX hK hE0 hret H locs ls hH hl
  have hX : CallFix p m c cX8_heavy 5 s args lw_all RX8 := hX
  have hx := hX.1
  have hb := hX.2.1
  have hown := hX.2.2.2.1
  have hts := hX.2.2.2.2
  have hl : lv_has ls 5 [(0, .ref (ad 0))] := hl
  have hEv := hE.1
  delta FX8_heavy at hF
  refine lv_iconst (v := 0) hx hb dX8_heavy_0 syi_0 ?_
  refine lv_istore_n (lv' := [(1, .int 0), (0, .ref (ad 0))]) hx hb dX8_heavy_1 rfl hl (by decide) rfl (fun ls hl => ?_)
  obtain ⟨xx2, ee2, kk2_0, kk2_1⟩ := bdS2e hF
  have k2_0 : ∀ (x_88 : Int32), xx2 = (.inl x_88) → ∀ (H : Heap) (locs : List Loc) (ls : Array Slot), MH D vwA A s.heap (mW ad cA a_all a_hasImage a_tape a_fresh v_taped v_at v_behind v_size v_kind v_number v_wrong v_wrongAt v_depth v_steps v_faultKind v_faultPlace a_on a_many v_moved a_pile v_aside v_judgedBy v_judgedYear a_leastCost a_matched a_order a_lies a_movedThen a_yearTable a_yearMark a_beginTable a_beginMark v_statesTold v_found v_yearFrom v_mark v_beginsMark v_begins a_began v_isSpent a_wants a_rowSort a_rowMany a_numbers) H locs → lv_has ls 5 [(1, .int x_88)] → W p l e rm_X8_heavy s m args below meth c H locs 0 0 Q (F0 m 105 ls []) := by
    intro x_88 hxx H locs ls hH hl
    have hF := un1e (kk2_0 x_88 hxx)
    refine lv_iload_n hx hb dX8_heavy_105 rfl (lv_at hl 0 rfl) ?_
    obtain rfl := Option.some.inj hF
    exact hret _ _ _ _ hH dX8_heavy_106
  have k2_1 : xx2 = (.inr ()) → ∀ (H : Heap) (locs : List Loc) (ls : Array Slot), MH D vwA A s.heap (mW ad cA a_all a_hasImage a_tape a_fresh v_taped v_at v_behind v_size v_kind v_number v_wrong v_wrongAt v_depth v_steps v_faultKind v_faultPlace a_on a_many v_moved a_pile v_aside v_judgedBy v_judgedYear a_leastCost a_matched a_order a_lies a_movedThen a_yearTable a_yearMark a_beginTable a_beginMark v_statesTold v_found v_yearFrom v_mark v_beginsMark v_begins a_began v_isSpent a_wants a_rowSort a_rowMany a_numbers) H locs → lv_has ls 5 [] → W p l e rm_X8_heavy s m args below meth c H locs 0 0 Q (F0 m 113 ls []) := by
    intro hxx H locs ls hH hl
    have hF := un0e (kk2_1 () hxx)
    refine lv_iconst (v := (-1)) hx hb dX8_heavy_113 syi_m1 ?_
    obtain rfl := Option.some.inj hF
    exact hret _ _ _ _ hH dX8_heavy_114
  obtain ⟨nn2, en2⟩ := loopC_some ee2
  have l2 : ∀ (n : Nat) (x_66 : Int32), loopN (fun s => FX8_heavy_b2 a_all s) n x_66 = some xx2 → ∀ (H : Heap) (locs : List Loc) (ls : Array Slot), MH D vwA A s.heap (mW ad cA a_all a_hasImage a_tape a_fresh v_taped v_at v_behind v_size v_kind v_number v_wrong v_wrongAt v_depth v_steps v_faultKind v_faultPlace a_on a_many v_moved a_pile v_aside v_judgedBy v_judgedYear a_leastCost a_matched a_order a_lies a_movedThen a_yearTable a_yearMark a_beginTable a_beginMark v_statesTold v_found v_yearFrom v_mark v_beginsMark v_begins a_began v_isSpent a_wants a_rowSort a_rowMany a_numbers) H locs → lv_has ls 5 [(0, .ref (ad 0)), (1, .int x_66)] → W p l e rm_X8_heavy s m args below meth c H locs 0 0 Q (F0 m 2 ls []) := by
    intro n
    induction n with
    | zero =>
      intro x_66 hN
      exact absurd hN loopN_zero
    | succ n ih =>
      intro x_66 hN H locs ls hH hl
      obtain ⟨yy2, hB2, hY2⟩ := loopN_succ hN
      have hF : FX8_heavy_b2 a_all x_66 = some yy2 := hB2
      delta FX8_heavy_b2 at hF
      refine lv_iload_n hx hb dX8_heavy_2 rfl (lv_at hl 1 rfl) ?_
      refine lv_aload_n hx hb dX8_heavy_3 rfl (lv_at hl 0 rfl) ?_
      refine mg_all hX hK hH dX8_heavy_4 ?_
      refine lv_bipush (v := 6) hx hb dX8_heavy_7 syb_6 ?_
      obtain ⟨x_67, he, hF⟩ := bd1e hF
      refine ml_all hX hK hH he dX8_heavy_9 ?_
      refine lv_icmp_ge (tgt := 113) hx hb dX8_heavy_10 rfl (fun c_68 => ?_) (fun c_68 => ?_)
      · have hF := itp c_68 hF
        obtain rfl := Option.some.inj hF
        exact k2_1 hY2 _ _ _ hH (lv_sub hl [] rfl)
      · have hF := itn c_68 hF
        refine lv_aload_n hx hb dX8_heavy_13 rfl (lv_at hl 0 rfl) ?_
        refine lv_iload_n hx hb dX8_heavy_14 rfl (lv_at hl 1 rfl) ?_
        obtain ⟨x_69, he, hF⟩ := bd1e hF
        refine mcV hX hK hEv hE0 hH (met_X8_placeOf hE he) (mrecv hK hH) gw_StoneYearModel_255 hd_yX8_placeOf ⟨Nat.le_of_ble_eq_true rfl, Nat.le_of_ble_eq_true rfl⟩ rfl rfl hl (Nat.le_of_ble_eq_true rfl) dX8_heavy_15 ⟨Nat.le_of_ble_eq_true rfl, Nat.le_of_ble_eq_true rfl⟩ (fun H locs hH => ?_)
        refine lv_istore_n (lv' := [(2, .int x_69), (0, .ref (ad 0)), (1, .int x_66)]) hx hb dX8_heavy_18 rfl hl (by decide) rfl (fun ls hl => ?_)
        refine lv_iload_n hx hb dX8_heavy_19 rfl (lv_at hl 0 rfl) ?_
        refine lv_iconst (v := (-1)) hx hb dX8_heavy_20 syi_m1 ?_
        have j107 : FX8_heavy_j107 x_66 = some yy2 → ∀ (H : Heap) (locs : List Loc) (ls : Array Slot), MH D vwA A s.heap (mW ad cA a_all a_hasImage a_tape a_fresh v_taped v_at v_behind v_size v_kind v_number v_wrong v_wrongAt v_depth v_steps v_faultKind v_faultPlace a_on a_many v_moved a_pile v_aside v_judgedBy v_judgedYear a_leastCost a_matched a_order a_lies a_movedThen a_yearTable a_yearMark a_beginTable a_beginMark v_statesTold v_found v_yearFrom v_mark v_beginsMark v_begins a_began v_isSpent a_wants a_rowSort a_rowMany a_numbers) H locs → lv_has ls 5 [(0, .ref (ad 0)), (1, .int x_66)] → W p l e rm_X8_heavy s m args below meth c H locs 0 0 Q (F0 m 107 ls []) := by
          intro hF H locs ls hH hl
          delta FX8_heavy_j107 at hF
          refine lv_iinc (v := (x_66 + 1)) (lv' := [(1, .int (x_66 + 1)), (0, .ref (ad 0))]) hx hb dX8_heavy_107 hl (k := 1) rfl (syc syi_1) (by decide) rfl (fun ls hl => ?_)
          refine lv_goto (tgt := 2) hx hb dX8_heavy_110 rfl ?_
          obtain rfl := Option.some.inj hF
          exact ih (x_66 + 1) hY2 _ _ _ hH (lv_sub hl [1, 0] rfl)
        refine lv_icmp_ne (tgt := 27) hx hb dX8_heavy_21 rfl (fun c_70 => ?_) (fun c_70 => ?_)
        · have hF := itn c_70 hF
          refine lv_iconst (v := 0) hx hb dX8_heavy_27 syi_0 ?_
          refine lv_istore_n (lv' := [(3, .int 0), (2, .int x_69), (0, .ref (ad 0)), (1, .int x_66)]) hx hb dX8_heavy_28 rfl hl (by decide) rfl (fun ls hl => ?_)
          refine lv_iload_n hx hb dX8_heavy_29 rfl (lv_at hl 1 rfl) ?_
          refine lv_iconst (v := 1) hx hb dX8_heavy_30 syi_1 ?_
          refine lv_iadd hx hb dX8_heavy_31 ?_
          refine lv_istore (lv' := [(4, .int (x_69 + 1)), (3, .int 0), (2, .int x_69), (0, .ref (ad 0)), (1, .int x_66)]) hx hb dX8_heavy_32 hl (by decide) rfl (fun ls hl => ?_)
          obtain ⟨xx34, ee34, kk34_0⟩ := bd1L hF
          have k34_0 : ∀ (x_85 : Int32), xx34 = x_85 → ∀ (H : Heap) (locs : List Loc) (ls : Array Slot), MH D vwA A s.heap (mW ad cA a_all a_hasImage a_tape a_fresh v_taped v_at v_behind v_size v_kind v_number v_wrong v_wrongAt v_depth v_steps v_faultKind v_faultPlace a_on a_many v_moved a_pile v_aside v_judgedBy v_judgedYear a_leastCost a_matched a_order a_lies a_movedThen a_yearTable a_yearMark a_beginTable a_beginMark v_statesTold v_found v_yearFrom v_mark v_beginsMark v_begins a_began v_isSpent a_wants a_rowSort a_rowMany a_numbers) H locs → lv_has ls 5 [(0, .ref (ad 0)), (1, .int x_66), (3, .int x_85)] → W p l e rm_X8_heavy s m args below meth c H locs 0 0 Q (F0 m 92 ls []) := by
            intro x_85 hxx H locs ls hH hl
            have hF := un1e (kk34_0 x_85 hxx)
            refine lv_iload_n hx hb dX8_heavy_92 rfl (lv_at hl 2 rfl) ?_
            refine lv_aload_n hx hb dX8_heavy_93 rfl (lv_at hl 0 rfl) ?_
            refine mg_all hX hK hH dX8_heavy_94 ?_
            refine lv_bipush (v := 23) hx hb dX8_heavy_97 syb_23 ?_
            refine lv_iload_n hx hb dX8_heavy_99 rfl (lv_at hl 1 rfl) ?_
            refine lv_iadd hx hb dX8_heavy_100 ?_
            obtain ⟨x_86, he, hF⟩ := bd1e hF
            refine ml_all hX hK hH he dX8_heavy_101 ?_
            refine lv_icmp_le (tgt := 107) hx hb dX8_heavy_102 rfl (fun c_87 => ?_) (fun c_87 => ?_)
            · have hF := itp c_87 hF
              exact j107 hF _ _ _ hH (lv_sub hl [0, 1] rfl)
            · have hF := itn c_87 hF
              obtain rfl := Option.some.inj hF
              exact k2_0 x_66 hY2 _ _ _ hH (lv_sub hl [1] rfl)
          obtain ⟨nn34, en34⟩ := loopC_some ee34
          have l34 : ∀ (n : Nat) (x_77 : Int32) (x_78 : Int32), loopN (fun s => FX8_heavy_b34 a_all x_69 s.1 s.2) n (x_77, x_78) = some xx34 → ∀ (H : Heap) (locs : List Loc) (ls : Array Slot), MH D vwA A s.heap (mW ad cA a_all a_hasImage a_tape a_fresh v_taped v_at v_behind v_size v_kind v_number v_wrong v_wrongAt v_depth v_steps v_faultKind v_faultPlace a_on a_many v_moved a_pile v_aside v_judgedBy v_judgedYear a_leastCost a_matched a_order a_lies a_movedThen a_yearTable a_yearMark a_beginTable a_beginMark v_statesTold v_found v_yearFrom v_mark v_beginsMark v_begins a_began v_isSpent a_wants a_rowSort a_rowMany a_numbers) H locs → lv_has ls 5 [(0, .ref (ad 0)), (1, .int x_66), (2, .int x_69), (3, .int x_77), (4, .int x_78)] → W p l e rm_X8_heavy s m args below meth c H locs 0 0 Q (F0 m 34 ls []) := by
            intro n
            induction n with
            | zero =>
              intro x_77 x_78 hN
              exact absurd hN loopN_zero
            | succ n ih =>
              intro x_77 x_78 hN H locs ls hH hl
              obtain ⟨yy34, hB34, hY34⟩ := loopN_succ hN
              have hF : FX8_heavy_b34 a_all x_69 x_77 x_78 = some yy34 := hB34
              delta FX8_heavy_b34 at hF
              refine lv_iload hx hb dX8_heavy_34 (lv_at hl 4 rfl) ?_
              refine lv_iconst (v := 3) hx hb dX8_heavy_36 syi_3 ?_
              refine lv_iload_n hx hb dX8_heavy_37 rfl (lv_at hl 2 rfl) ?_
              refine lv_iconst (v := 3) hx hb dX8_heavy_38 syi_3 ?_
              refine lv_idiv hx hb dX8_heavy_39 (by decide) ?_
              refine lv_iconst (v := 1) hx hb dX8_heavy_40 syi_1 ?_
              refine lv_iadd hx hb dX8_heavy_41 ?_
              refine lv_imul hx hb dX8_heavy_42 ?_
              refine lv_icmp_ge (tgt := 92) hx hb dX8_heavy_43 rfl (fun c_79 => ?_) (fun c_79 => ?_)
              · have hF := itp c_79 hF
                obtain rfl := Option.some.inj hF
                exact k34_0 x_77 hY34 _ _ _ hH (lv_sub hl [0, 1, 3] rfl)
              · have hF := itn c_79 hF
                refine lv_iload_n hx hb dX8_heavy_46 rfl (lv_at hl 3 rfl) ?_
                refine lv_aload_n hx hb dX8_heavy_47 rfl (lv_at hl 0 rfl) ?_
                refine mg_all hX hK hH dX8_heavy_48 ?_
                refine lv_bipush (v := 80) hx hb dX8_heavy_51 syb_80 ?_
                refine lv_iload hx hb dX8_heavy_53 (lv_at hl 4 rfl) ?_
                refine lv_iadd hx hb dX8_heavy_55 ?_
                obtain ⟨x_80, he, hF⟩ := bd1e hF
                refine ml_all hX hK hH he dX8_heavy_56 ?_
                have j84 : ∀ (x_84 : Int32), FX8_heavy_j84 x_77 x_78 x_84 = some yy34 → ∀ (H : Heap) (locs : List Loc) (ls : Array Slot), MH D vwA A s.heap (mW ad cA a_all a_hasImage a_tape a_fresh v_taped v_at v_behind v_size v_kind v_number v_wrong v_wrongAt v_depth v_steps v_faultKind v_faultPlace a_on a_many v_moved a_pile v_aside v_judgedBy v_judgedYear a_leastCost a_matched a_order a_lies a_movedThen a_yearTable a_yearMark a_beginTable a_beginMark v_statesTold v_found v_yearFrom v_mark v_beginsMark v_begins a_began v_isSpent a_wants a_rowSort a_rowMany a_numbers) H locs → lv_has ls 5 [(0, .ref (ad 0)), (1, .int x_66), (2, .int x_69), (4, .int x_78)] → W p l e rm_X8_heavy s m args below meth c H locs 0 0 Q (F0 m 84 ls [.int x_84, .int x_77]) := by
                  intro x_84 hF H locs ls hH hl
                  delta FX8_heavy_j84 at hF
                  refine lv_iadd hx hb dX8_heavy_84 ?_
                  refine lv_istore_n (lv' := [(3, .int (x_77 + x_84)), (0, .ref (ad 0)), (1, .int x_66), (2, .int x_69), (4, .int x_78)]) hx hb dX8_heavy_85 rfl hl (by decide) rfl (fun ls hl => ?_)
                  refine lv_iinc (v := (x_78 + 1)) (lv' := [(4, .int (x_78 + 1)), (3, .int (x_77 + x_84)), (0, .ref (ad 0)), (1, .int x_66), (2, .int x_69)]) hx hb dX8_heavy_86 hl (k := 4) rfl (syc syi_1) (by decide) rfl (fun ls hl => ?_)
                  refine lv_goto (tgt := 34) hx hb dX8_heavy_89 rfl ?_
                  obtain rfl := Option.some.inj hF
                  exact ih (x_77 + x_84) (x_78 + 1) hY34 _ _ _ hH (lv_sub hl [2, 3, 4, 1, 0] rfl)
                refine lv_if_le (tgt := 83) hx hb dX8_heavy_57 rfl (fun c_81 => ?_) (fun c_81 => ?_)
                · have hF := itp c_81 hF
                  refine lv_iconst (v := 0) hx hb dX8_heavy_83 syi_0 ?_
                  exact j84 0 hF _ _ _ hH (lv_sub hl [0, 1, 2, 4] rfl)
                · have hF := itn c_81 hF
                  refine lv_aload_n hx hb dX8_heavy_60 rfl (lv_at hl 0 rfl) ?_
                  refine mg_all hX hK hH dX8_heavy_61 ?_
                  refine lv_bipush (v := 15) hx hb dX8_heavy_64 syb_15 ?_
                  refine lv_aload_n hx hb dX8_heavy_66 rfl (lv_at hl 0 rfl) ?_
                  refine mg_all hX hK hH dX8_heavy_67 ?_
                  refine lv_bipush (v := 80) hx hb dX8_heavy_70 syb_80 ?_
                  refine lv_iload hx hb dX8_heavy_72 (lv_at hl 4 rfl) ?_
                  refine lv_iadd hx hb dX8_heavy_74 ?_
                  obtain ⟨x_82, he, hF⟩ := bd1e hF
                  refine ml_all hX hK hH he dX8_heavy_75 ?_
                  refine lv_iadd hx hb dX8_heavy_76 ?_
                  refine lv_iconst (v := 1) hx hb dX8_heavy_77 syi_1 ?_
                  refine lv_isub hx hb dX8_heavy_78 ?_
                  obtain ⟨x_83, he, hF⟩ := bd1e hF
                  refine ml_all hX hK hH he dX8_heavy_79 ?_
                  refine lv_goto (tgt := 84) hx hb dX8_heavy_80 rfl ?_
                  exact j84 x_83 hF _ _ _ hH (lv_sub hl [0, 1, 2, 4] rfl)
          exact l34 nn34 0 (x_69 + 1) en34 _ _ _ hH (lv_sub hl [3, 4, 2, 1, 0] rfl)
        · have hF := itp c_70 hF
          refine lv_goto (tgt := 107) hx hb dX8_heavy_24 rfl ?_
          exact j107 hF _ _ _ hH (lv_sub hl [1, 2] rfl)
  exact l2 nn2 0 en2 _ _ _ hH (lv_sub hl [1, 0] rfl)
abbrev rm_X8_rests : Room := { frames := 2, cells := 0, slots := 0, locals := 46 }
set_option maxHeartbeats 4000000 in
theorem met_X8_rests {l : Launch} {D : va_G} {ad : Nat → Nat} {cA : Nat → ClassId} {a_all : Nat → Int32} {a_hasImage : Nat → Int32} {a_tape : Nat → Int32} {a_fresh : Nat → Int32} {v_taped : Int32} {v_at : Int32} {v_behind : Int32} {v_size : Int32} {v_kind : Int32} {v_number : Int32} {v_wrong : Int32} {v_wrongAt : Int32} {v_depth : Int32} {v_steps : Int32} {v_faultKind : Int32} {v_faultPlace : Int32} {a_on : Nat → Int32} {a_many : Nat → Int32} {v_moved : Int32} {a_pile : Nat → Int32} {v_aside : Int32} {v_judgedBy : Int32} {v_judgedYear : Int32} {a_leastCost : Nat → Int32} {a_matched : Nat → Int32} {a_order : Nat → Int32} {a_lies : Nat → Int64} {a_movedThen : Nat → Int32} {a_yearTable : Nat → Int32} {a_yearMark : Nat → Int32} {a_beginTable : Nat → Int32} {a_beginMark : Nat → Int32} {v_statesTold : Int32} {v_found : Int32} {v_yearFrom : Int32} {v_mark : Int32} {v_beginsMark : Int32} {v_begins : Int32} {a_began : Nat → Int64} {v_isSpent : Int32} {a_wants : Nat → Int32} {a_rowSort : Nat → Int32} {a_rowMany : Nat → Int32} {a_numbers : Nat → Int64}  {p1 : Int32} {res : Int32} {ra_on : Nat → Int32} {ra_many : Nat → Int32} {rv_moved : Int32} {ak av fo : Nat} {E : EvT} (hE : EvM E ak av fo) (hF : FX8_rests a_all a_on a_many v_moved v_aside p1 = some (res, ra_on, ra_many, rv_moved)) : MM l yX8_rests (ws_ yX8_rests cX8_rests 2 (Option.some Jvm.ClassFile.FieldType.int)) rm_X8_rests D vwA (mT cA) E [.ref (ad 0), .int p1] (mW ad cA a_all a_hasImage a_tape a_fresh v_taped v_at v_behind v_size v_kind v_number v_wrong v_wrongAt v_depth v_steps v_faultKind v_faultPlace a_on a_many v_moved a_pile v_aside v_judgedBy v_judgedYear a_leastCost a_matched a_order a_lies a_movedThen a_yearTable a_yearMark a_beginTable a_beginMark v_statesTold v_found v_yearFrom v_mark v_beginsMark v_begins a_began v_isSpent a_wants a_rowSort a_rowMany a_numbers) (mW ad cA a_all a_hasImage a_tape a_fresh v_taped v_at v_behind v_size v_kind v_number v_wrong v_wrongAt v_depth v_steps v_faultKind v_faultPlace ra_on ra_many rv_moved a_pile v_aside v_judgedBy v_judgedYear a_leastCost a_matched a_order a_lies a_movedThen a_yearTable a_yearMark a_beginTable a_beginMark v_statesTold v_found v_yearFrom v_mark v_beginsMark v_begins a_began v_isSpent a_wants a_rowSort a_rowMany a_numbers) (some (.int res)) := by
  refine MM.ofI (by decide) (Nat.le_of_ble_eq_true rfl) ?_
  intro p e s m args below meth c Q A hX hK hE0 hret H locs ls hH hl
  have hX : CallFix p m c cX8_rests 2 s args lw_all RX8 := hX
  have hx := hX.1
  have hb := hX.2.1
  have hown := hX.2.2.2.1
  have hts := hX.2.2.2.2
  have hl : lv_has ls 2 [(0, .ref (ad 0)), (1, .int p1)] := hl
  have hEv := hE.1
  delta FX8_rests at hF
  refine lv_aload_n hx hb dX8_rests_0 rfl (lv_at hl 0 rfl) ?_
  refine lv_iconst (v := 0) hx hb dX8_rests_1 syi_0 ?_
  refine mp_thrown hX hK hH dX8_rests_2 (fun H locs hH => ?_)
  refine lv_iload_n hx hb dX8_rests_5 rfl (lv_at hl 1 rfl) ?_
  refine lv_i2l (v := (Int32.toInt64 p1)) hx hb dX8_rests_6 rfl ?_
  refine lv_lconst (v := 0) hx hb dX8_rests_7 rfl ?_
  refine lv_lconst (v := 1) hx hb dX8_rests_8 rfl ?_
  obtain ⟨b_46, he, hF⟩ := bd1e hF
  refine mcS hX hK hEv hE0 hH (met_X8_within hE he) gw_StoneYearModel_153 hd_yX8_within ⟨Nat.le_of_ble_eq_true rfl, Nat.le_of_ble_eq_true rfl⟩ rfl rfl hl (Nat.le_of_ble_eq_true rfl) dX8_rests_9 ⟨Nat.le_of_ble_eq_true rfl, Nat.le_of_ble_eq_true rfl⟩ (fun H locs hH => ?_)
  refine lv_if_ne (tgt := 18) hx hb dX8_rests_12 rfl (fun c_47 => ?_) (fun c_47 => ?_)
  · have hF := itn c_47 hF
    refine lv_aload_n hx hb dX8_rests_18 rfl (lv_at hl 0 rfl) ?_
    obtain ⟨a_on_48, a_many_49, v_moved_50, he, hF⟩ := bd3e hF
    refine mcV hX hK hEv hE0 hH (met_X8_looksNow hE he) (mrecv hK hH) gw_StoneYearModel_260 hd_yX8_looksNow ⟨Nat.le_of_ble_eq_true rfl, Nat.le_of_ble_eq_true rfl⟩ rfl rfl hl (Nat.le_of_ble_eq_true rfl) dX8_rests_19 ⟨Nat.le_of_ble_eq_true rfl, Nat.le_of_ble_eq_true rfl⟩ (fun H locs hH => ?_)
    refine lv_iload_n hx hb dX8_rests_22 rfl (lv_at hl 1 rfl) ?_
    refine lv_if_ne (tgt := 33) hx hb dX8_rests_23 rfl (fun c_51 => ?_) (fun c_51 => ?_)
    · have hF := itn c_51 hF
      refine lv_aload_n hx hb dX8_rests_33 rfl (lv_at hl 0 rfl) ?_
      obtain ⟨x_53, he, hF⟩ := bd1e hF
      refine mcV hX hK hEv hE0 hH (met_X8_brokenMust hE he) (mrecv hK hH) gw_StoneYearModel_244 hd_yX8_brokenMust ⟨Nat.le_of_ble_eq_true rfl, Nat.le_of_ble_eq_true rfl⟩ rfl rfl hl (Nat.le_of_ble_eq_true rfl) dX8_rests_34 ⟨Nat.le_of_ble_eq_true rfl, Nat.le_of_ble_eq_true rfl⟩ (fun H locs hH => ?_)
      obtain ⟨rfl, rfl, rfl, rfl⟩ := re4 hF
      exact hret _ _ _ _ hH dX8_rests_37
    · have hF := itp c_51 hF
      refine lv_aload_n hx hb dX8_rests_26 rfl (lv_at hl 0 rfl) ?_
      obtain ⟨x_52, he, hF⟩ := bd1e hF
      refine mcV hX hK hEv hE0 hH (met_X8_heavy hE he) (mrecv hK hH) gw_StoneYearModel_263 hd_yX8_heavy ⟨Nat.le_of_ble_eq_true rfl, Nat.le_of_ble_eq_true rfl⟩ rfl rfl hl (Nat.le_of_ble_eq_true rfl) dX8_rests_27 ⟨Nat.le_of_ble_eq_true rfl, Nat.le_of_ble_eq_true rfl⟩ (fun H locs hH => ?_)
      refine lv_goto (tgt := 37) hx hb dX8_rests_30 rfl ?_
      obtain ⟨rfl, rfl, rfl, rfl⟩ := re4 hF
      exact hret _ _ _ _ hH dX8_rests_37
  · have hF := itp c_47 hF
    refine lv_bipush (v := (-2)) hx hb dX8_rests_15 syb_m2 ?_
    obtain ⟨rfl, rfl, rfl, rfl⟩ := re4 hF
    exact hret _ _ _ _ hH dX8_rests_17
abbrev rm_X8_bitsOf : Room := { frames := 0, cells := 0, slots := 0, locals := 0 }
set_option maxHeartbeats 4000000 in
theorem met_X8_bitsOf {l : Launch} {D : va_G} {ad : Nat → Nat} {cA : Nat → ClassId} {a_all : Nat → Int32} {a_hasImage : Nat → Int32} {a_tape : Nat → Int32} {a_fresh : Nat → Int32} {v_taped : Int32} {v_at : Int32} {v_behind : Int32} {v_size : Int32} {v_kind : Int32} {v_number : Int32} {v_wrong : Int32} {v_wrongAt : Int32} {v_depth : Int32} {v_steps : Int32} {v_faultKind : Int32} {v_faultPlace : Int32} {a_on : Nat → Int32} {a_many : Nat → Int32} {v_moved : Int32} {a_pile : Nat → Int32} {v_aside : Int32} {v_judgedBy : Int32} {v_judgedYear : Int32} {a_leastCost : Nat → Int32} {a_matched : Nat → Int32} {a_order : Nat → Int32} {a_lies : Nat → Int64} {a_movedThen : Nat → Int32} {a_yearTable : Nat → Int32} {a_yearMark : Nat → Int32} {a_beginTable : Nat → Int32} {a_beginMark : Nat → Int32} {v_statesTold : Int32} {v_found : Int32} {v_yearFrom : Int32} {v_mark : Int32} {v_beginsMark : Int32} {v_begins : Int32} {a_began : Nat → Int64} {v_isSpent : Int32} {a_wants : Nat → Int32} {a_rowSort : Nat → Int32} {a_rowMany : Nat → Int32} {a_numbers : Nat → Int64}  {p0 : Int32} {res : Int32} {ak av fo : Nat} {E : EvT} (hE : EvM E ak av fo) (hF : FX8_bitsOf p0 = some res) : MM l yX8_bitsOf (ws_ yX8_bitsOf cX8_bitsOf 3 (Option.some Jvm.ClassFile.FieldType.int)) rm_X8_bitsOf D vwA (mT cA) E [.int p0] (mW ad cA a_all a_hasImage a_tape a_fresh v_taped v_at v_behind v_size v_kind v_number v_wrong v_wrongAt v_depth v_steps v_faultKind v_faultPlace a_on a_many v_moved a_pile v_aside v_judgedBy v_judgedYear a_leastCost a_matched a_order a_lies a_movedThen a_yearTable a_yearMark a_beginTable a_beginMark v_statesTold v_found v_yearFrom v_mark v_beginsMark v_begins a_began v_isSpent a_wants a_rowSort a_rowMany a_numbers) (mW ad cA a_all a_hasImage a_tape a_fresh v_taped v_at v_behind v_size v_kind v_number v_wrong v_wrongAt v_depth v_steps v_faultKind v_faultPlace a_on a_many v_moved a_pile v_aside v_judgedBy v_judgedYear a_leastCost a_matched a_order a_lies a_movedThen a_yearTable a_yearMark a_beginTable a_beginMark v_statesTold v_found v_yearFrom v_mark v_beginsMark v_begins a_began v_isSpent a_wants a_rowSort a_rowMany a_numbers) (some (.int res)) := by
  refine MM.ofI (by decide) (Nat.le_of_ble_eq_true rfl) ?_
  intro p e s m args below meth c Q A hX hK hE0 hret H locs ls hH hl
  have hX : CallFix p m c cX8_bitsOf 3 s args lw_all RX8 := hX
  have hx := hX.1
  have hb := hX.2.1
  have hown := hX.2.2.2.1
  have hts := hX.2.2.2.2
  have hl : lv_has ls 3 [(0, .int p0)] := hl
  have hEv := hE.1
  delta FX8_bitsOf at hF
  refine lv_iconst (v := 0) hx hb dX8_bitsOf_0 syi_0 ?_
  refine lv_istore_n (lv' := [(1, .int 0), (0, .int p0)]) hx hb dX8_bitsOf_1 rfl hl (by decide) rfl (fun ls hl => ?_)
  refine lv_iconst (v := 0) hx hb dX8_bitsOf_2 syi_0 ?_
  refine lv_istore_n (lv' := [(2, .int 0), (1, .int 0), (0, .int p0)]) hx hb dX8_bitsOf_3 rfl hl (by decide) rfl (fun ls hl => ?_)
  obtain ⟨xx4, ee4, kk4_0⟩ := bd1L hF
  have k4_0 : ∀ (x_50 : Int32), xx4 = x_50 → ∀ (H : Heap) (locs : List Loc) (ls : Array Slot), MH D vwA A s.heap (mW ad cA a_all a_hasImage a_tape a_fresh v_taped v_at v_behind v_size v_kind v_number v_wrong v_wrongAt v_depth v_steps v_faultKind v_faultPlace a_on a_many v_moved a_pile v_aside v_judgedBy v_judgedYear a_leastCost a_matched a_order a_lies a_movedThen a_yearTable a_yearMark a_beginTable a_beginMark v_statesTold v_found v_yearFrom v_mark v_beginsMark v_begins a_began v_isSpent a_wants a_rowSort a_rowMany a_numbers) H locs → lv_has ls 3 [(1, .int x_50)] → W p l e rm_X8_bitsOf s m args below meth c H locs 0 0 Q (F0 m 24 ls []) := by
    intro x_50 hxx H locs ls hH hl
    have hF := un1e (kk4_0 x_50 hxx)
    refine lv_iload_n hx hb dX8_bitsOf_24 rfl (lv_at hl 0 rfl) ?_
    obtain rfl := Option.some.inj hF
    exact hret _ _ _ _ hH dX8_bitsOf_25
  obtain ⟨nn4, en4⟩ := loopC_some ee4
  have l4 : ∀ (n : Nat) (x_47 : Int32) (x_48 : Int32), loopN (fun s => FX8_bitsOf_b4 p0 s.1 s.2) n (x_47, x_48) = some xx4 → ∀ (H : Heap) (locs : List Loc) (ls : Array Slot), MH D vwA A s.heap (mW ad cA a_all a_hasImage a_tape a_fresh v_taped v_at v_behind v_size v_kind v_number v_wrong v_wrongAt v_depth v_steps v_faultKind v_faultPlace a_on a_many v_moved a_pile v_aside v_judgedBy v_judgedYear a_leastCost a_matched a_order a_lies a_movedThen a_yearTable a_yearMark a_beginTable a_beginMark v_statesTold v_found v_yearFrom v_mark v_beginsMark v_begins a_began v_isSpent a_wants a_rowSort a_rowMany a_numbers) H locs → lv_has ls 3 [(0, .int p0), (1, .int x_47), (2, .int x_48)] → W p l e rm_X8_bitsOf s m args below meth c H locs 0 0 Q (F0 m 4 ls []) := by
    intro n
    induction n with
    | zero =>
      intro x_47 x_48 hN
      exact absurd hN loopN_zero
    | succ n ih =>
      intro x_47 x_48 hN H locs ls hH hl
      obtain ⟨yy4, hB4, hY4⟩ := loopN_succ hN
      have hF : FX8_bitsOf_b4 p0 x_47 x_48 = some yy4 := hB4
      delta FX8_bitsOf_b4 at hF
      refine lv_iload_n hx hb dX8_bitsOf_4 rfl (lv_at hl 2 rfl) ?_
      refine lv_bipush (v := 16) hx hb dX8_bitsOf_5 syb_16 ?_
      refine lv_icmp_ge (tgt := 24) hx hb dX8_bitsOf_7 rfl (fun c_49 => ?_) (fun c_49 => ?_)
      · have hF := itp c_49 hF
        obtain rfl := Option.some.inj hF
        exact k4_0 x_47 hY4 _ _ _ hH (lv_sub hl [1] rfl)
      · have hF := itn c_49 hF
        refine lv_iload_n hx hb dX8_bitsOf_10 rfl (lv_at hl 1 rfl) ?_
        refine lv_iload_n hx hb dX8_bitsOf_11 rfl (lv_at hl 0 rfl) ?_
        refine lv_iload_n hx hb dX8_bitsOf_12 rfl (lv_at hl 2 rfl) ?_
        refine lv_ishr hx hb dX8_bitsOf_13 ?_
        refine lv_iconst (v := 1) hx hb dX8_bitsOf_14 syi_1 ?_
        refine lv_iand hx hb dX8_bitsOf_15 ?_
        refine lv_iadd hx hb dX8_bitsOf_16 ?_
        refine lv_istore_n (lv' := [(1, .int (x_47 + ((p0 >>> (x_48 &&& 31)) &&& 1))), (0, .int p0), (2, .int x_48)]) hx hb dX8_bitsOf_17 rfl hl (by decide) rfl (fun ls hl => ?_)
        refine lv_iinc (v := (x_48 + 1)) (lv' := [(2, .int (x_48 + 1)), (1, .int (x_47 + ((p0 >>> (x_48 &&& 31)) &&& 1))), (0, .int p0)]) hx hb dX8_bitsOf_18 hl (k := 2) rfl (syc syi_1) (by decide) rfl (fun ls hl => ?_)
        refine lv_goto (tgt := 4) hx hb dX8_bitsOf_21 rfl ?_
        obtain rfl := Option.some.inj hF
        exact ih (x_47 + ((p0 >>> (x_48 &&& 31)) &&& 1)) (x_48 + 1) hY4 _ _ _ hH (lv_sub hl [2, 1, 0] rfl)
  exact l4 nn4 0 0 en4 _ _ _ hH (lv_sub hl [2, 1, 0] rfl)
abbrev rm_X8_fact : Room := { frames := 0, cells := 0, slots := 0, locals := 0 }
set_option maxHeartbeats 4000000 in
theorem met_X8_fact {l : Launch} {D : va_G} {ad : Nat → Nat} {cA : Nat → ClassId} {a_all : Nat → Int32} {a_hasImage : Nat → Int32} {a_tape : Nat → Int32} {a_fresh : Nat → Int32} {v_taped : Int32} {v_at : Int32} {v_behind : Int32} {v_size : Int32} {v_kind : Int32} {v_number : Int32} {v_wrong : Int32} {v_wrongAt : Int32} {v_depth : Int32} {v_steps : Int32} {v_faultKind : Int32} {v_faultPlace : Int32} {a_on : Nat → Int32} {a_many : Nat → Int32} {v_moved : Int32} {a_pile : Nat → Int32} {v_aside : Int32} {v_judgedBy : Int32} {v_judgedYear : Int32} {a_leastCost : Nat → Int32} {a_matched : Nat → Int32} {a_order : Nat → Int32} {a_lies : Nat → Int64} {a_movedThen : Nat → Int32} {a_yearTable : Nat → Int32} {a_yearMark : Nat → Int32} {a_beginTable : Nat → Int32} {a_beginMark : Nat → Int32} {v_statesTold : Int32} {v_found : Int32} {v_yearFrom : Int32} {v_mark : Int32} {v_beginsMark : Int32} {v_begins : Int32} {a_began : Nat → Int64} {v_isSpent : Int32} {a_wants : Nat → Int32} {a_rowSort : Nat → Int32} {a_rowMany : Nat → Int32} {a_numbers : Nat → Int64}  {p1 : Int32} {p2 : Int32} {p3 : Int32} {p4 : Int32} {p5 : Int32} {p6 : Int32} {p7 : Int32} {res : Bool} {ak av fo : Nat} {E : EvT} (hE : EvM E ak av fo) (hF : FX8_fact a_all p1 p2 p3 p4 p5 p6 p7 = some res) : MM l yX8_fact (ws_ yX8_fact cX8_fact 8 (Option.some Jvm.ClassFile.FieldType.boolean)) rm_X8_fact D vwA (mT cA) E [.ref (ad 0), .int p1, .int p2, .int p3, .int p4, .int p5, .int p6, .int p7] (mW ad cA a_all a_hasImage a_tape a_fresh v_taped v_at v_behind v_size v_kind v_number v_wrong v_wrongAt v_depth v_steps v_faultKind v_faultPlace a_on a_many v_moved a_pile v_aside v_judgedBy v_judgedYear a_leastCost a_matched a_order a_lies a_movedThen a_yearTable a_yearMark a_beginTable a_beginMark v_statesTold v_found v_yearFrom v_mark v_beginsMark v_begins a_began v_isSpent a_wants a_rowSort a_rowMany a_numbers) (mW ad cA a_all a_hasImage a_tape a_fresh v_taped v_at v_behind v_size v_kind v_number v_wrong v_wrongAt v_depth v_steps v_faultKind v_faultPlace a_on a_many v_moved a_pile v_aside v_judgedBy v_judgedYear a_leastCost a_matched a_order a_lies a_movedThen a_yearTable a_yearMark a_beginTable a_beginMark v_statesTold v_found v_yearFrom v_mark v_beginsMark v_begins a_began v_isSpent a_wants a_rowSort a_rowMany a_numbers) (some (.int (b2i res))) := by
  refine MM.ofZ (by decide) (Nat.le_of_ble_eq_true rfl) ?_
  intro p e s m args below meth c Q A hX hK hE0 hret H locs ls hH hl
  have hX : CallFix p m c cX8_fact 8 s args lw_all RX8 := hX
  have hx := hX.1
  have hb := hX.2.1
  have hown := hX.2.2.2.1
  have hts := hX.2.2.2.2
  have hl : lv_has ls 8 [(0, .ref (ad 0)), (1, .int p1), (2, .int p2), (3, .int p3), (4, .int p4), (5, .int p5), (6, .int p6), (7, .int p7)] := hl
  have hEv := hE.1
  delta FX8_fact at hF
  refine lv_iload_n hx hb dX8_fact_0 rfl (lv_at hl 1 rfl) ?_
  by_cases c_52_2 : p1 = 2
  · have hF := itp c_52_2 hF
    refine lv_lookup (tgt := 71) hx hb dX8_fact_1 (by decide) (by first | (rw [c_52_2]; done) | (rw [c_52_2]; rfl)) rfl ?_
    refine lv_aload_n hx hb dX8_fact_71 rfl (lv_at hl 0 rfl) ?_
    refine mg_all hX hK hH dX8_fact_72 ?_
    refine lv_bipush (v := 15) hx hb dX8_fact_75 syb_15 ?_
    refine lv_iload_n hx hb dX8_fact_77 rfl (lv_at hl 3 rfl) ?_
    refine lv_iadd hx hb dX8_fact_78 ?_
    obtain ⟨x_59, he, hF⟩ := bd1e hF
    refine ml_all hX hK hH he dX8_fact_79 ?_
    refine lv_iload_n hx hb dX8_fact_80 rfl (lv_at hl 2 rfl) ?_
    refine lv_icmp_lt (tgt := 88) hx hb dX8_fact_81 rfl (fun c_60 => ?_) (fun c_60 => ?_)
    · have hF := itp c_60 hF
      refine lv_iconst (v := 0) hx hb dX8_fact_88 syi_0 ?_
      obtain rfl := Option.some.inj hF
      exact hret _ _ _ _ hH dX8_fact_89
    · have hF := itn c_60 hF
      refine lv_iconst (v := 1) hx hb dX8_fact_84 syi_1 ?_
      refine lv_goto (tgt := 89) hx hb dX8_fact_85 rfl ?_
      obtain rfl := Option.some.inj hF
      exact hret _ _ _ _ hH dX8_fact_89
  · have hF := itn c_52_2 hF
    by_cases c_52_19 : p1 = 19
    · have hF := itp c_52_19 hF
      refine lv_lookup (tgt := 52) hx hb dX8_fact_1 (by decide) (by first | (rw [c_52_19]; done) | (rw [c_52_19]; rfl)) rfl ?_
      refine lv_aload_n hx hb dX8_fact_52 rfl (lv_at hl 0 rfl) ?_
      refine mg_all hX hK hH dX8_fact_53 ?_
      refine lv_bipush (v := 7) hx hb dX8_fact_56 syb_7 ?_
      refine lv_iload_n hx hb dX8_fact_58 rfl (lv_at hl 3 rfl) ?_
      refine lv_iadd hx hb dX8_fact_59 ?_
      obtain ⟨x_57, he, hF⟩ := bd1e hF
      refine ml_all hX hK hH he dX8_fact_60 ?_
      refine lv_iload_n hx hb dX8_fact_61 rfl (lv_at hl 2 rfl) ?_
      refine lv_icmp_ne (tgt := 69) hx hb dX8_fact_62 rfl (fun c_58 => ?_) (fun c_58 => ?_)
      · have hF := itn c_58 hF
        refine lv_iconst (v := 0) hx hb dX8_fact_69 syi_0 ?_
        obtain rfl := Option.some.inj hF
        exact hret _ _ _ _ hH dX8_fact_70
      · have hF := itp c_58 hF
        refine lv_iconst (v := 1) hx hb dX8_fact_65 syi_1 ?_
        refine lv_goto (tgt := 70) hx hb dX8_fact_66 rfl ?_
        obtain rfl := Option.some.inj hF
        exact hret _ _ _ _ hH dX8_fact_70
    · have hF := itn c_52_19 hF
      by_cases c_52_20 : p1 = 20
      · have hF := itp c_52_20 hF
        refine lv_lookup (tgt := 90) hx hb dX8_fact_1 (by decide) (by first | (rw [c_52_20]; done) | (rw [c_52_20]; rfl)) rfl ?_
        refine lv_iload hx hb dX8_fact_90 (lv_at hl 4 rfl) ?_
        refine lv_iload_n hx hb dX8_fact_92 rfl (lv_at hl 2 rfl) ?_
        refine lv_icmp_ne (tgt := 100) hx hb dX8_fact_93 rfl (fun c_56 => ?_) (fun c_56 => ?_)
        · have hF := itn c_56 hF
          refine lv_iconst (v := 0) hx hb dX8_fact_100 syi_0 ?_
          obtain rfl := Option.some.inj hF
          exact hret _ _ _ _ hH dX8_fact_101
        · have hF := itp c_56 hF
          refine lv_iconst (v := 1) hx hb dX8_fact_96 syi_1 ?_
          refine lv_goto (tgt := 101) hx hb dX8_fact_97 rfl ?_
          obtain rfl := Option.some.inj hF
          exact hret _ _ _ _ hH dX8_fact_101
      · have hF := itn c_52_20 hF
        by_cases c_52_21 : p1 = 21
        · have hF := itp c_52_21 hF
          refine lv_lookup (tgt := 102) hx hb dX8_fact_1 (by decide) (by first | (rw [c_52_21]; done) | (rw [c_52_21]; rfl)) rfl ?_
          refine lv_iload hx hb dX8_fact_102 (lv_at hl 5 rfl) ?_
          refine lv_iload_n hx hb dX8_fact_104 rfl (lv_at hl 2 rfl) ?_
          refine lv_icmp_ne (tgt := 112) hx hb dX8_fact_105 rfl (fun c_55 => ?_) (fun c_55 => ?_)
          · have hF := itn c_55 hF
            refine lv_iconst (v := 0) hx hb dX8_fact_112 syi_0 ?_
            obtain rfl := Option.some.inj hF
            exact hret _ _ _ _ hH dX8_fact_113
          · have hF := itp c_55 hF
            refine lv_iconst (v := 1) hx hb dX8_fact_108 syi_1 ?_
            refine lv_goto (tgt := 113) hx hb dX8_fact_109 rfl ?_
            obtain rfl := Option.some.inj hF
            exact hret _ _ _ _ hH dX8_fact_113
        · have hF := itn c_52_21 hF
          by_cases c_52_22 : p1 = 22
          · have hF := itp c_52_22 hF
            refine lv_lookup (tgt := 114) hx hb dX8_fact_1 (by decide) (by first | (rw [c_52_22]; done) | (rw [c_52_22]; rfl)) rfl ?_
            refine lv_iload hx hb dX8_fact_114 (lv_at hl 6 rfl) ?_
            refine lv_iload_n hx hb dX8_fact_116 rfl (lv_at hl 2 rfl) ?_
            refine lv_icmp_lt (tgt := 124) hx hb dX8_fact_117 rfl (fun c_54 => ?_) (fun c_54 => ?_)
            · have hF := itp c_54 hF
              refine lv_iconst (v := 0) hx hb dX8_fact_124 syi_0 ?_
              obtain rfl := Option.some.inj hF
              exact hret _ _ _ _ hH dX8_fact_125
            · have hF := itn c_54 hF
              refine lv_iconst (v := 1) hx hb dX8_fact_120 syi_1 ?_
              refine lv_goto (tgt := 125) hx hb dX8_fact_121 rfl ?_
              obtain rfl := Option.some.inj hF
              exact hret _ _ _ _ hH dX8_fact_125
          · have hF := itn c_52_22 hF
            refine lv_lookup (tgt := 126) hx hb dX8_fact_1 (by decide) ((lv_osw c_52_2 (by decide)).trans ((lv_osw c_52_19 (by decide)).trans ((lv_osw c_52_20 (by decide)).trans ((lv_osw c_52_21 (by decide)).trans ((lv_osw c_52_22 (by decide)).trans rfl))))) rfl ?_
            refine lv_iload hx hb dX8_fact_126 (lv_at hl 7 rfl) ?_
            refine lv_iload_n hx hb dX8_fact_128 rfl (lv_at hl 2 rfl) ?_
            refine lv_icmp_lt (tgt := 136) hx hb dX8_fact_129 rfl (fun c_53 => ?_) (fun c_53 => ?_)
            · have hF := itp c_53 hF
              refine lv_iconst (v := 0) hx hb dX8_fact_136 syi_0 ?_
              obtain rfl := Option.some.inj hF
              exact hret _ _ _ _ hH dX8_fact_137
            · have hF := itn c_53 hF
              refine lv_iconst (v := 1) hx hb dX8_fact_132 syi_1 ?_
              refine lv_goto (tgt := 137) hx hb dX8_fact_133 rfl ?_
              obtain rfl := Option.some.inj hF
              exact hret _ _ _ _ hH dX8_fact_137
abbrev rm_X8_isBarred : Room := { frames := 1, cells := 0, slots := 0, locals := 27 }
set_option maxHeartbeats 4000000 in
theorem met_X8_isBarred {l : Launch} {D : va_G} {ad : Nat → Nat} {cA : Nat → ClassId} {a_all : Nat → Int32} {a_hasImage : Nat → Int32} {a_tape : Nat → Int32} {a_fresh : Nat → Int32} {v_taped : Int32} {v_at : Int32} {v_behind : Int32} {v_size : Int32} {v_kind : Int32} {v_number : Int32} {v_wrong : Int32} {v_wrongAt : Int32} {v_depth : Int32} {v_steps : Int32} {v_faultKind : Int32} {v_faultPlace : Int32} {a_on : Nat → Int32} {a_many : Nat → Int32} {v_moved : Int32} {a_pile : Nat → Int32} {v_aside : Int32} {v_judgedBy : Int32} {v_judgedYear : Int32} {a_leastCost : Nat → Int32} {a_matched : Nat → Int32} {a_order : Nat → Int32} {a_lies : Nat → Int64} {a_movedThen : Nat → Int32} {a_yearTable : Nat → Int32} {a_yearMark : Nat → Int32} {a_beginTable : Nat → Int32} {a_beginMark : Nat → Int32} {v_statesTold : Int32} {v_found : Int32} {v_yearFrom : Int32} {v_mark : Int32} {v_beginsMark : Int32} {v_begins : Int32} {a_began : Nat → Int64} {v_isSpent : Int32} {a_wants : Nat → Int32} {a_rowSort : Nat → Int32} {a_rowMany : Nat → Int32} {a_numbers : Nat → Int64}  {p1 : Int32} {p2 : Int32} {p3 : Int32} {p4 : Int32} {p5 : Int32} {res : Bool} {ra_pile : Nat → Int32} {ak av fo : Nat} {E : EvT} (hE : EvM E ak av fo) (hF : FX8_isBarred a_all a_pile p1 p2 p3 p4 p5 = some (res, ra_pile)) : MM l yX8_isBarred (ws_ yX8_isBarred cX8_isBarred 10 (Option.some Jvm.ClassFile.FieldType.boolean)) rm_X8_isBarred D vwA (mT cA) E [.ref (ad 0), .int p1, .int p2, .int p3, .int p4, .int p5] (mW ad cA a_all a_hasImage a_tape a_fresh v_taped v_at v_behind v_size v_kind v_number v_wrong v_wrongAt v_depth v_steps v_faultKind v_faultPlace a_on a_many v_moved a_pile v_aside v_judgedBy v_judgedYear a_leastCost a_matched a_order a_lies a_movedThen a_yearTable a_yearMark a_beginTable a_beginMark v_statesTold v_found v_yearFrom v_mark v_beginsMark v_begins a_began v_isSpent a_wants a_rowSort a_rowMany a_numbers) (mW ad cA a_all a_hasImage a_tape a_fresh v_taped v_at v_behind v_size v_kind v_number v_wrong v_wrongAt v_depth v_steps v_faultKind v_faultPlace a_on a_many v_moved ra_pile v_aside v_judgedBy v_judgedYear a_leastCost a_matched a_order a_lies a_movedThen a_yearTable a_yearMark a_beginTable a_beginMark v_statesTold v_found v_yearFrom v_mark v_beginsMark v_begins a_began v_isSpent a_wants a_rowSort a_rowMany a_numbers) (some (.int (b2i res))) := by
  refine MM.ofZ (by decide) (Nat.le_of_ble_eq_true rfl) ?_
  intro p e s m args below meth c Q A hX hK hE0 hret H locs ls hH hl
  have hX : CallFix p m c cX8_isBarred 10 s args lw_all RX8 := hX
  have hx := hX.1
  have hb := hX.2.1
  have hown := hX.2.2.2.1
  have hts := hX.2.2.2.2
  have hl : lv_has ls 10 [(0, .ref (ad 0)), (1, .int p1), (2, .int p2), (3, .int p3), (4, .int p4), (5, .int p5)] := hl
  have hEv := hE.1
  delta FX8_isBarred at hF
  refine lv_iconst (v := 0) hx hb dX8_isBarred_0 syi_0 ?_
  refine lv_istore (lv' := [(6, .int 0), (0, .ref (ad 0)), (1, .int p1), (2, .int p2), (3, .int p3), (4, .int p4), (5, .int p5)]) hx hb dX8_isBarred_1 hl (by decide) rfl (fun ls hl => ?_)
  obtain ⟨xx3, ee3, kk3_0, kk3_1⟩ := bdS2e hF
  have k3_0 : ∀ (a_pile_174 : Nat → Int32), xx3 = (.inl a_pile_174) → ∀ (H : Heap) (locs : List Loc) (ls : Array Slot), MH D vwA A s.heap (mW ad cA a_all a_hasImage a_tape a_fresh v_taped v_at v_behind v_size v_kind v_number v_wrong v_wrongAt v_depth v_steps v_faultKind v_faultPlace a_on a_many v_moved a_pile_174 v_aside v_judgedBy v_judgedYear a_leastCost a_matched a_order a_lies a_movedThen a_yearTable a_yearMark a_beginTable a_beginMark v_statesTold v_found v_yearFrom v_mark v_beginsMark v_begins a_began v_isSpent a_wants a_rowSort a_rowMany a_numbers) H locs → lv_has ls 10 [] → W p l e rm_X8_isBarred s m args below meth c H locs 0 0 Q (F0 m 242 ls []) := by
    intro a_pile_174 hxx H locs ls hH hl
    have hF := un1e (kk3_0 a_pile_174 hxx)
    refine lv_iconst (v := 1) hx hb dX8_isBarred_242 syi_1 ?_
    obtain ⟨rfl, rfl⟩ := re2 hF
    exact hret _ _ _ _ hH dX8_isBarred_243
  have k3_1 : ∀ (a_pile_175 : Nat → Int32), xx3 = (.inr a_pile_175) → ∀ (H : Heap) (locs : List Loc) (ls : Array Slot), MH D vwA A s.heap (mW ad cA a_all a_hasImage a_tape a_fresh v_taped v_at v_behind v_size v_kind v_number v_wrong v_wrongAt v_depth v_steps v_faultKind v_faultPlace a_on a_many v_moved a_pile_175 v_aside v_judgedBy v_judgedYear a_leastCost a_matched a_order a_lies a_movedThen a_yearTable a_yearMark a_beginTable a_beginMark v_statesTold v_found v_yearFrom v_mark v_beginsMark v_begins a_began v_isSpent a_wants a_rowSort a_rowMany a_numbers) H locs → lv_has ls 10 [] → W p l e rm_X8_isBarred s m args below meth c H locs 0 0 Q (F0 m 250 ls []) := by
    intro a_pile_175 hxx H locs ls hH hl
    have hF := un1e (kk3_1 a_pile_175 hxx)
    refine lv_iconst (v := 0) hx hb dX8_isBarred_250 syi_0 ?_
    obtain ⟨rfl, rfl⟩ := re2 hF
    exact hret _ _ _ _ hH dX8_isBarred_251
  obtain ⟨nn3, en3⟩ := loopC_some ee3
  have l3 : ∀ (n : Nat) (x_111 : Int32) (a_pile_112 : Nat → Int32), loopN (fun s => FX8_isBarred_b3 a_all p1 p2 p3 p4 p5 s.1 s.2) n (x_111, a_pile_112) = some xx3 → ∀ (H : Heap) (locs : List Loc) (ls : Array Slot), MH D vwA A s.heap (mW ad cA a_all a_hasImage a_tape a_fresh v_taped v_at v_behind v_size v_kind v_number v_wrong v_wrongAt v_depth v_steps v_faultKind v_faultPlace a_on a_many v_moved a_pile_112 v_aside v_judgedBy v_judgedYear a_leastCost a_matched a_order a_lies a_movedThen a_yearTable a_yearMark a_beginTable a_beginMark v_statesTold v_found v_yearFrom v_mark v_beginsMark v_begins a_began v_isSpent a_wants a_rowSort a_rowMany a_numbers) H locs → lv_has ls 10 [(0, .ref (ad 0)), (1, .int p1), (2, .int p2), (3, .int p3), (4, .int p4), (5, .int p5), (6, .int x_111)] → W p l e rm_X8_isBarred s m args below meth c H locs 0 0 Q (F0 m 3 ls []) := by
    intro n
    induction n with
    | zero =>
      intro x_111 a_pile_112 hN
      exact absurd hN loopN_zero
    | succ n ih =>
      intro x_111 a_pile_112 hN H locs ls hH hl
      obtain ⟨yy3, hB3, hY3⟩ := loopN_succ hN
      have hF : FX8_isBarred_b3 a_all p1 p2 p3 p4 p5 x_111 a_pile_112 = some yy3 := hB3
      delta FX8_isBarred_b3 at hF
      refine lv_iload hx hb dX8_isBarred_3 (lv_at hl 6 rfl) ?_
      refine lv_aload_n hx hb dX8_isBarred_5 rfl (lv_at hl 0 rfl) ?_
      refine mg_all hX hK hH dX8_isBarred_6 ?_
      refine lv_bipush (v := 114) hx hb dX8_isBarred_9 syb_114 ?_
      obtain ⟨x_113, he, hF⟩ := bd1e hF
      refine ml_all hX hK hH he dX8_isBarred_11 ?_
      refine lv_icmp_ge (tgt := 250) hx hb dX8_isBarred_12 rfl (fun c_114 => ?_) (fun c_114 => ?_)
      · have hF := itp c_114 hF
        obtain rfl := Option.some.inj hF
        exact k3_1 a_pile_112 hY3 _ _ _ hH (lv_sub hl [] rfl)
      · have hF := itn c_114 hF
        refine lv_iconst (v := 0) hx hb dX8_isBarred_15 syi_0 ?_
        refine lv_istore (lv' := [(7, .int 0), (0, .ref (ad 0)), (1, .int p1), (2, .int p2), (3, .int p3), (4, .int p4), (5, .int p5), (6, .int x_111)]) hx hb dX8_isBarred_16 hl (by decide) rfl (fun ls hl => ?_)
        refine lv_aload_n hx hb dX8_isBarred_18 rfl (lv_at hl 1 rfl) ?_
        refine mg_all hX hK hH dX8_isBarred_19 ?_
        refine lv_bipush (v := 115) hx hb dX8_isBarred_22 syb_115 ?_
        refine lv_iload hx hb dX8_isBarred_24 (lv_at hl 7 rfl) ?_
        refine lv_iadd hx hb dX8_isBarred_26 ?_
        obtain ⟨x_115, he, hF⟩ := bd1e hF
        refine ml_all hX hK hH he dX8_isBarred_27 ?_
        refine lv_istore (lv' := [(8, .int x_115), (7, .int 0), (0, .ref (ad 0)), (1, .int p1), (2, .int p2), (3, .int p3), (4, .int p4), (5, .int p5), (6, .int x_111)]) hx hb dX8_isBarred_28 hl (by decide) rfl (fun ls hl => ?_)
        obtain ⟨xx30, ee30, kk30_0⟩ := bd1L hF
        have k30_0 : ∀ (a_pile_171 : Nat → Int32), xx30 = a_pile_171 → ∀ (H : Heap) (locs : List Loc) (ls : Array Slot), MH D vwA A s.heap (mW ad cA a_all a_hasImage a_tape a_fresh v_taped v_at v_behind v_size v_kind v_number v_wrong v_wrongAt v_depth v_steps v_faultKind v_faultPlace a_on a_many v_moved a_pile_171 v_aside v_judgedBy v_judgedYear a_leastCost a_matched a_order a_lies a_movedThen a_yearTable a_yearMark a_beginTable a_beginMark v_statesTold v_found v_yearFrom v_mark v_beginsMark v_begins a_began v_isSpent a_wants a_rowSort a_rowMany a_numbers) H locs → lv_has ls 10 [(0, .ref (ad 0)), (1, .int p1), (2, .int p2), (3, .int p3), (4, .int p4), (5, .int p5), (6, .int x_111)] → W p l e rm_X8_isBarred s m args below meth c H locs 0 0 Q (F0 m 233 ls []) := by
          intro a_pile_171 hxx H locs ls hH hl
          have hF := un1e (kk30_0 a_pile_171 hxx)
          refine lv_aload_n hx hb dX8_isBarred_233 rfl (lv_at hl 0 rfl) ?_
          refine mg_pile hX hK hH dX8_isBarred_234 ?_
          refine lv_iconst (v := 0) hx hb dX8_isBarred_237 syi_0 ?_
          obtain ⟨x_172, he, hF⟩ := bd1e hF
          refine ml_pile hX hK hH he dX8_isBarred_238 ?_
          refine lv_if_eq (tgt := 244) hx hb dX8_isBarred_239 rfl (fun c_173 => ?_) (fun c_173 => ?_)
          · have hF := itp c_173 hF
            refine lv_iinc (v := (x_111 + 1)) (lv' := [(6, .int (x_111 + 1)), (0, .ref (ad 0)), (1, .int p1), (2, .int p2), (3, .int p3), (4, .int p4), (5, .int p5)]) hx hb dX8_isBarred_244 hl (k := 6) rfl (syc syi_1) (by decide) rfl (fun ls hl => ?_)
            refine lv_goto (tgt := 3) hx hb dX8_isBarred_247 rfl ?_
            obtain rfl := Option.some.inj hF
            exact ih (x_111 + 1) a_pile_171 hY3 _ _ _ hH (lv_sub hl [1, 2, 3, 4, 5, 6, 0] rfl)
          · have hF := itn c_173 hF
            obtain rfl := Option.some.inj hF
            exact k3_0 a_pile_171 hY3 _ _ _ hH (lv_sub hl [] rfl)
        obtain ⟨nn30, en30⟩ := loopC_some ee30
        have l30 : ∀ (n : Nat) (x_142 : Int32) (x_143 : Int32) (a_pile_144 : Nat → Int32), loopN (fun s => FX8_isBarred_b30 a_all p1 p2 p3 p4 p5 x_111 s.1 s.2.1 s.2.2) n (x_142, x_143, a_pile_144) = some xx30 → ∀ (H : Heap) (locs : List Loc) (ls : Array Slot), MH D vwA A s.heap (mW ad cA a_all a_hasImage a_tape a_fresh v_taped v_at v_behind v_size v_kind v_number v_wrong v_wrongAt v_depth v_steps v_faultKind v_faultPlace a_on a_many v_moved a_pile_144 v_aside v_judgedBy v_judgedYear a_leastCost a_matched a_order a_lies a_movedThen a_yearTable a_yearMark a_beginTable a_beginMark v_statesTold v_found v_yearFrom v_mark v_beginsMark v_begins a_began v_isSpent a_wants a_rowSort a_rowMany a_numbers) H locs → lv_has ls 10 [(0, .ref (ad 0)), (1, .int p1), (2, .int p2), (3, .int p3), (4, .int p4), (5, .int p5), (6, .int x_111), (7, .int x_142), (8, .int x_143)] → W p l e rm_X8_isBarred s m args below meth c H locs 0 0 Q (F0 m 30 ls []) := by
          intro n
          induction n with
          | zero =>
            intro x_142 x_143 a_pile_144 hN
            exact absurd hN loopN_zero
          | succ n ih =>
            intro x_142 x_143 a_pile_144 hN H locs ls hH hl
            obtain ⟨yy30, hB30, hY30⟩ := loopN_succ hN
            have hF : FX8_isBarred_b30 a_all p1 p2 p3 p4 p5 x_111 x_142 x_143 a_pile_144 = some yy30 := hB30
            delta FX8_isBarred_b30 at hF
            refine lv_iload hx hb dX8_isBarred_30 (lv_at hl 8 rfl) ?_
            refine lv_aload_n hx hb dX8_isBarred_32 rfl (lv_at hl 0 rfl) ?_
            refine mg_all hX hK hH dX8_isBarred_33 ?_
            refine lv_bipush (v := 123) hx hb dX8_isBarred_36 syb_123 ?_
            refine lv_iload hx hb dX8_isBarred_38 (lv_at hl 6 rfl) ?_
            refine lv_iadd hx hb dX8_isBarred_40 ?_
            obtain ⟨x_145, he, hF⟩ := bd1e hF
            refine ml_all hX hK hH he dX8_isBarred_41 ?_
            refine lv_icmp_ge (tgt := 233) hx hb dX8_isBarred_42 rfl (fun c_146 => ?_) (fun c_146 => ?_)
            · have hF := itp c_146 hF
              obtain rfl := Option.some.inj hF
              exact k30_0 a_pile_144 hY30 _ _ _ hH (lv_sub hl [0, 1, 2, 3, 4, 5, 6] rfl)
            · have hF := itn c_146 hF
              refine lv_aload_n hx hb dX8_isBarred_45 rfl (lv_at hl 0 rfl) ?_
              refine mg_all hX hK hH dX8_isBarred_46 ?_
              refine lv_sipush (v := 131) hx hb dX8_isBarred_49 sys_131 ?_
              refine lv_iconst (v := 2) hx hb dX8_isBarred_52 syi_2 ?_
              refine lv_iload hx hb dX8_isBarred_53 (lv_at hl 8 rfl) ?_
              refine lv_imul hx hb dX8_isBarred_55 ?_
              refine lv_iadd hx hb dX8_isBarred_56 ?_
              obtain ⟨x_147, he, hF⟩ := bd1e hF
              refine ml_all hX hK hH he dX8_isBarred_57 ?_
              refine lv_istore (lv' := [(9, .int x_147), (0, .ref (ad 0)), (1, .int p1), (2, .int p2), (3, .int p3), (4, .int p4), (5, .int p5), (6, .int x_111), (7, .int x_142), (8, .int x_143)]) hx hb dX8_isBarred_58 hl (by decide) rfl (fun ls hl => ?_)
              refine lv_iload hx hb dX8_isBarred_60 (lv_at hl 0 rfl) ?_
              refine lv_bipush (v := 18) hx hb dX8_isBarred_62 syb_18 ?_
              have j227 : ∀ (x_169 : Int32) (a_pile_170 : Nat → Int32), FX8_isBarred_j227 x_143 x_169 a_pile_170 = some yy30 → ∀ (H : Heap) (locs : List Loc) (ls : Array Slot), MH D vwA A s.heap (mW ad cA a_all a_hasImage a_tape a_fresh v_taped v_at v_behind v_size v_kind v_number v_wrong v_wrongAt v_depth v_steps v_faultKind v_faultPlace a_on a_many v_moved a_pile_170 v_aside v_judgedBy v_judgedYear a_leastCost a_matched a_order a_lies a_movedThen a_yearTable a_yearMark a_beginTable a_beginMark v_statesTold v_found v_yearFrom v_mark v_beginsMark v_begins a_began v_isSpent a_wants a_rowSort a_rowMany a_numbers) H locs → lv_has ls 10 [(0, .ref (ad 0)), (1, .int p1), (2, .int p2), (3, .int p3), (4, .int p4), (5, .int p5), (6, .int x_111), (7, .int x_169), (8, .int x_143)] → W p l e rm_X8_isBarred s m args below meth c H locs 0 0 Q (F0 m 227 ls []) := by
                intro x_169 a_pile_170 hF H locs ls hH hl
                delta FX8_isBarred_j227 at hF
                refine lv_iinc (v := (x_143 + 1)) (lv' := [(8, .int (x_143 + 1)), (0, .ref (ad 0)), (1, .int p1), (2, .int p2), (3, .int p3), (4, .int p4), (5, .int p5), (6, .int x_111), (7, .int x_169)]) hx hb dX8_isBarred_227 hl (k := 8) rfl (syc syi_1) (by decide) rfl (fun ls hl => ?_)
                refine lv_goto (tgt := 30) hx hb dX8_isBarred_230 rfl ?_
                obtain rfl := Option.some.inj hF
                exact ih x_169 (x_143 + 1) a_pile_170 hY30 _ _ _ hH (lv_sub hl [1, 2, 3, 4, 5, 6, 7, 8, 0] rfl)
              refine lv_icmp_ne (tgt := 96) hx hb dX8_isBarred_64 rfl (fun c_148 => ?_) (fun c_148 => ?_)
              · have hF := itn c_148 hF
                refine lv_iload hx hb dX8_isBarred_96 (lv_at hl 0 rfl) ?_
                refine lv_bipush (v := 17) hx hb dX8_isBarred_98 syb_17 ?_
                have j110 : FX8_isBarred_j110 x_142 x_143 a_pile_144 x_147 = some yy30 → ∀ (H : Heap) (locs : List Loc) (ls : Array Slot), MH D vwA A s.heap (mW ad cA a_all a_hasImage a_tape a_fresh v_taped v_at v_behind v_size v_kind v_number v_wrong v_wrongAt v_depth v_steps v_faultKind v_faultPlace a_on a_many v_moved a_pile_144 v_aside v_judgedBy v_judgedYear a_leastCost a_matched a_order a_lies a_movedThen a_yearTable a_yearMark a_beginTable a_beginMark v_statesTold v_found v_yearFrom v_mark v_beginsMark v_begins a_began v_isSpent a_wants a_rowSort a_rowMany a_numbers) H locs → lv_has ls 10 [(0, .ref (ad 0)), (1, .int p1), (2, .int p2), (3, .int p3), (4, .int p4), (5, .int p5), (6, .int x_111), (7, .int x_142), (8, .int x_143), (9, .int x_147)] → W p l e rm_X8_isBarred s m args below meth c H locs 0 0 Q (F0 m 110 ls []) := by
                  intro hF H locs ls hH hl
                  delta FX8_isBarred_j110 at hF
                  refine lv_iinc (v := (x_142 + (-1))) (lv' := [(7, .int (x_142 + (-1))), (0, .ref (ad 0)), (1, .int p1), (2, .int p2), (3, .int p3), (4, .int p4), (5, .int p5), (6, .int x_111), (8, .int x_143), (9, .int x_147)]) hx hb dX8_isBarred_110 hl (k := 7) rfl (syc syi_m1) (by decide) rfl (fun ls hl => ?_)
                  refine lv_aload_n hx hb dX8_isBarred_113 rfl (lv_at hl 1 rfl) ?_
                  refine mg_pile hX hK hH dX8_isBarred_114 ?_
                  refine lv_iload hx hb dX8_isBarred_117 (lv_at hl 0 rfl) ?_
                  refine lv_iconst (v := 1) hx hb dX8_isBarred_119 syi_1 ?_
                  refine lv_isub hx hb dX8_isBarred_120 ?_
                  refine lv_iload hx hb dX8_isBarred_121 (lv_at hl 9 rfl) ?_
                  refine lv_bipush (v := 17) hx hb dX8_isBarred_123 syb_17 ?_
                  have j185 : ∀ (x_167 : Int32), FX8_isBarred_j185 x_142 x_143 a_pile_144 x_167 = some yy30 → ∀ (H : Heap) (locs : List Loc) (ls : Array Slot), MH D vwA A s.heap (mW ad cA a_all a_hasImage a_tape a_fresh v_taped v_at v_behind v_size v_kind v_number v_wrong v_wrongAt v_depth v_steps v_faultKind v_faultPlace a_on a_many v_moved a_pile_144 v_aside v_judgedBy v_judgedYear a_leastCost a_matched a_order a_lies a_movedThen a_yearTable a_yearMark a_beginTable a_beginMark v_statesTold v_found v_yearFrom v_mark v_beginsMark v_begins a_began v_isSpent a_wants a_rowSort a_rowMany a_numbers) H locs → lv_has ls 10 [(0, .ref (ad 0)), (1, .int p1), (2, .int p2), (3, .int p3), (4, .int p4), (5, .int p5), (6, .int x_111), (7, .int (x_142 + (-1))), (8, .int x_143)] → W p l e rm_X8_isBarred s m args below meth c H locs 0 0 Q (F0 m 185 ls [.int x_167, .int ((x_142 + (-1)) - 1), .ref (ad 7)]) := by
                    intro x_167 hF H locs ls hH hl
                    delta FX8_isBarred_j185 at hF
                    obtain ⟨a_pile_168, he, hF⟩ := bd1e hF
                    refine ms_pile hX hK hH he dX8_isBarred_185 (fun H locs hH => ?_)
                    refine lv_goto (tgt := 227) hx hb dX8_isBarred_186 rfl ?_
                    exact j227 (x_142 + (-1)) a_pile_168 hF _ _ _ hH (lv_sub hl [0, 1, 2, 3, 4, 5, 6, 7, 8] rfl)
                  refine lv_icmp_ne (tgt := 158) hx hb dX8_isBarred_125 rfl (fun c_158 => ?_) (fun c_158 => ?_)
                  · have hF := itn c_158 hF
                    refine lv_aload_n hx hb dX8_isBarred_158 rfl (lv_at hl 1 rfl) ?_
                    refine mg_pile hX hK hH dX8_isBarred_159 ?_
                    refine lv_iload hx hb dX8_isBarred_162 (lv_at hl 0 rfl) ?_
                    refine lv_iconst (v := 1) hx hb dX8_isBarred_164 syi_1 ?_
                    refine lv_isub hx hb dX8_isBarred_165 ?_
                    obtain ⟨x_163, he, hF⟩ := bd1e hF
                    refine ml_pile hX hK hH he dX8_isBarred_166 ?_
                    have j180 : FX8_isBarred_j180 x_142 x_143 a_pile_144 = some yy30 → ∀ (H : Heap) (locs : List Loc) (ls : Array Slot), MH D vwA A s.heap (mW ad cA a_all a_hasImage a_tape a_fresh v_taped v_at v_behind v_size v_kind v_number v_wrong v_wrongAt v_depth v_steps v_faultKind v_faultPlace a_on a_many v_moved a_pile_144 v_aside v_judgedBy v_judgedYear a_leastCost a_matched a_order a_lies a_movedThen a_yearTable a_yearMark a_beginTable a_beginMark v_statesTold v_found v_yearFrom v_mark v_beginsMark v_begins a_began v_isSpent a_wants a_rowSort a_rowMany a_numbers) H locs → lv_has ls 10 [(0, .ref (ad 0)), (1, .int p1), (2, .int p2), (3, .int p3), (4, .int p4), (5, .int p5), (6, .int x_111), (7, .int (x_142 + (-1))), (8, .int x_143)] → W p l e rm_X8_isBarred s m args below meth c H locs 0 0 Q (F0 m 180 ls [.int ((x_142 + (-1)) - 1), .ref (ad 7)]) := by
                      intro hF H locs ls hH hl
                      delta FX8_isBarred_j180 at hF
                      refine lv_iconst (v := 1) hx hb dX8_isBarred_180 syi_1 ?_
                      refine lv_goto (tgt := 185) hx hb dX8_isBarred_181 rfl ?_
                      exact j185 1 hF _ _ _ hH (lv_sub hl [0, 1, 2, 3, 4, 5, 6, 7, 8] rfl)
                    refine lv_if_ne (tgt := 180) hx hb dX8_isBarred_167 rfl (fun c_164 => ?_) (fun c_164 => ?_)
                    · have hF := itn c_164 hF
                      exact j180 hF _ _ _ hH (lv_sub hl [1, 2, 3, 4, 5, 6, 7, 0, 8] rfl)
                    · have hF := itp c_164 hF
                      refine lv_aload_n hx hb dX8_isBarred_170 rfl (lv_at hl 1 rfl) ?_
                      refine mg_pile hX hK hH dX8_isBarred_171 ?_
                      refine lv_iload hx hb dX8_isBarred_174 (lv_at hl 0 rfl) ?_
                      obtain ⟨x_165, he, hF⟩ := bd1e hF
                      refine ml_pile hX hK hH he dX8_isBarred_176 ?_
                      refine lv_if_eq (tgt := 184) hx hb dX8_isBarred_177 rfl (fun c_166 => ?_) (fun c_166 => ?_)
                      · have hF := itp c_166 hF
                        refine lv_iconst (v := 0) hx hb dX8_isBarred_184 syi_0 ?_
                        exact j185 0 hF _ _ _ hH (lv_sub hl [1, 2, 3, 4, 5, 6, 7, 0, 8] rfl)
                      · have hF := itn c_166 hF
                        exact j180 hF _ _ _ hH (lv_sub hl [1, 2, 3, 4, 5, 6, 7, 0, 8] rfl)
                  · have hF := itp c_158 hF
                    refine lv_aload_n hx hb dX8_isBarred_128 rfl (lv_at hl 1 rfl) ?_
                    refine mg_pile hX hK hH dX8_isBarred_129 ?_
                    refine lv_iload hx hb dX8_isBarred_132 (lv_at hl 0 rfl) ?_
                    refine lv_iconst (v := 1) hx hb dX8_isBarred_134 syi_1 ?_
                    refine lv_isub hx hb dX8_isBarred_135 ?_
                    obtain ⟨x_159, he, hF⟩ := bd1e hF
                    refine ml_pile hX hK hH he dX8_isBarred_136 ?_
                    have j154 : FX8_isBarred_j154 x_142 x_143 a_pile_144 = some yy30 → ∀ (H : Heap) (locs : List Loc) (ls : Array Slot), MH D vwA A s.heap (mW ad cA a_all a_hasImage a_tape a_fresh v_taped v_at v_behind v_size v_kind v_number v_wrong v_wrongAt v_depth v_steps v_faultKind v_faultPlace a_on a_many v_moved a_pile_144 v_aside v_judgedBy v_judgedYear a_leastCost a_matched a_order a_lies a_movedThen a_yearTable a_yearMark a_beginTable a_beginMark v_statesTold v_found v_yearFrom v_mark v_beginsMark v_begins a_began v_isSpent a_wants a_rowSort a_rowMany a_numbers) H locs → lv_has ls 10 [(0, .ref (ad 0)), (1, .int p1), (2, .int p2), (3, .int p3), (4, .int p4), (5, .int p5), (6, .int x_111), (7, .int (x_142 + (-1))), (8, .int x_143)] → W p l e rm_X8_isBarred s m args below meth c H locs 0 0 Q (F0 m 154 ls [.int ((x_142 + (-1)) - 1), .ref (ad 7)]) := by
                      intro hF H locs ls hH hl
                      delta FX8_isBarred_j154 at hF
                      refine lv_iconst (v := 0) hx hb dX8_isBarred_154 syi_0 ?_
                      refine lv_goto (tgt := 185) hx hb dX8_isBarred_155 rfl ?_
                      exact j185 0 hF _ _ _ hH (lv_sub hl [0, 1, 2, 3, 4, 5, 6, 7, 8] rfl)
                    refine lv_if_eq (tgt := 154) hx hb dX8_isBarred_137 rfl (fun c_160 => ?_) (fun c_160 => ?_)
                    · have hF := itp c_160 hF
                      exact j154 hF _ _ _ hH (lv_sub hl [1, 2, 3, 4, 5, 6, 7, 0, 8] rfl)
                    · have hF := itn c_160 hF
                      refine lv_aload_n hx hb dX8_isBarred_140 rfl (lv_at hl 1 rfl) ?_
                      refine mg_pile hX hK hH dX8_isBarred_141 ?_
                      refine lv_iload hx hb dX8_isBarred_144 (lv_at hl 0 rfl) ?_
                      obtain ⟨x_161, he, hF⟩ := bd1e hF
                      refine ml_pile hX hK hH he dX8_isBarred_146 ?_
                      refine lv_if_eq (tgt := 154) hx hb dX8_isBarred_147 rfl (fun c_162 => ?_) (fun c_162 => ?_)
                      · have hF := itp c_162 hF
                        exact j154 hF _ _ _ hH (lv_sub hl [1, 2, 3, 4, 5, 6, 7, 0, 8] rfl)
                      · have hF := itn c_162 hF
                        refine lv_iconst (v := 1) hx hb dX8_isBarred_150 syi_1 ?_
                        refine lv_goto (tgt := 185) hx hb dX8_isBarred_151 rfl ?_
                        exact j185 1 hF _ _ _ hH (lv_sub hl [1, 2, 3, 4, 5, 6, 7, 0, 8] rfl)
                refine lv_icmp_eq (tgt := 110) hx hb dX8_isBarred_100 rfl (fun c_153 => ?_) (fun c_153 => ?_)
                · have hF := itp c_153 hF
                  exact j110 hF _ _ _ hH (lv_sub hl [1, 2, 3, 4, 5, 6, 7, 8, 9, 0] rfl)
                · have hF := itn c_153 hF
                  refine lv_iload hx hb dX8_isBarred_103 (lv_at hl 0 rfl) ?_
                  refine lv_bipush (v := 16) hx hb dX8_isBarred_105 syb_16 ?_
                  refine lv_icmp_ne (tgt := 189) hx hb dX8_isBarred_107 rfl (fun c_154 => ?_) (fun c_154 => ?_)
                  · have hF := itn c_154 hF
                    refine lv_aload_n hx hb dX8_isBarred_189 rfl (lv_at hl 1 rfl) ?_
                    refine mg_pile hX hK hH dX8_isBarred_190 ?_
                    refine lv_iload hx hb dX8_isBarred_193 (lv_at hl 8 rfl) ?_
                    refine lv_aload_n hx hb dX8_isBarred_195 rfl (lv_at hl 1 rfl) ?_
                    refine lv_iload hx hb dX8_isBarred_196 (lv_at hl 0 rfl) ?_
                    refine lv_aload_n hx hb dX8_isBarred_198 rfl (lv_at hl 1 rfl) ?_
                    refine mg_all hX hK hH dX8_isBarred_199 ?_
                    refine lv_sipush (v := 131) hx hb dX8_isBarred_202 sys_131 ?_
                    refine lv_iconst (v := 2) hx hb dX8_isBarred_205 syi_2 ?_
                    refine lv_iload hx hb dX8_isBarred_206 (lv_at hl 9 rfl) ?_
                    refine lv_imul hx hb dX8_isBarred_208 ?_
                    refine lv_iadd hx hb dX8_isBarred_209 ?_
                    refine lv_iconst (v := 1) hx hb dX8_isBarred_210 syi_1 ?_
                    refine lv_iadd hx hb dX8_isBarred_211 ?_
                    obtain ⟨x_155, he, hF⟩ := bd1e hF
                    refine ml_all hX hK hH he dX8_isBarred_212 ?_
                    refine lv_iload_n hx hb dX8_isBarred_213 rfl (lv_at hl 2 rfl) ?_
                    refine lv_iload_n hx hb dX8_isBarred_214 rfl (lv_at hl 3 rfl) ?_
                    refine lv_iload_n hx hb dX8_isBarred_215 rfl (lv_at hl 4 rfl) ?_
                    refine lv_iload hx hb dX8_isBarred_216 (lv_at hl 5 rfl) ?_
                    refine lv_iload hx hb dX8_isBarred_218 (lv_at hl 6 rfl) ?_
                    obtain ⟨b_156, he, hF⟩ := bd1e hF
                    refine mcV hX hK hEv hE0 hH (met_X8_fact hE he) (mrecv hK hH) gw_StoneYearModel_219 hd_yX8_fact ⟨Nat.le_of_ble_eq_true rfl, Nat.le_of_ble_eq_true rfl⟩ rfl rfl hl (Nat.le_of_ble_eq_true rfl) dX8_isBarred_220 ⟨Nat.le_of_ble_eq_true rfl, Nat.le_of_ble_eq_true rfl⟩ (fun H locs hH => ?_)
                    obtain ⟨a_pile_157, he, hF⟩ := bd1e hF
                    refine ms_pile hX hK hH he dX8_isBarred_223 (fun H locs hH => ?_)
                    refine lv_iinc (v := (x_142 + 1)) (lv' := [(7, .int (x_142 + 1)), (9, .int x_147), (0, .ref (ad 0)), (1, .int p1), (2, .int p2), (3, .int p3), (4, .int p4), (5, .int p5), (6, .int x_111), (8, .int x_143)]) hx hb dX8_isBarred_224 hl (k := 8) rfl (syc syi_1) (by decide) rfl (fun ls hl => ?_)
                    exact j227 (x_142 + 1) a_pile_157 hF _ _ _ hH (lv_sub hl [2, 3, 4, 5, 6, 7, 8, 0, 9] rfl)
                  · have hF := itp c_154 hF
                    exact j110 hF _ _ _ hH (lv_sub hl [1, 2, 3, 4, 5, 6, 7, 8, 9, 0] rfl)
              · have hF := itp c_148 hF
                refine lv_aload_n hx hb dX8_isBarred_67 rfl (lv_at hl 1 rfl) ?_
                refine mg_pile hX hK hH dX8_isBarred_68 ?_
                refine lv_iload hx hb dX8_isBarred_71 (lv_at hl 8 rfl) ?_
                refine lv_iconst (v := 1) hx hb dX8_isBarred_73 syi_1 ?_
                refine lv_isub hx hb dX8_isBarred_74 ?_
                refine lv_aload_n hx hb dX8_isBarred_75 rfl (lv_at hl 1 rfl) ?_
                refine mg_pile hX hK hH dX8_isBarred_76 ?_
                refine lv_iload hx hb dX8_isBarred_79 (lv_at hl 8 rfl) ?_
                refine lv_iconst (v := 1) hx hb dX8_isBarred_81 syi_1 ?_
                refine lv_isub hx hb dX8_isBarred_82 ?_
                obtain ⟨x_149, he, hF⟩ := bd1e hF
                refine ml_pile hX hK hH he dX8_isBarred_83 ?_
                have j92 : ∀ (x_151 : Int32), FX8_isBarred_j92 x_142 x_143 a_pile_144 x_151 = some yy30 → ∀ (H : Heap) (locs : List Loc) (ls : Array Slot), MH D vwA A s.heap (mW ad cA a_all a_hasImage a_tape a_fresh v_taped v_at v_behind v_size v_kind v_number v_wrong v_wrongAt v_depth v_steps v_faultKind v_faultPlace a_on a_many v_moved a_pile_144 v_aside v_judgedBy v_judgedYear a_leastCost a_matched a_order a_lies a_movedThen a_yearTable a_yearMark a_beginTable a_beginMark v_statesTold v_found v_yearFrom v_mark v_beginsMark v_begins a_began v_isSpent a_wants a_rowSort a_rowMany a_numbers) H locs → lv_has ls 10 [(0, .ref (ad 0)), (1, .int p1), (2, .int p2), (3, .int p3), (4, .int p4), (5, .int p5), (6, .int x_111), (7, .int x_142), (8, .int x_143)] → W p l e rm_X8_isBarred s m args below meth c H locs 0 0 Q (F0 m 92 ls [.int x_151, .int (x_142 - 1), .ref (ad 7)]) := by
                  intro x_151 hF H locs ls hH hl
                  delta FX8_isBarred_j92 at hF
                  obtain ⟨a_pile_152, he, hF⟩ := bd1e hF
                  refine ms_pile hX hK hH he dX8_isBarred_92 (fun H locs hH => ?_)
                  refine lv_goto (tgt := 227) hx hb dX8_isBarred_93 rfl ?_
                  exact j227 x_142 a_pile_152 hF _ _ _ hH (lv_sub hl [0, 1, 2, 3, 4, 5, 6, 7, 8] rfl)
                refine lv_if_ne (tgt := 91) hx hb dX8_isBarred_84 rfl (fun c_150 => ?_) (fun c_150 => ?_)
                · have hF := itn c_150 hF
                  refine lv_iconst (v := 0) hx hb dX8_isBarred_91 syi_0 ?_
                  exact j92 0 hF _ _ _ hH (lv_sub hl [1, 2, 3, 4, 5, 6, 7, 8, 9] rfl)
                · have hF := itp c_150 hF
                  refine lv_iconst (v := 1) hx hb dX8_isBarred_87 syi_1 ?_
                  refine lv_goto (tgt := 92) hx hb dX8_isBarred_88 rfl ?_
                  exact j92 1 hF _ _ _ hH (lv_sub hl [1, 2, 3, 4, 5, 6, 7, 8, 9] rfl)
        exact l30 nn30 0 x_115 a_pile_112 en30 _ _ _ hH (lv_sub hl [2, 3, 4, 5, 6, 7, 8, 1, 0] rfl)
  exact l3 nn3 0 a_pile en3 _ _ _ hH (lv_sub hl [1, 2, 3, 4, 5, 6, 0] rfl)
abbrev rm_X8_isHeavy : Room := { frames := 0, cells := 0, slots := 0, locals := 0 }
set_option maxHeartbeats 4000000 in
theorem met_X8_isHeavy {l : Launch} {D : va_G} {ad : Nat → Nat} {cA : Nat → ClassId} {a_all : Nat → Int32} {a_hasImage : Nat → Int32} {a_tape : Nat → Int32} {a_fresh : Nat → Int32} {v_taped : Int32} {v_at : Int32} {v_behind : Int32} {v_size : Int32} {v_kind : Int32} {v_number : Int32} {v_wrong : Int32} {v_wrongAt : Int32} {v_depth : Int32} {v_steps : Int32} {v_faultKind : Int32} {v_faultPlace : Int32} {a_on : Nat → Int32} {a_many : Nat → Int32} {v_moved : Int32} {a_pile : Nat → Int32} {v_aside : Int32} {v_judgedBy : Int32} {v_judgedYear : Int32} {a_leastCost : Nat → Int32} {a_matched : Nat → Int32} {a_order : Nat → Int32} {a_lies : Nat → Int64} {a_movedThen : Nat → Int32} {a_yearTable : Nat → Int32} {a_yearMark : Nat → Int32} {a_beginTable : Nat → Int32} {a_beginMark : Nat → Int32} {v_statesTold : Int32} {v_found : Int32} {v_yearFrom : Int32} {v_mark : Int32} {v_beginsMark : Int32} {v_begins : Int32} {a_began : Nat → Int64} {v_isSpent : Int32} {a_wants : Nat → Int32} {a_rowSort : Nat → Int32} {a_rowMany : Nat → Int32} {a_numbers : Nat → Int64}  {p1 : Int32} {p2 : Int32} {p3 : Int32} {res : Bool} {ak av fo : Nat} {E : EvT} (hE : EvM E ak av fo) (hF : FX8_isHeavy a_all a_on p1 p2 p3 = some res) : MM l yX8_isHeavy (ws_ yX8_isHeavy cX8_isHeavy 7 (Option.some Jvm.ClassFile.FieldType.boolean)) rm_X8_isHeavy D vwA (mT cA) E [.ref (ad 0), .int p1, .int p2, .int p3] (mW ad cA a_all a_hasImage a_tape a_fresh v_taped v_at v_behind v_size v_kind v_number v_wrong v_wrongAt v_depth v_steps v_faultKind v_faultPlace a_on a_many v_moved a_pile v_aside v_judgedBy v_judgedYear a_leastCost a_matched a_order a_lies a_movedThen a_yearTable a_yearMark a_beginTable a_beginMark v_statesTold v_found v_yearFrom v_mark v_beginsMark v_begins a_began v_isSpent a_wants a_rowSort a_rowMany a_numbers) (mW ad cA a_all a_hasImage a_tape a_fresh v_taped v_at v_behind v_size v_kind v_number v_wrong v_wrongAt v_depth v_steps v_faultKind v_faultPlace a_on a_many v_moved a_pile v_aside v_judgedBy v_judgedYear a_leastCost a_matched a_order a_lies a_movedThen a_yearTable a_yearMark a_beginTable a_beginMark v_statesTold v_found v_yearFrom v_mark v_beginsMark v_begins a_began v_isSpent a_wants a_rowSort a_rowMany a_numbers) (some (.int (b2i res))) := by
  refine MM.ofZ (by decide) (Nat.le_of_ble_eq_true rfl) ?_
  intro p e s m args below meth c Q A hX hK hE0 hret H locs ls hH hl
  have hX : CallFix p m c cX8_isHeavy 7 s args lw_all RX8 := hX
  have hx := hX.1
  have hb := hX.2.1
  have hown := hX.2.2.2.1
  have hts := hX.2.2.2.2
  have hl : lv_has ls 7 [(0, .ref (ad 0)), (1, .int p1), (2, .int p2), (3, .int p3)] := hl
  have hEv := hE.1
  delta FX8_isHeavy at hF
  refine lv_iload_n hx hb dX8_isHeavy_0 rfl (lv_at hl 3 rfl) ?_
  refine lv_istore (lv' := [(4, .int p3), (0, .ref (ad 0)), (1, .int p1), (2, .int p2), (3, .int p3)]) hx hb dX8_isHeavy_1 hl (by decide) rfl (fun ls hl => ?_)
  refine lv_iload_n hx hb dX8_isHeavy_3 rfl (lv_at hl 3 rfl) ?_
  refine lv_iconst (v := 1) hx hb dX8_isHeavy_4 syi_1 ?_
  refine lv_isub hx hb dX8_isHeavy_5 ?_
  refine lv_istore (lv' := [(5, .int (p2 - 1)), (4, .int p3), (0, .ref (ad 0)), (1, .int p1), (2, .int p2), (3, .int p3)]) hx hb dX8_isHeavy_6 hl (by decide) rfl (fun ls hl => ?_)
  obtain ⟨xx8, ee8, kk8_0, kk8_1⟩ := bdS2e hF
  have k8_0 : xx8 = (.inl ()) → ∀ (H : Heap) (locs : List Loc) (ls : Array Slot), MH D vwA A s.heap (mW ad cA a_all a_hasImage a_tape a_fresh v_taped v_at v_behind v_size v_kind v_number v_wrong v_wrongAt v_depth v_steps v_faultKind v_faultPlace a_on a_many v_moved a_pile v_aside v_judgedBy v_judgedYear a_leastCost a_matched a_order a_lies a_movedThen a_yearTable a_yearMark a_beginTable a_beginMark v_statesTold v_found v_yearFrom v_mark v_beginsMark v_begins a_began v_isSpent a_wants a_rowSort a_rowMany a_numbers) H locs → lv_has ls 7 [] → W p l e rm_X8_isHeavy s m args below meth c H locs 0 0 Q (F0 m 43 ls []) := by
    intro hxx H locs ls hH hl
    have hF := un0e (kk8_0 () hxx)
    refine lv_iconst (v := 1) hx hb dX8_isHeavy_43 syi_1 ?_
    obtain rfl := Option.some.inj hF
    exact hret _ _ _ _ hH dX8_isHeavy_44
  have k8_1 : xx8 = (.inr ()) → ∀ (H : Heap) (locs : List Loc) (ls : Array Slot), MH D vwA A s.heap (mW ad cA a_all a_hasImage a_tape a_fresh v_taped v_at v_behind v_size v_kind v_number v_wrong v_wrongAt v_depth v_steps v_faultKind v_faultPlace a_on a_many v_moved a_pile v_aside v_judgedBy v_judgedYear a_leastCost a_matched a_order a_lies a_movedThen a_yearTable a_yearMark a_beginTable a_beginMark v_statesTold v_found v_yearFrom v_mark v_beginsMark v_begins a_began v_isSpent a_wants a_rowSort a_rowMany a_numbers) H locs → lv_has ls 7 [] → W p l e rm_X8_isHeavy s m args below meth c H locs 0 0 Q (F0 m 66 ls []) := by
    intro hxx H locs ls hH hl
    have hF := un0e (kk8_1 () hxx)
    refine lv_iconst (v := 0) hx hb dX8_isHeavy_66 syi_0 ?_
    obtain rfl := Option.some.inj hF
    exact hret _ _ _ _ hH dX8_isHeavy_67
  obtain ⟨nn8, en8⟩ := loopC_some ee8
  have l8 : ∀ (n : Nat) (x_53 : Int32) (x_54 : Int32), loopN (fun s => FX8_isHeavy_b8 a_all a_on p1 s.1 s.2) n (x_53, x_54) = some xx8 → ∀ (H : Heap) (locs : List Loc) (ls : Array Slot), MH D vwA A s.heap (mW ad cA a_all a_hasImage a_tape a_fresh v_taped v_at v_behind v_size v_kind v_number v_wrong v_wrongAt v_depth v_steps v_faultKind v_faultPlace a_on a_many v_moved a_pile v_aside v_judgedBy v_judgedYear a_leastCost a_matched a_order a_lies a_movedThen a_yearTable a_yearMark a_beginTable a_beginMark v_statesTold v_found v_yearFrom v_mark v_beginsMark v_begins a_began v_isSpent a_wants a_rowSort a_rowMany a_numbers) H locs → lv_has ls 7 [(0, .ref (ad 0)), (1, .int p1), (4, .int x_53), (5, .int x_54)] → W p l e rm_X8_isHeavy s m args below meth c H locs 0 0 Q (F0 m 8 ls []) := by
    intro n
    induction n with
    | zero =>
      intro x_53 x_54 hN
      exact absurd hN loopN_zero
    | succ n ih =>
      intro x_53 x_54 hN H locs ls hH hl
      obtain ⟨yy8, hB8, hY8⟩ := loopN_succ hN
      have hF : FX8_isHeavy_b8 a_all a_on p1 x_53 x_54 = some yy8 := hB8
      delta FX8_isHeavy_b8 at hF
      refine lv_iload hx hb dX8_isHeavy_8 (lv_at hl 3 rfl) ?_
      refine lv_if_lt (tgt := 66) hx hb dX8_isHeavy_10 rfl (fun c_55 => ?_) (fun c_55 => ?_)
      · have hF := itp c_55 hF
        obtain rfl := Option.some.inj hF
        exact k8_1 hY8 _ _ _ hH (lv_sub hl [] rfl)
      · have hF := itn c_55 hF
        refine lv_aload_n hx hb dX8_isHeavy_13 rfl (lv_at hl 0 rfl) ?_
        refine mg_on hX hK hH dX8_isHeavy_14 ?_
        refine lv_iconst (v := 3) hx hb dX8_isHeavy_17 syi_3 ?_
        refine lv_iload_n hx hb dX8_isHeavy_18 rfl (lv_at hl 1 rfl) ?_
        refine lv_imul hx hb dX8_isHeavy_19 ?_
        refine lv_iload hx hb dX8_isHeavy_20 (lv_at hl 3 rfl) ?_
        refine lv_iadd hx hb dX8_isHeavy_22 ?_
        obtain ⟨x_56, he, hF⟩ := bd1e hF
        refine ml_on hX hK hH he dX8_isHeavy_23 ?_
        refine lv_iconst (v := 1) hx hb dX8_isHeavy_24 syi_1 ?_
        refine lv_isub hx hb dX8_isHeavy_25 ?_
        refine lv_istore (lv' := [(6, .int (x_56 - 1)), (0, .ref (ad 0)), (1, .int p1), (4, .int x_53), (5, .int x_54)]) hx hb dX8_isHeavy_26 hl (by decide) rfl (fun ls hl => ?_)
        refine lv_iload hx hb dX8_isHeavy_28 (lv_at hl 3 rfl) ?_
        refine lv_aload_n hx hb dX8_isHeavy_30 rfl (lv_at hl 1 rfl) ?_
        refine mg_all hX hK hH dX8_isHeavy_31 ?_
        refine lv_bipush (v := 23) hx hb dX8_isHeavy_34 syb_23 ?_
        refine lv_iload hx hb dX8_isHeavy_36 (lv_at hl 0 rfl) ?_
        refine lv_iadd hx hb dX8_isHeavy_38 ?_
        obtain ⟨x_57, he, hF⟩ := bd1e hF
        refine ml_all hX hK hH he dX8_isHeavy_39 ?_
        refine lv_icmp_le (tgt := 45) hx hb dX8_isHeavy_40 rfl (fun c_58 => ?_) (fun c_58 => ?_)
        · have hF := itp c_58 hF
          refine lv_iload hx hb dX8_isHeavy_45 (lv_at hl 3 rfl) ?_
          refine lv_aload_n hx hb dX8_isHeavy_47 rfl (lv_at hl 1 rfl) ?_
          refine mg_all hX hK hH dX8_isHeavy_48 ?_
          refine lv_bipush (v := 15) hx hb dX8_isHeavy_51 syb_15 ?_
          refine lv_iload hx hb dX8_isHeavy_53 (lv_at hl 0 rfl) ?_
          refine lv_iadd hx hb dX8_isHeavy_55 ?_
          obtain ⟨x_59, he, hF⟩ := bd1e hF
          refine ml_all hX hK hH he dX8_isHeavy_56 ?_
          refine lv_iadd hx hb dX8_isHeavy_57 ?_
          refine lv_istore (lv' := [(4, .int (x_53 + x_59)), (6, .int (x_56 - 1)), (0, .ref (ad 0)), (1, .int p1), (5, .int x_54)]) hx hb dX8_isHeavy_58 hl (by decide) rfl (fun ls hl => ?_)
          refine lv_iinc (v := (x_54 + (-1))) (lv' := [(5, .int (x_54 + (-1))), (4, .int (x_53 + x_59)), (6, .int (x_56 - 1)), (0, .ref (ad 0)), (1, .int p1)]) hx hb dX8_isHeavy_60 hl (k := 4) rfl (syc syi_m1) (by decide) rfl (fun ls hl => ?_)
          refine lv_goto (tgt := 8) hx hb dX8_isHeavy_63 rfl ?_
          obtain rfl := Option.some.inj hF
          exact ih (x_53 + x_59) (x_54 + (-1)) hY8 _ _ _ hH (lv_sub hl [3, 4, 1, 0] rfl)
        · have hF := itn c_58 hF
          obtain rfl := Option.some.inj hF
          exact k8_0 hY8 _ _ _ hH (lv_sub hl [] rfl)
  exact l8 nn8 p3 (p2 - 1) en8 _ _ _ hH (lv_sub hl [2, 3, 1, 0] rfl)
abbrev rm_X8_isShut : Room := { frames := 0, cells := 0, slots := 0, locals := 0 }
set_option maxHeartbeats 4000000 in
theorem met_X8_isShut {l : Launch} {D : va_G} {ad : Nat → Nat} {cA : Nat → ClassId} {a_all : Nat → Int32} {a_hasImage : Nat → Int32} {a_tape : Nat → Int32} {a_fresh : Nat → Int32} {v_taped : Int32} {v_at : Int32} {v_behind : Int32} {v_size : Int32} {v_kind : Int32} {v_number : Int32} {v_wrong : Int32} {v_wrongAt : Int32} {v_depth : Int32} {v_steps : Int32} {v_faultKind : Int32} {v_faultPlace : Int32} {a_on : Nat → Int32} {a_many : Nat → Int32} {v_moved : Int32} {a_pile : Nat → Int32} {v_aside : Int32} {v_judgedBy : Int32} {v_judgedYear : Int32} {a_leastCost : Nat → Int32} {a_matched : Nat → Int32} {a_order : Nat → Int32} {a_lies : Nat → Int64} {a_movedThen : Nat → Int32} {a_yearTable : Nat → Int32} {a_yearMark : Nat → Int32} {a_beginTable : Nat → Int32} {a_beginMark : Nat → Int32} {v_statesTold : Int32} {v_found : Int32} {v_yearFrom : Int32} {v_mark : Int32} {v_beginsMark : Int32} {v_begins : Int32} {a_began : Nat → Int64} {v_isSpent : Int32} {a_wants : Nat → Int32} {a_rowSort : Nat → Int32} {a_rowMany : Nat → Int32} {a_numbers : Nat → Int64}  {p1 : Int32} {p2 : Int32} {res : Bool} {ak av fo : Nat} {E : EvT} (hE : EvM E ak av fo) (hF : FX8_isShut a_all a_many p1 p2 = some res) : MM l yX8_isShut (ws_ yX8_isShut cX8_isShut 6 (Option.some Jvm.ClassFile.FieldType.boolean)) rm_X8_isShut D vwA (mT cA) E [.ref (ad 0), .int p1, .int p2] (mW ad cA a_all a_hasImage a_tape a_fresh v_taped v_at v_behind v_size v_kind v_number v_wrong v_wrongAt v_depth v_steps v_faultKind v_faultPlace a_on a_many v_moved a_pile v_aside v_judgedBy v_judgedYear a_leastCost a_matched a_order a_lies a_movedThen a_yearTable a_yearMark a_beginTable a_beginMark v_statesTold v_found v_yearFrom v_mark v_beginsMark v_begins a_began v_isSpent a_wants a_rowSort a_rowMany a_numbers) (mW ad cA a_all a_hasImage a_tape a_fresh v_taped v_at v_behind v_size v_kind v_number v_wrong v_wrongAt v_depth v_steps v_faultKind v_faultPlace a_on a_many v_moved a_pile v_aside v_judgedBy v_judgedYear a_leastCost a_matched a_order a_lies a_movedThen a_yearTable a_yearMark a_beginTable a_beginMark v_statesTold v_found v_yearFrom v_mark v_beginsMark v_begins a_began v_isSpent a_wants a_rowSort a_rowMany a_numbers) (some (.int (b2i res))) := by
  refine MM.ofZ (by decide) (Nat.le_of_ble_eq_true rfl) ?_
  intro p e s m args below meth c Q A hX hK hE0 hret H locs ls hH hl
  have hX : CallFix p m c cX8_isShut 6 s args lw_all RX8 := hX
  have hx := hX.1
  have hb := hX.2.1
  have hown := hX.2.2.2.1
  have hts := hX.2.2.2.2
  have hl : lv_has ls 6 [(0, .ref (ad 0)), (1, .int p1), (2, .int p2)] := hl
  have hEv := hE.1
  delta FX8_isShut at hF
  refine lv_iload_n hx hb dX8_isShut_0 rfl (lv_at hl 1 rfl) ?_
  refine lv_iload_n hx hb dX8_isShut_1 rfl (lv_at hl 2 rfl) ?_
  have j10 : ∀ (x_48 : Int32), FX8_isShut_j10 a_all a_many p1 p2 x_48 = some res → ∀ (H : Heap) (locs : List Loc) (ls : Array Slot), MH D vwA A s.heap (mW ad cA a_all a_hasImage a_tape a_fresh v_taped v_at v_behind v_size v_kind v_number v_wrong v_wrongAt v_depth v_steps v_faultKind v_faultPlace a_on a_many v_moved a_pile v_aside v_judgedBy v_judgedYear a_leastCost a_matched a_order a_lies a_movedThen a_yearTable a_yearMark a_beginTable a_beginMark v_statesTold v_found v_yearFrom v_mark v_beginsMark v_begins a_began v_isSpent a_wants a_rowSort a_rowMany a_numbers) H locs → lv_has ls 6 [(0, .ref (ad 0)), (1, .int p1), (2, .int p2)] → W p l e rm_X8_isShut s m args below meth c H locs 0 0 Q (F0 m 10 ls [.int x_48]) := by
    intro x_48 hF H locs ls hH hl
    delta FX8_isShut_j10 at hF
    refine lv_istore_n (lv' := [(3, .int x_48), (0, .ref (ad 0)), (1, .int p1), (2, .int p2)]) hx hb dX8_isShut_10 rfl hl (by decide) rfl (fun ls hl => ?_)
    refine lv_iload_n hx hb dX8_isShut_11 rfl (lv_at hl 2 rfl) ?_
    refine lv_iload_n hx hb dX8_isShut_12 rfl (lv_at hl 3 rfl) ?_
    have j21 : ∀ (x_50 : Int32), FX8_isShut_j21 a_all a_many x_48 x_50 = some res → ∀ (H : Heap) (locs : List Loc) (ls : Array Slot), MH D vwA A s.heap (mW ad cA a_all a_hasImage a_tape a_fresh v_taped v_at v_behind v_size v_kind v_number v_wrong v_wrongAt v_depth v_steps v_faultKind v_faultPlace a_on a_many v_moved a_pile v_aside v_judgedBy v_judgedYear a_leastCost a_matched a_order a_lies a_movedThen a_yearTable a_yearMark a_beginTable a_beginMark v_statesTold v_found v_yearFrom v_mark v_beginsMark v_begins a_began v_isSpent a_wants a_rowSort a_rowMany a_numbers) H locs → lv_has ls 6 [(0, .ref (ad 0)), (3, .int x_48)] → W p l e rm_X8_isShut s m args below meth c H locs 0 0 Q (F0 m 21 ls [.int x_50]) := by
      intro x_50 hF H locs ls hH hl
      delta FX8_isShut_j21 at hF
      refine lv_istore (lv' := [(4, .int x_50), (0, .ref (ad 0)), (3, .int x_48)]) hx hb dX8_isShut_21 hl (by decide) rfl (fun ls hl => ?_)
      refine lv_iload_n hx hb dX8_isShut_23 rfl (lv_at hl 2 rfl) ?_
      refine lv_iconst (v := 1) hx hb dX8_isShut_24 syi_1 ?_
      refine lv_iadd hx hb dX8_isShut_25 ?_
      refine lv_istore (lv' := [(5, .int (x_48 + 1)), (4, .int x_50), (0, .ref (ad 0)), (3, .int x_48)]) hx hb dX8_isShut_26 hl (by decide) rfl (fun ls hl => ?_)
      obtain ⟨xx28, ee28, kk28_0, kk28_1⟩ := bdS2e hF
      have k28_0 : xx28 = (.inl ()) → ∀ (H : Heap) (locs : List Loc) (ls : Array Slot), MH D vwA A s.heap (mW ad cA a_all a_hasImage a_tape a_fresh v_taped v_at v_behind v_size v_kind v_number v_wrong v_wrongAt v_depth v_steps v_faultKind v_faultPlace a_on a_many v_moved a_pile v_aside v_judgedBy v_judgedYear a_leastCost a_matched a_order a_lies a_movedThen a_yearTable a_yearMark a_beginTable a_beginMark v_statesTold v_found v_yearFrom v_mark v_beginsMark v_begins a_began v_isSpent a_wants a_rowSort a_rowMany a_numbers) H locs → lv_has ls 6 [] → W p l e rm_X8_isShut s m args below meth c H locs 0 0 Q (F0 m 52 ls []) := by
        intro hxx H locs ls hH hl
        have hF := un0e (kk28_0 () hxx)
        refine lv_iconst (v := 1) hx hb dX8_isShut_52 syi_1 ?_
        obtain rfl := Option.some.inj hF
        exact hret _ _ _ _ hH dX8_isShut_53
      have k28_1 : xx28 = (.inr ()) → ∀ (H : Heap) (locs : List Loc) (ls : Array Slot), MH D vwA A s.heap (mW ad cA a_all a_hasImage a_tape a_fresh v_taped v_at v_behind v_size v_kind v_number v_wrong v_wrongAt v_depth v_steps v_faultKind v_faultPlace a_on a_many v_moved a_pile v_aside v_judgedBy v_judgedYear a_leastCost a_matched a_order a_lies a_movedThen a_yearTable a_yearMark a_beginTable a_beginMark v_statesTold v_found v_yearFrom v_mark v_beginsMark v_begins a_began v_isSpent a_wants a_rowSort a_rowMany a_numbers) H locs → lv_has ls 6 [] → W p l e rm_X8_isShut s m args below meth c H locs 0 0 Q (F0 m 60 ls []) := by
        intro hxx H locs ls hH hl
        have hF := un0e (kk28_1 () hxx)
        refine lv_iconst (v := 0) hx hb dX8_isShut_60 syi_0 ?_
        obtain rfl := Option.some.inj hF
        exact hret _ _ _ _ hH dX8_isShut_61
      obtain ⟨nn28, en28⟩ := loopC_some ee28
      have l28 : ∀ (n : Nat) (x_55 : Int32), loopN (fun s => FX8_isShut_b28 a_all a_many x_50 s) n x_55 = some xx28 → ∀ (H : Heap) (locs : List Loc) (ls : Array Slot), MH D vwA A s.heap (mW ad cA a_all a_hasImage a_tape a_fresh v_taped v_at v_behind v_size v_kind v_number v_wrong v_wrongAt v_depth v_steps v_faultKind v_faultPlace a_on a_many v_moved a_pile v_aside v_judgedBy v_judgedYear a_leastCost a_matched a_order a_lies a_movedThen a_yearTable a_yearMark a_beginTable a_beginMark v_statesTold v_found v_yearFrom v_mark v_beginsMark v_begins a_began v_isSpent a_wants a_rowSort a_rowMany a_numbers) H locs → lv_has ls 6 [(0, .ref (ad 0)), (4, .int x_50), (5, .int x_55)] → W p l e rm_X8_isShut s m args below meth c H locs 0 0 Q (F0 m 28 ls []) := by
        intro n
        induction n with
        | zero =>
          intro x_55 hN
          exact absurd hN loopN_zero
        | succ n ih =>
          intro x_55 hN H locs ls hH hl
          obtain ⟨yy28, hB28, hY28⟩ := loopN_succ hN
          have hF : FX8_isShut_b28 a_all a_many x_50 x_55 = some yy28 := hB28
          delta FX8_isShut_b28 at hF
          refine lv_iload hx hb dX8_isShut_28 (lv_at hl 2 rfl) ?_
          refine lv_iload hx hb dX8_isShut_30 (lv_at hl 1 rfl) ?_
          refine lv_icmp_ge (tgt := 60) hx hb dX8_isShut_32 rfl (fun c_56 => ?_) (fun c_56 => ?_)
          · have hF := itp c_56 hF
            obtain rfl := Option.some.inj hF
            exact k28_1 hY28 _ _ _ hH (lv_sub hl [] rfl)
          · have hF := itn c_56 hF
            refine lv_aload_n hx hb dX8_isShut_35 rfl (lv_at hl 0 rfl) ?_
            refine mg_many hX hK hH dX8_isShut_36 ?_
            refine lv_iload hx hb dX8_isShut_39 (lv_at hl 2 rfl) ?_
            obtain ⟨x_57, he, hF⟩ := bd1e hF
            refine ml_many hX hK hH he dX8_isShut_41 ?_
            refine lv_aload_n hx hb dX8_isShut_42 rfl (lv_at hl 0 rfl) ?_
            refine mg_all hX hK hH dX8_isShut_43 ?_
            refine lv_bipush (v := 75) hx hb dX8_isShut_46 syb_75 ?_
            obtain ⟨x_58, he, hF⟩ := bd1e hF
            refine ml_all hX hK hH he dX8_isShut_48 ?_
            refine lv_icmp_lt (tgt := 54) hx hb dX8_isShut_49 rfl (fun c_59 => ?_) (fun c_59 => ?_)
            · have hF := itp c_59 hF
              refine lv_iinc (v := (x_55 + 1)) (lv' := [(5, .int (x_55 + 1)), (0, .ref (ad 0)), (4, .int x_50)]) hx hb dX8_isShut_54 hl (k := 2) rfl (syc syi_1) (by decide) rfl (fun ls hl => ?_)
              refine lv_goto (tgt := 28) hx hb dX8_isShut_57 rfl ?_
              obtain rfl := Option.some.inj hF
              exact ih (x_55 + 1) hY28 _ _ _ hH (lv_sub hl [1, 2, 0] rfl)
            · have hF := itn c_59 hF
              obtain rfl := Option.some.inj hF
              exact k28_0 hY28 _ _ _ hH (lv_sub hl [] rfl)
      exact l28 nn28 (x_48 + 1) en28 _ _ _ hH (lv_sub hl [2, 1, 0] rfl)
    refine lv_icmp_ge (tgt := 20) hx hb dX8_isShut_13 rfl (fun c_49 => ?_) (fun c_49 => ?_)
    · have hF := itp c_49 hF
      refine lv_iload_n hx hb dX8_isShut_20 rfl (lv_at hl 2 rfl) ?_
      exact j21 p1 hF _ _ _ hH (lv_sub hl [1, 0] rfl)
    · have hF := itn c_49 hF
      refine lv_iload_n hx hb dX8_isShut_16 rfl (lv_at hl 3 rfl) ?_
      refine lv_goto (tgt := 21) hx hb dX8_isShut_17 rfl ?_
      exact j21 p2 hF _ _ _ hH (lv_sub hl [1, 0] rfl)
  refine lv_icmp_ge (tgt := 9) hx hb dX8_isShut_2 rfl (fun c_47 => ?_) (fun c_47 => ?_)
  · have hF := itp c_47 hF
    refine lv_iload_n hx hb dX8_isShut_9 rfl (lv_at hl 2 rfl) ?_
    exact j10 p2 hF _ _ _ hH (lv_sub hl [0, 1, 2] rfl)
  · have hF := itn c_47 hF
    refine lv_iload_n hx hb dX8_isShut_5 rfl (lv_at hl 1 rfl) ?_
    refine lv_goto (tgt := 10) hx hb dX8_isShut_6 rfl ?_
    exact j10 p1 hF _ _ _ hH (lv_sub hl [0, 1, 2] rfl)
abbrev rm_X8_topOf : Room := { frames := 0, cells := 0, slots := 0, locals := 0 }
set_option maxHeartbeats 4000000 in
theorem met_X8_topOf {l : Launch} {D : va_G} {ad : Nat → Nat} {cA : Nat → ClassId} {a_all : Nat → Int32} {a_hasImage : Nat → Int32} {a_tape : Nat → Int32} {a_fresh : Nat → Int32} {v_taped : Int32} {v_at : Int32} {v_behind : Int32} {v_size : Int32} {v_kind : Int32} {v_number : Int32} {v_wrong : Int32} {v_wrongAt : Int32} {v_depth : Int32} {v_steps : Int32} {v_faultKind : Int32} {v_faultPlace : Int32} {a_on : Nat → Int32} {a_many : Nat → Int32} {v_moved : Int32} {a_pile : Nat → Int32} {v_aside : Int32} {v_judgedBy : Int32} {v_judgedYear : Int32} {a_leastCost : Nat → Int32} {a_matched : Nat → Int32} {a_order : Nat → Int32} {a_lies : Nat → Int64} {a_movedThen : Nat → Int32} {a_yearTable : Nat → Int32} {a_yearMark : Nat → Int32} {a_beginTable : Nat → Int32} {a_beginMark : Nat → Int32} {v_statesTold : Int32} {v_found : Int32} {v_yearFrom : Int32} {v_mark : Int32} {v_beginsMark : Int32} {v_begins : Int32} {a_began : Nat → Int64} {v_isSpent : Int32} {a_wants : Nat → Int32} {a_rowSort : Nat → Int32} {a_rowMany : Nat → Int32} {a_numbers : Nat → Int64}  {p1 : Int32} {res : Int32} {ak av fo : Nat} {E : EvT} (hE : EvM E ak av fo) (hF : FX8_topOf a_on a_many p1 = some res) : MM l yX8_topOf (ws_ yX8_topOf cX8_topOf 2 (Option.some Jvm.ClassFile.FieldType.int)) rm_X8_topOf D vwA (mT cA) E [.ref (ad 0), .int p1] (mW ad cA a_all a_hasImage a_tape a_fresh v_taped v_at v_behind v_size v_kind v_number v_wrong v_wrongAt v_depth v_steps v_faultKind v_faultPlace a_on a_many v_moved a_pile v_aside v_judgedBy v_judgedYear a_leastCost a_matched a_order a_lies a_movedThen a_yearTable a_yearMark a_beginTable a_beginMark v_statesTold v_found v_yearFrom v_mark v_beginsMark v_begins a_began v_isSpent a_wants a_rowSort a_rowMany a_numbers) (mW ad cA a_all a_hasImage a_tape a_fresh v_taped v_at v_behind v_size v_kind v_number v_wrong v_wrongAt v_depth v_steps v_faultKind v_faultPlace a_on a_many v_moved a_pile v_aside v_judgedBy v_judgedYear a_leastCost a_matched a_order a_lies a_movedThen a_yearTable a_yearMark a_beginTable a_beginMark v_statesTold v_found v_yearFrom v_mark v_beginsMark v_begins a_began v_isSpent a_wants a_rowSort a_rowMany a_numbers) (some (.int res)) := by
  refine MM.ofI (by decide) (Nat.le_of_ble_eq_true rfl) ?_
  intro p e s m args below meth c Q A hX hK hE0 hret H locs ls hH hl
  have hX : CallFix p m c cX8_topOf 2 s args lw_all RX8 := hX
  have hx := hX.1
  have hb := hX.2.1
  have hown := hX.2.2.2.1
  have hts := hX.2.2.2.2
  have hl : lv_has ls 2 [(0, .ref (ad 0)), (1, .int p1)] := hl
  have hEv := hE.1
  delta FX8_topOf at hF
  refine lv_aload_n hx hb dX8_topOf_0 rfl (lv_at hl 0 rfl) ?_
  refine mg_on hX hK hH dX8_topOf_1 ?_
  refine lv_iconst (v := 3) hx hb dX8_topOf_4 syi_3 ?_
  refine lv_iload_n hx hb dX8_topOf_5 rfl (lv_at hl 1 rfl) ?_
  refine lv_imul hx hb dX8_topOf_6 ?_
  refine lv_aload_n hx hb dX8_topOf_7 rfl (lv_at hl 0 rfl) ?_
  refine mg_many hX hK hH dX8_topOf_8 ?_
  refine lv_iload_n hx hb dX8_topOf_11 rfl (lv_at hl 1 rfl) ?_
  obtain ⟨x_46, he, hF⟩ := bd1e hF
  refine ml_many hX hK hH he dX8_topOf_12 ?_
  refine lv_iadd hx hb dX8_topOf_13 ?_
  refine lv_iconst (v := 1) hx hb dX8_topOf_14 syi_1 ?_
  refine lv_isub hx hb dX8_topOf_15 ?_
  obtain ⟨x_47, he, hF⟩ := bd1e hF
  refine ml_on hX hK hH he dX8_topOf_16 ?_
  refine lv_iconst (v := 1) hx hb dX8_topOf_17 syi_1 ?_
  refine lv_isub hx hb dX8_topOf_18 ?_
  obtain rfl := Option.some.inj hF
  exact hret _ _ _ _ hH dX8_topOf_19
abbrev rm_X8_wasMoved : Room := { frames := 0, cells := 0, slots := 0, locals := 0 }
set_option maxHeartbeats 4000000 in
theorem met_X8_wasMoved {l : Launch} {D : va_G} {ad : Nat → Nat} {cA : Nat → ClassId} {a_all : Nat → Int32} {a_hasImage : Nat → Int32} {a_tape : Nat → Int32} {a_fresh : Nat → Int32} {v_taped : Int32} {v_at : Int32} {v_behind : Int32} {v_size : Int32} {v_kind : Int32} {v_number : Int32} {v_wrong : Int32} {v_wrongAt : Int32} {v_depth : Int32} {v_steps : Int32} {v_faultKind : Int32} {v_faultPlace : Int32} {a_on : Nat → Int32} {a_many : Nat → Int32} {v_moved : Int32} {a_pile : Nat → Int32} {v_aside : Int32} {v_judgedBy : Int32} {v_judgedYear : Int32} {a_leastCost : Nat → Int32} {a_matched : Nat → Int32} {a_order : Nat → Int32} {a_lies : Nat → Int64} {a_movedThen : Nat → Int32} {a_yearTable : Nat → Int32} {a_yearMark : Nat → Int32} {a_beginTable : Nat → Int32} {a_beginMark : Nat → Int32} {v_statesTold : Int32} {v_found : Int32} {v_yearFrom : Int32} {v_mark : Int32} {v_beginsMark : Int32} {v_begins : Int32} {a_began : Nat → Int64} {v_isSpent : Int32} {a_wants : Nat → Int32} {a_rowSort : Nat → Int32} {a_rowMany : Nat → Int32} {a_numbers : Nat → Int64}  {p1 : Int32} {res : Bool} {ak av fo : Nat} {E : EvT} (hE : EvM E ak av fo) (hF : FX8_wasMoved v_moved p1 = some res) : MM l yX8_wasMoved (ws_ yX8_wasMoved cX8_wasMoved 2 (Option.some Jvm.ClassFile.FieldType.boolean)) rm_X8_wasMoved D vwA (mT cA) E [.ref (ad 0), .int p1] (mW ad cA a_all a_hasImage a_tape a_fresh v_taped v_at v_behind v_size v_kind v_number v_wrong v_wrongAt v_depth v_steps v_faultKind v_faultPlace a_on a_many v_moved a_pile v_aside v_judgedBy v_judgedYear a_leastCost a_matched a_order a_lies a_movedThen a_yearTable a_yearMark a_beginTable a_beginMark v_statesTold v_found v_yearFrom v_mark v_beginsMark v_begins a_began v_isSpent a_wants a_rowSort a_rowMany a_numbers) (mW ad cA a_all a_hasImage a_tape a_fresh v_taped v_at v_behind v_size v_kind v_number v_wrong v_wrongAt v_depth v_steps v_faultKind v_faultPlace a_on a_many v_moved a_pile v_aside v_judgedBy v_judgedYear a_leastCost a_matched a_order a_lies a_movedThen a_yearTable a_yearMark a_beginTable a_beginMark v_statesTold v_found v_yearFrom v_mark v_beginsMark v_begins a_began v_isSpent a_wants a_rowSort a_rowMany a_numbers) (some (.int (b2i res))) := by
  refine MM.ofZ (by decide) (Nat.le_of_ble_eq_true rfl) ?_
  intro p e s m args below meth c Q A hX hK hE0 hret H locs ls hH hl
  have hX : CallFix p m c cX8_wasMoved 2 s args lw_all RX8 := hX
  have hx := hX.1
  have hb := hX.2.1
  have hown := hX.2.2.2.1
  have hts := hX.2.2.2.2
  have hl : lv_has ls 2 [(0, .ref (ad 0)), (1, .int p1)] := hl
  have hEv := hE.1
  delta FX8_wasMoved at hF
  refine lv_aload_n hx hb dX8_wasMoved_0 rfl (lv_at hl 0 rfl) ?_
  refine mg_moved hX hK hH dX8_wasMoved_1 ?_
  refine lv_iload_n hx hb dX8_wasMoved_4 rfl (lv_at hl 1 rfl) ?_
  refine lv_ishr hx hb dX8_wasMoved_5 ?_
  refine lv_iconst (v := 1) hx hb dX8_wasMoved_6 syi_1 ?_
  refine lv_iand hx hb dX8_wasMoved_7 ?_
  refine lv_iconst (v := 1) hx hb dX8_wasMoved_8 syi_1 ?_
  refine lv_icmp_ne (tgt := 16) hx hb dX8_wasMoved_9 rfl (fun c_46 => ?_) (fun c_46 => ?_)
  · have hF := itn c_46 hF
    refine lv_iconst (v := 0) hx hb dX8_wasMoved_16 syi_0 ?_
    obtain rfl := Option.some.inj hF
    exact hret _ _ _ _ hH dX8_wasMoved_17
  · have hF := itp c_46 hF
    refine lv_iconst (v := 1) hx hb dX8_wasMoved_12 syi_1 ?_
    refine lv_goto (tgt := 17) hx hb dX8_wasMoved_13 rfl ?_
    obtain rfl := Option.some.inj hF
    exact hret _ _ _ _ hH dX8_wasMoved_17
abbrev rm_X8_mayCarry : Room := { frames := 2, cells := 0, slots := 0, locals := 56 }
set_option maxHeartbeats 4000000 in
theorem met_X8_mayCarry {l : Launch} {D : va_G} {ad : Nat → Nat} {cA : Nat → ClassId} {a_all : Nat → Int32} {a_hasImage : Nat → Int32} {a_tape : Nat → Int32} {a_fresh : Nat → Int32} {v_taped : Int32} {v_at : Int32} {v_behind : Int32} {v_size : Int32} {v_kind : Int32} {v_number : Int32} {v_wrong : Int32} {v_wrongAt : Int32} {v_depth : Int32} {v_steps : Int32} {v_faultKind : Int32} {v_faultPlace : Int32} {a_on : Nat → Int32} {a_many : Nat → Int32} {v_moved : Int32} {a_pile : Nat → Int32} {v_aside : Int32} {v_judgedBy : Int32} {v_judgedYear : Int32} {a_leastCost : Nat → Int32} {a_matched : Nat → Int32} {a_order : Nat → Int32} {a_lies : Nat → Int64} {a_movedThen : Nat → Int32} {a_yearTable : Nat → Int32} {a_yearMark : Nat → Int32} {a_beginTable : Nat → Int32} {a_beginMark : Nat → Int32} {v_statesTold : Int32} {v_found : Int32} {v_yearFrom : Int32} {v_mark : Int32} {v_beginsMark : Int32} {v_begins : Int32} {a_began : Nat → Int64} {v_isSpent : Int32} {a_wants : Nat → Int32} {a_rowSort : Nat → Int32} {a_rowMany : Nat → Int32} {a_numbers : Nat → Int64}  {p1 : Int32} {p2 : Int32} {res : Int32} {ra_many : Nat → Int32} {ra_pile : Nat → Int32} {ak av fo : Nat} {E : EvT} (hE : EvM E ak av fo) (hF : FX8_mayCarry a_all a_on a_many v_moved a_pile v_aside p1 p2 = some (res, ra_many, ra_pile)) : MM l yX8_mayCarry (ws_ yX8_mayCarry cX8_mayCarry 5 (Option.some Jvm.ClassFile.FieldType.int)) rm_X8_mayCarry D vwA (mT cA) E [.ref (ad 0), .int p1, .int p2] (mW ad cA a_all a_hasImage a_tape a_fresh v_taped v_at v_behind v_size v_kind v_number v_wrong v_wrongAt v_depth v_steps v_faultKind v_faultPlace a_on a_many v_moved a_pile v_aside v_judgedBy v_judgedYear a_leastCost a_matched a_order a_lies a_movedThen a_yearTable a_yearMark a_beginTable a_beginMark v_statesTold v_found v_yearFrom v_mark v_beginsMark v_begins a_began v_isSpent a_wants a_rowSort a_rowMany a_numbers) (mW ad cA a_all a_hasImage a_tape a_fresh v_taped v_at v_behind v_size v_kind v_number v_wrong v_wrongAt v_depth v_steps v_faultKind v_faultPlace a_on ra_many v_moved ra_pile v_aside v_judgedBy v_judgedYear a_leastCost a_matched a_order a_lies a_movedThen a_yearTable a_yearMark a_beginTable a_beginMark v_statesTold v_found v_yearFrom v_mark v_beginsMark v_begins a_began v_isSpent a_wants a_rowSort a_rowMany a_numbers) (some (.int res)) := by
  refine MM.ofI (by decide) (Nat.le_of_ble_eq_true rfl) ?_
  intro p e s m args below meth c Q A hX hK hE0 hret H locs ls hH hl
  have hX : CallFix p m c cX8_mayCarry 5 s args lw_all RX8 := hX
  have hx := hX.1
  have hb := hX.2.1
  have hown := hX.2.2.2.1
  have hts := hX.2.2.2.2
  have hl : lv_has ls 5 [(0, .ref (ad 0)), (1, .int p1), (2, .int p2)] := hl
  have hEv := hE.1
  delta FX8_mayCarry at hF
  refine lv_aload_n hx hb dX8_mayCarry_0 rfl (lv_at hl 0 rfl) ?_
  refine lv_iload_n hx hb dX8_mayCarry_1 rfl (lv_at hl 1 rfl) ?_
  obtain ⟨b_47, he, hF⟩ := bd1e hF
  refine mcV hX hK hEv hE0 hH (met_X8_isRow hE he) (mrecv hK hH) gw_StoneYearModel_223 hd_yX8_isRow ⟨Nat.le_of_ble_eq_true rfl, Nat.le_of_ble_eq_true rfl⟩ rfl rfl hl (Nat.le_of_ble_eq_true rfl) dX8_mayCarry_2 ⟨Nat.le_of_ble_eq_true rfl, Nat.le_of_ble_eq_true rfl⟩ (fun H locs hH => ?_)
  refine lv_if_eq (tgt := 21) hx hb dX8_mayCarry_5 rfl (fun c_48 => ?_) (fun c_48 => ?_)
  · have hF := itp c_48 hF
    refine lv_iconst (v := 1) hx hb dX8_mayCarry_21 syi_1 ?_
    obtain ⟨rfl, rfl, rfl⟩ := re3 hF
    exact hret _ _ _ _ hH dX8_mayCarry_22
  · have hF := itn c_48 hF
    refine lv_aload_n hx hb dX8_mayCarry_8 rfl (lv_at hl 0 rfl) ?_
    refine lv_iload_n hx hb dX8_mayCarry_9 rfl (lv_at hl 2 rfl) ?_
    obtain ⟨b_49, he, hF⟩ := bd1e hF
    refine mcV hX hK hEv hE0 hH (met_X8_isRow hE he) (mrecv hK hH) gw_StoneYearModel_223 hd_yX8_isRow ⟨Nat.le_of_ble_eq_true rfl, Nat.le_of_ble_eq_true rfl⟩ rfl rfl hl (Nat.le_of_ble_eq_true rfl) dX8_mayCarry_10 ⟨Nat.le_of_ble_eq_true rfl, Nat.le_of_ble_eq_true rfl⟩ (fun H locs hH => ?_)
    refine lv_if_eq (tgt := 21) hx hb dX8_mayCarry_13 rfl (fun c_50 => ?_) (fun c_50 => ?_)
    · have hF := itp c_50 hF
      refine lv_iconst (v := 1) hx hb dX8_mayCarry_21 syi_1 ?_
      obtain ⟨rfl, rfl, rfl⟩ := re3 hF
      exact hret _ _ _ _ hH dX8_mayCarry_22
    · have hF := itn c_50 hF
      refine lv_iload_n hx hb dX8_mayCarry_16 rfl (lv_at hl 1 rfl) ?_
      refine lv_iload_n hx hb dX8_mayCarry_17 rfl (lv_at hl 2 rfl) ?_
      refine lv_icmp_ne (tgt := 23) hx hb dX8_mayCarry_18 rfl (fun c_51 => ?_) (fun c_51 => ?_)
      · have hF := itn c_51 hF
        refine lv_aload_n hx hb dX8_mayCarry_23 rfl (lv_at hl 0 rfl) ?_
        refine mg_many hX hK hH dX8_mayCarry_24 ?_
        refine lv_iload_n hx hb dX8_mayCarry_27 rfl (lv_at hl 1 rfl) ?_
        obtain ⟨x_52, he, hF⟩ := bd1e hF
        refine ml_many hX hK hH he dX8_mayCarry_28 ?_
        refine lv_if_ne (tgt := 34) hx hb dX8_mayCarry_29 rfl (fun c_53 => ?_) (fun c_53 => ?_)
        · have hF := itn c_53 hF
          refine lv_aload_n hx hb dX8_mayCarry_34 rfl (lv_at hl 0 rfl) ?_
          refine lv_iload_n hx hb dX8_mayCarry_35 rfl (lv_at hl 1 rfl) ?_
          obtain ⟨x_54, he, hF⟩ := bd1e hF
          refine mcV hX hK hEv hE0 hH (met_X8_topOf hE he) (mrecv hK hH) gw_StoneYearModel_226 hd_yX8_topOf ⟨Nat.le_of_ble_eq_true rfl, Nat.le_of_ble_eq_true rfl⟩ rfl rfl hl (Nat.le_of_ble_eq_true rfl) dX8_mayCarry_36 ⟨Nat.le_of_ble_eq_true rfl, Nat.le_of_ble_eq_true rfl⟩ (fun H locs hH => ?_)
          refine lv_istore_n (lv' := [(3, .int x_54), (0, .ref (ad 0)), (1, .int p1), (2, .int p2)]) hx hb dX8_mayCarry_39 rfl hl (by decide) rfl (fun ls hl => ?_)
          refine lv_aload_n hx hb dX8_mayCarry_40 rfl (lv_at hl 1 rfl) ?_
          refine lv_iload_n hx hb dX8_mayCarry_41 rfl (lv_at hl 0 rfl) ?_
          obtain ⟨b_55, he, hF⟩ := bd1e hF
          refine mcV hX hK hEv hE0 hH (met_X8_wasMoved hE he) (mrecv hK hH) gw_StoneYearModel_229 hd_yX8_wasMoved ⟨Nat.le_of_ble_eq_true rfl, Nat.le_of_ble_eq_true rfl⟩ rfl rfl hl (Nat.le_of_ble_eq_true rfl) dX8_mayCarry_42 ⟨Nat.le_of_ble_eq_true rfl, Nat.le_of_ble_eq_true rfl⟩ (fun H locs hH => ?_)
          refine lv_if_eq (tgt := 50) hx hb dX8_mayCarry_45 rfl (fun c_56 => ?_) (fun c_56 => ?_)
          · have hF := itp c_56 hF
            refine lv_aload_n hx hb dX8_mayCarry_50 rfl (lv_at hl 1 rfl) ?_
            refine mg_many hX hK hH dX8_mayCarry_51 ?_
            refine lv_iload_n hx hb dX8_mayCarry_54 rfl (lv_at hl 3 rfl) ?_
            obtain ⟨x_57, he, hF⟩ := bd1e hF
            refine ml_many hX hK hH he dX8_mayCarry_55 ?_
            refine lv_aload_n hx hb dX8_mayCarry_56 rfl (lv_at hl 1 rfl) ?_
            refine mg_all hX hK hH dX8_mayCarry_57 ?_
            refine lv_iconst (v := 1) hx hb dX8_mayCarry_60 syi_1 ?_
            refine lv_iload_n hx hb dX8_mayCarry_61 rfl (lv_at hl 3 rfl) ?_
            refine lv_iadd hx hb dX8_mayCarry_62 ?_
            obtain ⟨x_58, he, hF⟩ := bd1e hF
            refine ml_all hX hK hH he dX8_mayCarry_63 ?_
            refine lv_icmp_ne (tgt := 69) hx hb dX8_mayCarry_64 rfl (fun c_59 => ?_) (fun c_59 => ?_)
            · have hF := itn c_59 hF
              refine lv_aload_n hx hb dX8_mayCarry_69 rfl (lv_at hl 1 rfl) ?_
              refine lv_iload_n hx hb dX8_mayCarry_70 rfl (lv_at hl 2 rfl) ?_
              refine lv_iload_n hx hb dX8_mayCarry_71 rfl (lv_at hl 3 rfl) ?_
              obtain ⟨b_60, he, hF⟩ := bd1e hF
              refine mcV hX hK hEv hE0 hH (met_X8_isShut hE he) (mrecv hK hH) gw_StoneYearModel_232 hd_yX8_isShut ⟨Nat.le_of_ble_eq_true rfl, Nat.le_of_ble_eq_true rfl⟩ rfl rfl hl (Nat.le_of_ble_eq_true rfl) dX8_mayCarry_72 ⟨Nat.le_of_ble_eq_true rfl, Nat.le_of_ble_eq_true rfl⟩ (fun H locs hH => ?_)
              refine lv_if_eq (tgt := 80) hx hb dX8_mayCarry_75 rfl (fun c_61 => ?_) (fun c_61 => ?_)
              · have hF := itp c_61 hF
                refine lv_aload_n hx hb dX8_mayCarry_80 rfl (lv_at hl 1 rfl) ?_
                refine lv_iload_n hx hb dX8_mayCarry_81 rfl (lv_at hl 3 rfl) ?_
                refine lv_aload_n hx hb dX8_mayCarry_82 rfl (lv_at hl 1 rfl) ?_
                refine mg_many hX hK hH dX8_mayCarry_83 ?_
                refine lv_iload_n hx hb dX8_mayCarry_86 rfl (lv_at hl 3 rfl) ?_
                obtain ⟨x_62, he, hF⟩ := bd1e hF
                refine ml_many hX hK hH he dX8_mayCarry_87 ?_
                refine lv_aload_n hx hb dX8_mayCarry_88 rfl (lv_at hl 1 rfl) ?_
                refine mg_all hX hK hH dX8_mayCarry_89 ?_
                refine lv_bipush (v := 15) hx hb dX8_mayCarry_92 syb_15 ?_
                refine lv_iload_n hx hb dX8_mayCarry_94 rfl (lv_at hl 0 rfl) ?_
                refine lv_iadd hx hb dX8_mayCarry_95 ?_
                obtain ⟨x_63, he, hF⟩ := bd1e hF
                refine ml_all hX hK hH he dX8_mayCarry_96 ?_
                obtain ⟨b_64, he, hF⟩ := bd1e hF
                refine mcV hX hK hEv hE0 hH (met_X8_isHeavy hE he) (mrecv hK hH) gw_StoneYearModel_236 hd_yX8_isHeavy ⟨Nat.le_of_ble_eq_true rfl, Nat.le_of_ble_eq_true rfl⟩ rfl rfl hl (Nat.le_of_ble_eq_true rfl) dX8_mayCarry_97 ⟨Nat.le_of_ble_eq_true rfl, Nat.le_of_ble_eq_true rfl⟩ (fun H locs hH => ?_)
                refine lv_if_eq (tgt := 106) hx hb dX8_mayCarry_100 rfl (fun c_65 => ?_) (fun c_65 => ?_)
                · have hF := itp c_65 hF
                  refine lv_aload_n hx hb dX8_mayCarry_106 rfl (lv_at hl 1 rfl) ?_
                  refine lv_iload_n hx hb dX8_mayCarry_107 rfl (lv_at hl 0 rfl) ?_
                  refine lv_iload_n hx hb dX8_mayCarry_108 rfl (lv_at hl 2 rfl) ?_
                  refine lv_iload_n hx hb dX8_mayCarry_109 rfl (lv_at hl 3 rfl) ?_
                  refine lv_aload_n hx hb dX8_mayCarry_110 rfl (lv_at hl 1 rfl) ?_
                  refine mg_many hX hK hH dX8_mayCarry_111 ?_
                  refine lv_iload_n hx hb dX8_mayCarry_114 rfl (lv_at hl 2 rfl) ?_
                  obtain ⟨x_66, he, hF⟩ := bd1e hF
                  refine ml_many hX hK hH he dX8_mayCarry_115 ?_
                  refine lv_iconst (v := 1) hx hb dX8_mayCarry_116 syi_1 ?_
                  refine lv_isub hx hb dX8_mayCarry_117 ?_
                  refine lv_aload_n hx hb dX8_mayCarry_118 rfl (lv_at hl 1 rfl) ?_
                  refine mg_many hX hK hH dX8_mayCarry_119 ?_
                  refine lv_iload_n hx hb dX8_mayCarry_122 rfl (lv_at hl 3 rfl) ?_
                  obtain ⟨x_67, he, hF⟩ := bd1e hF
                  refine ml_many hX hK hH he dX8_mayCarry_123 ?_
                  obtain ⟨b_68, a_pile_69, he, hF⟩ := bd2e hF
                  refine mcV hX hK hEv hE0 hH (met_X8_isBarred hE he) (mrecv hK hH) gw_StoneYearModel_240 hd_yX8_isBarred ⟨Nat.le_of_ble_eq_true rfl, Nat.le_of_ble_eq_true rfl⟩ rfl rfl hl (Nat.le_of_ble_eq_true rfl) dX8_mayCarry_124 ⟨Nat.le_of_ble_eq_true rfl, Nat.le_of_ble_eq_true rfl⟩ (fun H locs hH => ?_)
                  refine lv_if_eq (tgt := 133) hx hb dX8_mayCarry_127 rfl (fun c_70 => ?_) (fun c_70 => ?_)
                  · have hF := itp c_70 hF
                    refine lv_aload_n hx hb dX8_mayCarry_133 rfl (lv_at hl 1 rfl) ?_
                    refine mg_many hX hK hH dX8_mayCarry_134 ?_
                    refine lv_iload_n hx hb dX8_mayCarry_137 rfl (lv_at hl 2 rfl) ?_
                    refine lv_dup2_11 hx hb dX8_mayCarry_138 rfl rfl ?_
                    obtain ⟨x_71, he, hF⟩ := bd1e hF
                    refine ml_many hX hK hH he dX8_mayCarry_139 ?_
                    refine lv_iconst (v := 1) hx hb dX8_mayCarry_140 syi_1 ?_
                    refine lv_isub hx hb dX8_mayCarry_141 ?_
                    obtain ⟨a_many_72, he, hF⟩ := bd1e hF
                    refine ms_many hX hK hH he dX8_mayCarry_142 (fun H locs hH => ?_)
                    refine lv_aload_n hx hb dX8_mayCarry_143 rfl (lv_at hl 1 rfl) ?_
                    refine mg_many hX hK hH dX8_mayCarry_144 ?_
                    refine lv_iload_n hx hb dX8_mayCarry_147 rfl (lv_at hl 3 rfl) ?_
                    refine lv_dup2_11 hx hb dX8_mayCarry_148 rfl rfl ?_
                    obtain ⟨x_73, he, hF⟩ := bd1e hF
                    refine ml_many hX hK hH he dX8_mayCarry_149 ?_
                    refine lv_iconst (v := 1) hx hb dX8_mayCarry_150 syi_1 ?_
                    refine lv_iadd hx hb dX8_mayCarry_151 ?_
                    obtain ⟨a_many_74, he, hF⟩ := bd1e hF
                    refine ms_many hX hK hH he dX8_mayCarry_152 (fun H locs hH => ?_)
                    refine lv_aload_n hx hb dX8_mayCarry_153 rfl (lv_at hl 1 rfl) ?_
                    obtain ⟨x_75, he, hF⟩ := bd1e hF
                    refine mcV hX hK hEv hE0 hH (met_X8_brokenMust hE he) (mrecv hK hH) gw_StoneYearModel_244 hd_yX8_brokenMust ⟨Nat.le_of_ble_eq_true rfl, Nat.le_of_ble_eq_true rfl⟩ rfl rfl hl (Nat.le_of_ble_eq_true rfl) dX8_mayCarry_154 ⟨Nat.le_of_ble_eq_true rfl, Nat.le_of_ble_eq_true rfl⟩ (fun H locs hH => ?_)
                    refine lv_iconst (v := (-1)) hx hb dX8_mayCarry_157 syi_m1 ?_
                    have j166 : ∀ (x_77 : Int32), FX8_mayCarry_j166 a_all v_moved p1 p2 a_pile_69 a_many_74 x_77 = some (res, ra_many, ra_pile) → ∀ (H : Heap) (locs : List Loc) (ls : Array Slot), MH D vwA A s.heap (mW ad cA a_all a_hasImage a_tape a_fresh v_taped v_at v_behind v_size v_kind v_number v_wrong v_wrongAt v_depth v_steps v_faultKind v_faultPlace a_on a_many_74 v_moved a_pile_69 v_aside v_judgedBy v_judgedYear a_leastCost a_matched a_order a_lies a_movedThen a_yearTable a_yearMark a_beginTable a_beginMark v_statesTold v_found v_yearFrom v_mark v_beginsMark v_begins a_began v_isSpent a_wants a_rowSort a_rowMany a_numbers) H locs → lv_has ls 5 [(0, .ref (ad 0)), (1, .int p1), (2, .int p2)] → W p l e rm_X8_mayCarry s m args below meth c H locs 0 0 Q (F0 m 166 ls [.int x_77]) := by
                      intro x_77 hF H locs ls hH hl
                      delta FX8_mayCarry_j166 at hF
                      refine lv_istore (lv' := [(4, .int x_77), (0, .ref (ad 0)), (1, .int p1), (2, .int p2)]) hx hb dX8_mayCarry_166 hl (by decide) rfl (fun ls hl => ?_)
                      refine lv_aload_n hx hb dX8_mayCarry_168 rfl (lv_at hl 1 rfl) ?_
                      refine mg_many hX hK hH dX8_mayCarry_169 ?_
                      refine lv_iload_n hx hb dX8_mayCarry_172 rfl (lv_at hl 2 rfl) ?_
                      refine lv_dup2_11 hx hb dX8_mayCarry_173 rfl rfl ?_
                      obtain ⟨x_78, he, hF⟩ := bd1e hF
                      refine ml_many hX hK hH he dX8_mayCarry_174 ?_
                      refine lv_iconst (v := 1) hx hb dX8_mayCarry_175 syi_1 ?_
                      refine lv_iadd hx hb dX8_mayCarry_176 ?_
                      obtain ⟨a_many_79, he, hF⟩ := bd1e hF
                      refine ms_many hX hK hH he dX8_mayCarry_177 (fun H locs hH => ?_)
                      refine lv_aload_n hx hb dX8_mayCarry_178 rfl (lv_at hl 1 rfl) ?_
                      refine mg_many hX hK hH dX8_mayCarry_179 ?_
                      refine lv_iload_n hx hb dX8_mayCarry_182 rfl (lv_at hl 3 rfl) ?_
                      refine lv_dup2_11 hx hb dX8_mayCarry_183 rfl rfl ?_
                      obtain ⟨x_80, he, hF⟩ := bd1e hF
                      refine ml_many hX hK hH he dX8_mayCarry_184 ?_
                      refine lv_iconst (v := 1) hx hb dX8_mayCarry_185 syi_1 ?_
                      refine lv_isub hx hb dX8_mayCarry_186 ?_
                      obtain ⟨a_many_81, he, hF⟩ := bd1e hF
                      refine ms_many hX hK hH he dX8_mayCarry_187 (fun H locs hH => ?_)
                      refine lv_iload hx hb dX8_mayCarry_188 (lv_at hl 0 rfl) ?_
                      refine lv_if_eq (tgt := 196) hx hb dX8_mayCarry_190 rfl (fun c_82 => ?_) (fun c_82 => ?_)
                      · have hF := itp c_82 hF
                        refine lv_aload_n hx hb dX8_mayCarry_196 rfl (lv_at hl 1 rfl) ?_
                        refine mg_moved hX hK hH dX8_mayCarry_197 ?_
                        obtain ⟨x_83, he, hF⟩ := bd1e hF
                        refine mcS hX hK hEv hE0 hH (met_X8_bitsOf hE he) gw_StoneYearModel_247 hd_yX8_bitsOf ⟨Nat.le_of_ble_eq_true rfl, Nat.le_of_ble_eq_true rfl⟩ rfl rfl hl (Nat.le_of_ble_eq_true rfl) dX8_mayCarry_200 ⟨Nat.le_of_ble_eq_true rfl, Nat.le_of_ble_eq_true rfl⟩ (fun H locs hH => ?_)
                        refine lv_aload_n hx hb dX8_mayCarry_203 rfl (lv_at hl 1 rfl) ?_
                        refine mg_all hX hK hH dX8_mayCarry_204 ?_
                        refine lv_bipush (v := 76) hx hb dX8_mayCarry_207 syb_76 ?_
                        obtain ⟨x_84, he, hF⟩ := bd1e hF
                        refine ml_all hX hK hH he dX8_mayCarry_209 ?_
                        refine lv_icmp_lt (tgt := 218) hx hb dX8_mayCarry_210 rfl (fun c_85 => ?_) (fun c_85 => ?_)
                        · have hF := itp c_85 hF
                          refine lv_iconst (v := 0) hx hb dX8_mayCarry_218 syi_0 ?_
                          obtain ⟨rfl, rfl, rfl⟩ := re3 hF
                          exact hret _ _ _ _ hH dX8_mayCarry_219
                        · have hF := itn c_85 hF
                          refine lv_bipush (v := 9) hx hb dX8_mayCarry_213 syb_9 ?_
                          refine lv_goto (tgt := 219) hx hb dX8_mayCarry_215 rfl ?_
                          obtain ⟨rfl, rfl, rfl⟩ := re3 hF
                          exact hret _ _ _ _ hH dX8_mayCarry_219
                      · have hF := itn c_82 hF
                        refine lv_bipush (v := 8) hx hb dX8_mayCarry_193 syb_8 ?_
                        obtain ⟨rfl, rfl, rfl⟩ := re3 hF
                        exact hret _ _ _ _ hH dX8_mayCarry_195
                    refine lv_icmp_eq (tgt := 165) hx hb dX8_mayCarry_158 rfl (fun c_76 => ?_) (fun c_76 => ?_)
                    · have hF := itp c_76 hF
                      refine lv_iconst (v := 0) hx hb dX8_mayCarry_165 syi_0 ?_
                      exact j166 0 hF _ _ _ hH (lv_sub hl [1, 2, 3] rfl)
                    · have hF := itn c_76 hF
                      refine lv_iconst (v := 1) hx hb dX8_mayCarry_161 syi_1 ?_
                      refine lv_goto (tgt := 166) hx hb dX8_mayCarry_162 rfl ?_
                      exact j166 1 hF _ _ _ hH (lv_sub hl [1, 2, 3] rfl)
                  · have hF := itn c_70 hF
                    refine lv_bipush (v := 7) hx hb dX8_mayCarry_130 syb_7 ?_
                    obtain ⟨rfl, rfl, rfl⟩ := re3 hF
                    exact hret _ _ _ _ hH dX8_mayCarry_132
                · have hF := itn c_65 hF
                  refine lv_bipush (v := 6) hx hb dX8_mayCarry_103 syb_6 ?_
                  obtain ⟨rfl, rfl, rfl⟩ := re3 hF
                  exact hret _ _ _ _ hH dX8_mayCarry_105
              · have hF := itn c_61 hF
                refine lv_iconst (v := 5) hx hb dX8_mayCarry_78 syi_5 ?_
                obtain ⟨rfl, rfl, rfl⟩ := re3 hF
                exact hret _ _ _ _ hH dX8_mayCarry_79
            · have hF := itp c_59 hF
              refine lv_iconst (v := 4) hx hb dX8_mayCarry_67 syi_4 ?_
              obtain ⟨rfl, rfl, rfl⟩ := re3 hF
              exact hret _ _ _ _ hH dX8_mayCarry_68
          · have hF := itn c_56 hF
            refine lv_iconst (v := 3) hx hb dX8_mayCarry_48 syi_3 ?_
            obtain ⟨rfl, rfl, rfl⟩ := re3 hF
            exact hret _ _ _ _ hH dX8_mayCarry_49
        · have hF := itp c_53 hF
          refine lv_iconst (v := 2) hx hb dX8_mayCarry_32 syi_2 ?_
          obtain ⟨rfl, rfl, rfl⟩ := re3 hF
          exact hret _ _ _ _ hH dX8_mayCarry_33
      · have hF := itp c_51 hF
        refine lv_iconst (v := 1) hx hb dX8_mayCarry_21 syi_1 ?_
        obtain ⟨rfl, rfl, rfl⟩ := re3 hF
        exact hret _ _ _ _ hH dX8_mayCarry_22
abbrev rm_X8_may : Room := { frames := 3, cells := 0, slots := 0, locals := 80 }
set_option maxHeartbeats 4000000 in
theorem met_X8_may {l : Launch} {D : va_G} {ad : Nat → Nat} {cA : Nat → ClassId} {a_all : Nat → Int32} {a_hasImage : Nat → Int32} {a_tape : Nat → Int32} {a_fresh : Nat → Int32} {v_taped : Int32} {v_at : Int32} {v_behind : Int32} {v_size : Int32} {v_kind : Int32} {v_number : Int32} {v_wrong : Int32} {v_wrongAt : Int32} {v_depth : Int32} {v_steps : Int32} {v_faultKind : Int32} {v_faultPlace : Int32} {a_on : Nat → Int32} {a_many : Nat → Int32} {v_moved : Int32} {a_pile : Nat → Int32} {v_aside : Int32} {v_judgedBy : Int32} {v_judgedYear : Int32} {a_leastCost : Nat → Int32} {a_matched : Nat → Int32} {a_order : Nat → Int32} {a_lies : Nat → Int64} {a_movedThen : Nat → Int32} {a_yearTable : Nat → Int32} {a_yearMark : Nat → Int32} {a_beginTable : Nat → Int32} {a_beginMark : Nat → Int32} {v_statesTold : Int32} {v_found : Int32} {v_yearFrom : Int32} {v_mark : Int32} {v_beginsMark : Int32} {v_begins : Int32} {a_began : Nat → Int64} {v_isSpent : Int32} {a_wants : Nat → Int32} {a_rowSort : Nat → Int32} {a_rowMany : Nat → Int32} {a_numbers : Nat → Int64}  {p1 : Int32} {p2 : Int32} {res : Int32} {ra_on : Nat → Int32} {ra_many : Nat → Int32} {rv_moved : Int32} {ra_pile : Nat → Int32} {ak av fo : Nat} {E : EvT} (hE : EvM E ak av fo) (hF : FX8_may a_all a_on a_many a_pile v_aside p1 p2 = some (res, ra_on, ra_many, rv_moved, ra_pile)) : MM l yX8_may (ws_ yX8_may cX8_may 3 (Option.some Jvm.ClassFile.FieldType.int)) rm_X8_may D vwA (mT cA) E [.ref (ad 0), .int p1, .int p2] (mW ad cA a_all a_hasImage a_tape a_fresh v_taped v_at v_behind v_size v_kind v_number v_wrong v_wrongAt v_depth v_steps v_faultKind v_faultPlace a_on a_many v_moved a_pile v_aside v_judgedBy v_judgedYear a_leastCost a_matched a_order a_lies a_movedThen a_yearTable a_yearMark a_beginTable a_beginMark v_statesTold v_found v_yearFrom v_mark v_beginsMark v_begins a_began v_isSpent a_wants a_rowSort a_rowMany a_numbers) (mW ad cA a_all a_hasImage a_tape a_fresh v_taped v_at v_behind v_size v_kind v_number v_wrong v_wrongAt v_depth v_steps v_faultKind v_faultPlace ra_on ra_many rv_moved ra_pile v_aside v_judgedBy v_judgedYear a_leastCost a_matched a_order a_lies a_movedThen a_yearTable a_yearMark a_beginTable a_beginMark v_statesTold v_found v_yearFrom v_mark v_beginsMark v_begins a_began v_isSpent a_wants a_rowSort a_rowMany a_numbers) (some (.int res)) := by
  refine MM.ofI (by decide) (Nat.le_of_ble_eq_true rfl) ?_
  intro p e s m args below meth c Q A hX hK hE0 hret H locs ls hH hl
  have hX : CallFix p m c cX8_may 3 s args lw_all RX8 := hX
  have hx := hX.1
  have hb := hX.2.1
  have hown := hX.2.2.2.1
  have hts := hX.2.2.2.2
  have hl : lv_has ls 3 [(0, .ref (ad 0)), (1, .int p1), (2, .int p2)] := hl
  have hEv := hE.1
  delta FX8_may at hF
  refine lv_aload_n hx hb dX8_may_0 rfl (lv_at hl 0 rfl) ?_
  refine lv_iconst (v := 0) hx hb dX8_may_1 syi_0 ?_
  refine mp_thrown hX hK hH dX8_may_2 (fun H locs hH => ?_)
  refine lv_aload_n hx hb dX8_may_5 rfl (lv_at hl 0 rfl) ?_
  obtain ⟨a_on_47, a_many_48, v_moved_49, he, hF⟩ := bd3e hF
  refine mcV hX hK hEv hE0 hH (met_X8_looksNow hE he) (mrecv hK hH) gw_StoneYearModel_260 hd_yX8_looksNow ⟨Nat.le_of_ble_eq_true rfl, Nat.le_of_ble_eq_true rfl⟩ rfl rfl hl (Nat.le_of_ble_eq_true rfl) dX8_may_6 ⟨Nat.le_of_ble_eq_true rfl, Nat.le_of_ble_eq_true rfl⟩ (fun H locs hH => ?_)
  refine lv_aload_n hx hb dX8_may_9 rfl (lv_at hl 0 rfl) ?_
  refine lv_iload_n hx hb dX8_may_10 rfl (lv_at hl 1 rfl) ?_
  refine lv_iload_n hx hb dX8_may_11 rfl (lv_at hl 2 rfl) ?_
  obtain ⟨x_50, a_many_51, a_pile_52, he, hF⟩ := bd3e hF
  refine mcV hX hK hEv hE0 hH (met_X8_mayCarry hE he) (mrecv hK hH) gw_StoneYearModel_266 hd_yX8_mayCarry ⟨Nat.le_of_ble_eq_true rfl, Nat.le_of_ble_eq_true rfl⟩ rfl rfl hl (Nat.le_of_ble_eq_true rfl) dX8_may_12 ⟨Nat.le_of_ble_eq_true rfl, Nat.le_of_ble_eq_true rfl⟩ (fun H locs hH => ?_)
  obtain ⟨rfl, rfl, rfl, rfl, rfl⟩ := re5 hF
  exact hret _ _ _ _ hH dX8_may_15
abbrev rm_X8_mayTurn : Room := { frames := 2, cells := 0, slots := 0, locals := 56 }
set_option maxHeartbeats 4000000 in
theorem met_X8_mayTurn {l : Launch} {D : va_G} {ad : Nat → Nat} {cA : Nat → ClassId} {a_all : Nat → Int32} {a_hasImage : Nat → Int32} {a_tape : Nat → Int32} {a_fresh : Nat → Int32} {v_taped : Int32} {v_at : Int32} {v_behind : Int32} {v_size : Int32} {v_kind : Int32} {v_number : Int32} {v_wrong : Int32} {v_wrongAt : Int32} {v_depth : Int32} {v_steps : Int32} {v_faultKind : Int32} {v_faultPlace : Int32} {a_on : Nat → Int32} {a_many : Nat → Int32} {v_moved : Int32} {a_pile : Nat → Int32} {v_aside : Int32} {v_judgedBy : Int32} {v_judgedYear : Int32} {a_leastCost : Nat → Int32} {a_matched : Nat → Int32} {a_order : Nat → Int32} {a_lies : Nat → Int64} {a_movedThen : Nat → Int32} {a_yearTable : Nat → Int32} {a_yearMark : Nat → Int32} {a_beginTable : Nat → Int32} {a_beginMark : Nat → Int32} {v_statesTold : Int32} {v_found : Int32} {v_yearFrom : Int32} {v_mark : Int32} {v_beginsMark : Int32} {v_begins : Int32} {a_began : Nat → Int64} {v_isSpent : Int32} {a_wants : Nat → Int32} {a_rowSort : Nat → Int32} {a_rowMany : Nat → Int32} {a_numbers : Nat → Int64}  {p1 : Int32} {p2 : Int32} {res : Int32} {ra_pile : Nat → Int32} {ak av fo : Nat} {E : EvT} (hE : EvM E ak av fo) (hF : FX8_mayTurn a_all a_on a_many v_moved a_pile p1 p2 = some (res, ra_pile)) : MM l yX8_mayTurn (ws_ yX8_mayTurn cX8_mayTurn 5 (Option.some Jvm.ClassFile.FieldType.int)) rm_X8_mayTurn D vwA (mT cA) E [.ref (ad 0), .int p1, .int p2] (mW ad cA a_all a_hasImage a_tape a_fresh v_taped v_at v_behind v_size v_kind v_number v_wrong v_wrongAt v_depth v_steps v_faultKind v_faultPlace a_on a_many v_moved a_pile v_aside v_judgedBy v_judgedYear a_leastCost a_matched a_order a_lies a_movedThen a_yearTable a_yearMark a_beginTable a_beginMark v_statesTold v_found v_yearFrom v_mark v_beginsMark v_begins a_began v_isSpent a_wants a_rowSort a_rowMany a_numbers) (mW ad cA a_all a_hasImage a_tape a_fresh v_taped v_at v_behind v_size v_kind v_number v_wrong v_wrongAt v_depth v_steps v_faultKind v_faultPlace a_on a_many v_moved ra_pile v_aside v_judgedBy v_judgedYear a_leastCost a_matched a_order a_lies a_movedThen a_yearTable a_yearMark a_beginTable a_beginMark v_statesTold v_found v_yearFrom v_mark v_beginsMark v_begins a_began v_isSpent a_wants a_rowSort a_rowMany a_numbers) (some (.int res)) := by
  refine MM.ofI (by decide) (Nat.le_of_ble_eq_true rfl) ?_
  intro p e s m args below meth c Q A hX hK hE0 hret H locs ls hH hl
  have hX : CallFix p m c cX8_mayTurn 5 s args lw_all RX8 := hX
  have hx := hX.1
  have hb := hX.2.1
  have hown := hX.2.2.2.1
  have hts := hX.2.2.2.2
  have hl : lv_has ls 5 [(0, .ref (ad 0)), (1, .int p1), (2, .int p2)] := hl
  have hEv := hE.1
  delta FX8_mayTurn at hF
  refine lv_aload_n hx hb dX8_mayTurn_0 rfl (lv_at hl 0 rfl) ?_
  refine lv_iload_n hx hb dX8_mayTurn_1 rfl (lv_at hl 1 rfl) ?_
  obtain ⟨b_47, he, hF⟩ := bd1e hF
  refine mcV hX hK hEv hE0 hH (met_X8_isRow hE he) (mrecv hK hH) gw_StoneYearModel_223 hd_yX8_isRow ⟨Nat.le_of_ble_eq_true rfl, Nat.le_of_ble_eq_true rfl⟩ rfl rfl hl (Nat.le_of_ble_eq_true rfl) dX8_mayTurn_2 ⟨Nat.le_of_ble_eq_true rfl, Nat.le_of_ble_eq_true rfl⟩ (fun H locs hH => ?_)
  refine lv_if_eq (tgt := 31) hx hb dX8_mayTurn_5 rfl (fun c_48 => ?_) (fun c_48 => ?_)
  · have hF := itp c_48 hF
    refine lv_iconst (v := 1) hx hb dX8_mayTurn_31 syi_1 ?_
    obtain ⟨rfl, rfl⟩ := re2 hF
    exact hret _ _ _ _ hH dX8_mayTurn_32
  · have hF := itn c_48 hF
    refine lv_aload_n hx hb dX8_mayTurn_8 rfl (lv_at hl 0 rfl) ?_
    refine lv_iload_n hx hb dX8_mayTurn_9 rfl (lv_at hl 2 rfl) ?_
    obtain ⟨b_49, he, hF⟩ := bd1e hF
    refine mcV hX hK hEv hE0 hH (met_X8_isRow hE he) (mrecv hK hH) gw_StoneYearModel_223 hd_yX8_isRow ⟨Nat.le_of_ble_eq_true rfl, Nat.le_of_ble_eq_true rfl⟩ rfl rfl hl (Nat.le_of_ble_eq_true rfl) dX8_mayTurn_10 ⟨Nat.le_of_ble_eq_true rfl, Nat.le_of_ble_eq_true rfl⟩ (fun H locs hH => ?_)
    refine lv_if_eq (tgt := 31) hx hb dX8_mayTurn_13 rfl (fun c_50 => ?_) (fun c_50 => ?_)
    · have hF := itp c_50 hF
      refine lv_iconst (v := 1) hx hb dX8_mayTurn_31 syi_1 ?_
      obtain ⟨rfl, rfl⟩ := re2 hF
      exact hret _ _ _ _ hH dX8_mayTurn_32
    · have hF := itn c_50 hF
      refine lv_iload_n hx hb dX8_mayTurn_16 rfl (lv_at hl 1 rfl) ?_
      refine lv_iload_n hx hb dX8_mayTurn_17 rfl (lv_at hl 2 rfl) ?_
      refine lv_icmp_eq (tgt := 31) hx hb dX8_mayTurn_18 rfl (fun c_51 => ?_) (fun c_51 => ?_)
      · have hF := itp c_51 hF
        refine lv_iconst (v := 1) hx hb dX8_mayTurn_31 syi_1 ?_
        obtain ⟨rfl, rfl⟩ := re2 hF
        exact hret _ _ _ _ hH dX8_mayTurn_32
      · have hF := itn c_51 hF
        refine lv_aload_n hx hb dX8_mayTurn_21 rfl (lv_at hl 0 rfl) ?_
        refine mg_all hX hK hH dX8_mayTurn_22 ?_
        refine lv_bipush (v := 77) hx hb dX8_mayTurn_25 syb_77 ?_
        obtain ⟨x_52, he, hF⟩ := bd1e hF
        refine ml_all hX hK hH he dX8_mayTurn_27 ?_
        refine lv_if_ne (tgt := 33) hx hb dX8_mayTurn_28 rfl (fun c_53 => ?_) (fun c_53 => ?_)
        · have hF := itn c_53 hF
          refine lv_aload_n hx hb dX8_mayTurn_33 rfl (lv_at hl 0 rfl) ?_
          refine mg_many hX hK hH dX8_mayTurn_34 ?_
          refine lv_iload_n hx hb dX8_mayTurn_37 rfl (lv_at hl 1 rfl) ?_
          obtain ⟨x_54, he, hF⟩ := bd1e hF
          refine ml_many hX hK hH he dX8_mayTurn_38 ?_
          refine lv_if_eq (tgt := 51) hx hb dX8_mayTurn_39 rfl (fun c_55 => ?_) (fun c_55 => ?_)
          · have hF := itp c_55 hF
            refine lv_iconst (v := 2) hx hb dX8_mayTurn_51 syi_2 ?_
            obtain ⟨rfl, rfl⟩ := re2 hF
            exact hret _ _ _ _ hH dX8_mayTurn_52
          · have hF := itn c_55 hF
            refine lv_aload_n hx hb dX8_mayTurn_42 rfl (lv_at hl 0 rfl) ?_
            refine mg_many hX hK hH dX8_mayTurn_43 ?_
            refine lv_iload_n hx hb dX8_mayTurn_46 rfl (lv_at hl 2 rfl) ?_
            obtain ⟨x_56, he, hF⟩ := bd1e hF
            refine ml_many hX hK hH he dX8_mayTurn_47 ?_
            refine lv_if_ne (tgt := 53) hx hb dX8_mayTurn_48 rfl (fun c_57 => ?_) (fun c_57 => ?_)
            · have hF := itn c_57 hF
              refine lv_aload_n hx hb dX8_mayTurn_53 rfl (lv_at hl 0 rfl) ?_
              refine lv_iload_n hx hb dX8_mayTurn_54 rfl (lv_at hl 1 rfl) ?_
              obtain ⟨x_58, he, hF⟩ := bd1e hF
              refine mcV hX hK hEv hE0 hH (met_X8_topOf hE he) (mrecv hK hH) gw_StoneYearModel_226 hd_yX8_topOf ⟨Nat.le_of_ble_eq_true rfl, Nat.le_of_ble_eq_true rfl⟩ rfl rfl hl (Nat.le_of_ble_eq_true rfl) dX8_mayTurn_55 ⟨Nat.le_of_ble_eq_true rfl, Nat.le_of_ble_eq_true rfl⟩ (fun H locs hH => ?_)
              refine lv_istore_n (lv' := [(3, .int x_58), (0, .ref (ad 0)), (1, .int p1), (2, .int p2)]) hx hb dX8_mayTurn_58 rfl hl (by decide) rfl (fun ls hl => ?_)
              refine lv_aload_n hx hb dX8_mayTurn_59 rfl (lv_at hl 1 rfl) ?_
              refine lv_iload_n hx hb dX8_mayTurn_60 rfl (lv_at hl 3 rfl) ?_
              obtain ⟨x_59, he, hF⟩ := bd1e hF
              refine mcV hX hK hEv hE0 hH (met_X8_topOf hE he) (mrecv hK hH) gw_StoneYearModel_226 hd_yX8_topOf ⟨Nat.le_of_ble_eq_true rfl, Nat.le_of_ble_eq_true rfl⟩ rfl rfl hl (Nat.le_of_ble_eq_true rfl) dX8_mayTurn_61 ⟨Nat.le_of_ble_eq_true rfl, Nat.le_of_ble_eq_true rfl⟩ (fun H locs hH => ?_)
              refine lv_istore (lv' := [(4, .int x_59), (3, .int x_58), (0, .ref (ad 0)), (1, .int p1), (2, .int p2)]) hx hb dX8_mayTurn_64 hl (by decide) rfl (fun ls hl => ?_)
              refine lv_aload_n hx hb dX8_mayTurn_66 rfl (lv_at hl 2 rfl) ?_
              refine lv_iload_n hx hb dX8_mayTurn_67 rfl (lv_at hl 1 rfl) ?_
              obtain ⟨b_60, he, hF⟩ := bd1e hF
              refine mcV hX hK hEv hE0 hH (met_X8_wasMoved hE he) (mrecv hK hH) gw_StoneYearModel_229 hd_yX8_wasMoved ⟨Nat.le_of_ble_eq_true rfl, Nat.le_of_ble_eq_true rfl⟩ rfl rfl hl (Nat.le_of_ble_eq_true rfl) dX8_mayTurn_68 ⟨Nat.le_of_ble_eq_true rfl, Nat.le_of_ble_eq_true rfl⟩ (fun H locs hH => ?_)
              refine lv_if_ne (tgt := 83) hx hb dX8_mayTurn_71 rfl (fun c_61 => ?_) (fun c_61 => ?_)
              · have hF := itn c_61 hF
                refine lv_iconst (v := 3) hx hb dX8_mayTurn_83 syi_3 ?_
                obtain ⟨rfl, rfl⟩ := re2 hF
                exact hret _ _ _ _ hH dX8_mayTurn_84
              · have hF := itp c_61 hF
                refine lv_aload_n hx hb dX8_mayTurn_74 rfl (lv_at hl 2 rfl) ?_
                refine lv_iload hx hb dX8_mayTurn_75 (lv_at hl 0 rfl) ?_
                obtain ⟨b_62, he, hF⟩ := bd1e hF
                refine mcV hX hK hEv hE0 hH (met_X8_wasMoved hE he) (mrecv hK hH) gw_StoneYearModel_229 hd_yX8_wasMoved ⟨Nat.le_of_ble_eq_true rfl, Nat.le_of_ble_eq_true rfl⟩ rfl rfl hl (Nat.le_of_ble_eq_true rfl) dX8_mayTurn_77 ⟨Nat.le_of_ble_eq_true rfl, Nat.le_of_ble_eq_true rfl⟩ (fun H locs hH => ?_)
                refine lv_if_eq (tgt := 85) hx hb dX8_mayTurn_80 rfl (fun c_63 => ?_) (fun c_63 => ?_)
                · have hF := itp c_63 hF
                  refine lv_aload_n hx hb dX8_mayTurn_85 rfl (lv_at hl 2 rfl) ?_
                  refine lv_iload_n hx hb dX8_mayTurn_86 rfl (lv_at hl 3 rfl) ?_
                  refine lv_iload_n hx hb dX8_mayTurn_87 rfl (lv_at hl 4 rfl) ?_
                  obtain ⟨b_64, he, hF⟩ := bd1e hF
                  refine mcV hX hK hEv hE0 hH (met_X8_isShut hE he) (mrecv hK hH) gw_StoneYearModel_232 hd_yX8_isShut ⟨Nat.le_of_ble_eq_true rfl, Nat.le_of_ble_eq_true rfl⟩ rfl rfl hl (Nat.le_of_ble_eq_true rfl) dX8_mayTurn_88 ⟨Nat.le_of_ble_eq_true rfl, Nat.le_of_ble_eq_true rfl⟩ (fun H locs hH => ?_)
                  refine lv_if_eq (tgt := 96) hx hb dX8_mayTurn_91 rfl (fun c_65 => ?_) (fun c_65 => ?_)
                  · have hF := itp c_65 hF
                    refine lv_aload_n hx hb dX8_mayTurn_96 rfl (lv_at hl 2 rfl) ?_
                    refine lv_iload_n hx hb dX8_mayTurn_97 rfl (lv_at hl 4 rfl) ?_
                    refine lv_aload_n hx hb dX8_mayTurn_98 rfl (lv_at hl 2 rfl) ?_
                    refine mg_many hX hK hH dX8_mayTurn_99 ?_
                    refine lv_iload_n hx hb dX8_mayTurn_102 rfl (lv_at hl 4 rfl) ?_
                    obtain ⟨x_66, he, hF⟩ := bd1e hF
                    refine ml_many hX hK hH he dX8_mayTurn_103 ?_
                    refine lv_iconst (v := 1) hx hb dX8_mayTurn_104 syi_1 ?_
                    refine lv_isub hx hb dX8_mayTurn_105 ?_
                    refine lv_aload_n hx hb dX8_mayTurn_106 rfl (lv_at hl 2 rfl) ?_
                    refine mg_all hX hK hH dX8_mayTurn_107 ?_
                    refine lv_bipush (v := 15) hx hb dX8_mayTurn_110 syb_15 ?_
                    refine lv_iload_n hx hb dX8_mayTurn_112 rfl (lv_at hl 1 rfl) ?_
                    refine lv_iadd hx hb dX8_mayTurn_113 ?_
                    obtain ⟨x_67, he, hF⟩ := bd1e hF
                    refine ml_all hX hK hH he dX8_mayTurn_114 ?_
                    obtain ⟨b_68, he, hF⟩ := bd1e hF
                    refine mcV hX hK hEv hE0 hH (met_X8_isHeavy hE he) (mrecv hK hH) gw_StoneYearModel_236 hd_yX8_isHeavy ⟨Nat.le_of_ble_eq_true rfl, Nat.le_of_ble_eq_true rfl⟩ rfl rfl hl (Nat.le_of_ble_eq_true rfl) dX8_mayTurn_115 ⟨Nat.le_of_ble_eq_true rfl, Nat.le_of_ble_eq_true rfl⟩ (fun H locs hH => ?_)
                    refine lv_if_ne (tgt := 147) hx hb dX8_mayTurn_118 rfl (fun c_69 => ?_) (fun c_69 => ?_)
                    · have hF := itn c_69 hF
                      refine lv_bipush (v := 6) hx hb dX8_mayTurn_147 syb_6 ?_
                      obtain ⟨rfl, rfl⟩ := re2 hF
                      exact hret _ _ _ _ hH dX8_mayTurn_149
                    · have hF := itp c_69 hF
                      refine lv_aload_n hx hb dX8_mayTurn_121 rfl (lv_at hl 2 rfl) ?_
                      refine lv_iload_n hx hb dX8_mayTurn_122 rfl (lv_at hl 3 rfl) ?_
                      refine lv_aload_n hx hb dX8_mayTurn_123 rfl (lv_at hl 2 rfl) ?_
                      refine mg_many hX hK hH dX8_mayTurn_124 ?_
                      refine lv_iload_n hx hb dX8_mayTurn_127 rfl (lv_at hl 3 rfl) ?_
                      obtain ⟨x_70, he, hF⟩ := bd1e hF
                      refine ml_many hX hK hH he dX8_mayTurn_128 ?_
                      refine lv_iconst (v := 1) hx hb dX8_mayTurn_129 syi_1 ?_
                      refine lv_isub hx hb dX8_mayTurn_130 ?_
                      refine lv_aload_n hx hb dX8_mayTurn_131 rfl (lv_at hl 2 rfl) ?_
                      refine mg_all hX hK hH dX8_mayTurn_132 ?_
                      refine lv_bipush (v := 15) hx hb dX8_mayTurn_135 syb_15 ?_
                      refine lv_iload hx hb dX8_mayTurn_137 (lv_at hl 0 rfl) ?_
                      refine lv_iadd hx hb dX8_mayTurn_139 ?_
                      obtain ⟨x_71, he, hF⟩ := bd1e hF
                      refine ml_all hX hK hH he dX8_mayTurn_140 ?_
                      obtain ⟨b_72, he, hF⟩ := bd1e hF
                      refine mcV hX hK hEv hE0 hH (met_X8_isHeavy hE he) (mrecv hK hH) gw_StoneYearModel_236 hd_yX8_isHeavy ⟨Nat.le_of_ble_eq_true rfl, Nat.le_of_ble_eq_true rfl⟩ rfl rfl hl (Nat.le_of_ble_eq_true rfl) dX8_mayTurn_141 ⟨Nat.le_of_ble_eq_true rfl, Nat.le_of_ble_eq_true rfl⟩ (fun H locs hH => ?_)
                      refine lv_if_eq (tgt := 150) hx hb dX8_mayTurn_144 rfl (fun c_73 => ?_) (fun c_73 => ?_)
                      · have hF := itp c_73 hF
                        refine lv_aload_n hx hb dX8_mayTurn_150 rfl (lv_at hl 2 rfl) ?_
                        refine lv_iload_n hx hb dX8_mayTurn_151 rfl (lv_at hl 1 rfl) ?_
                        refine lv_iload_n hx hb dX8_mayTurn_152 rfl (lv_at hl 3 rfl) ?_
                        refine lv_iload_n hx hb dX8_mayTurn_153 rfl (lv_at hl 4 rfl) ?_
                        refine lv_aload_n hx hb dX8_mayTurn_154 rfl (lv_at hl 2 rfl) ?_
                        refine mg_many hX hK hH dX8_mayTurn_155 ?_
                        refine lv_iload_n hx hb dX8_mayTurn_158 rfl (lv_at hl 3 rfl) ?_
                        obtain ⟨x_74, he, hF⟩ := bd1e hF
                        refine ml_many hX hK hH he dX8_mayTurn_159 ?_
                        refine lv_iconst (v := 1) hx hb dX8_mayTurn_160 syi_1 ?_
                        refine lv_isub hx hb dX8_mayTurn_161 ?_
                        refine lv_aload_n hx hb dX8_mayTurn_162 rfl (lv_at hl 2 rfl) ?_
                        refine mg_many hX hK hH dX8_mayTurn_163 ?_
                        refine lv_iload_n hx hb dX8_mayTurn_166 rfl (lv_at hl 4 rfl) ?_
                        obtain ⟨x_75, he, hF⟩ := bd1e hF
                        refine ml_many hX hK hH he dX8_mayTurn_167 ?_
                        refine lv_iconst (v := 1) hx hb dX8_mayTurn_168 syi_1 ?_
                        refine lv_isub hx hb dX8_mayTurn_169 ?_
                        obtain ⟨b_76, a_pile_77, he, hF⟩ := bd2e hF
                        refine mcV hX hK hEv hE0 hH (met_X8_isBarred hE he) (mrecv hK hH) gw_StoneYearModel_240 hd_yX8_isBarred ⟨Nat.le_of_ble_eq_true rfl, Nat.le_of_ble_eq_true rfl⟩ rfl rfl hl (Nat.le_of_ble_eq_true rfl) dX8_mayTurn_170 ⟨Nat.le_of_ble_eq_true rfl, Nat.le_of_ble_eq_true rfl⟩ (fun H locs hH => ?_)
                        refine lv_if_ne (tgt := 203) hx hb dX8_mayTurn_173 rfl (fun c_78 => ?_) (fun c_78 => ?_)
                        · have hF := itn c_78 hF
                          refine lv_bipush (v := 7) hx hb dX8_mayTurn_203 syb_7 ?_
                          obtain ⟨rfl, rfl⟩ := re2 hF
                          exact hret _ _ _ _ hH dX8_mayTurn_205
                        · have hF := itp c_78 hF
                          refine lv_aload_n hx hb dX8_mayTurn_176 rfl (lv_at hl 2 rfl) ?_
                          refine lv_iload hx hb dX8_mayTurn_177 (lv_at hl 0 rfl) ?_
                          refine lv_iload_n hx hb dX8_mayTurn_179 rfl (lv_at hl 4 rfl) ?_
                          refine lv_iload_n hx hb dX8_mayTurn_180 rfl (lv_at hl 3 rfl) ?_
                          refine lv_aload_n hx hb dX8_mayTurn_181 rfl (lv_at hl 2 rfl) ?_
                          refine mg_many hX hK hH dX8_mayTurn_182 ?_
                          refine lv_iload_n hx hb dX8_mayTurn_185 rfl (lv_at hl 4 rfl) ?_
                          obtain ⟨x_79, he, hF⟩ := bd1e hF
                          refine ml_many hX hK hH he dX8_mayTurn_186 ?_
                          refine lv_iconst (v := 1) hx hb dX8_mayTurn_187 syi_1 ?_
                          refine lv_isub hx hb dX8_mayTurn_188 ?_
                          refine lv_aload_n hx hb dX8_mayTurn_189 rfl (lv_at hl 2 rfl) ?_
                          refine mg_many hX hK hH dX8_mayTurn_190 ?_
                          refine lv_iload_n hx hb dX8_mayTurn_193 rfl (lv_at hl 3 rfl) ?_
                          obtain ⟨x_80, he, hF⟩ := bd1e hF
                          refine ml_many hX hK hH he dX8_mayTurn_194 ?_
                          refine lv_iconst (v := 1) hx hb dX8_mayTurn_195 syi_1 ?_
                          refine lv_isub hx hb dX8_mayTurn_196 ?_
                          obtain ⟨b_81, a_pile_82, he, hF⟩ := bd2e hF
                          refine mcV hX hK hEv hE0 hH (met_X8_isBarred hE he) (mrecv hK hH) gw_StoneYearModel_240 hd_yX8_isBarred ⟨Nat.le_of_ble_eq_true rfl, Nat.le_of_ble_eq_true rfl⟩ rfl rfl hl (Nat.le_of_ble_eq_true rfl) dX8_mayTurn_197 ⟨Nat.le_of_ble_eq_true rfl, Nat.le_of_ble_eq_true rfl⟩ (fun H locs hH => ?_)
                          refine lv_if_eq (tgt := 206) hx hb dX8_mayTurn_200 rfl (fun c_83 => ?_) (fun c_83 => ?_)
                          · have hF := itp c_83 hF
                            refine lv_aload_n hx hb dX8_mayTurn_206 rfl (lv_at hl 2 rfl) ?_
                            refine mg_moved hX hK hH dX8_mayTurn_207 ?_
                            obtain ⟨x_84, he, hF⟩ := bd1e hF
                            refine mcS hX hK hEv hE0 hH (met_X8_bitsOf hE he) gw_StoneYearModel_247 hd_yX8_bitsOf ⟨Nat.le_of_ble_eq_true rfl, Nat.le_of_ble_eq_true rfl⟩ rfl rfl hl (Nat.le_of_ble_eq_true rfl) dX8_mayTurn_210 ⟨Nat.le_of_ble_eq_true rfl, Nat.le_of_ble_eq_true rfl⟩ (fun H locs hH => ?_)
                            refine lv_iconst (v := 2) hx hb dX8_mayTurn_213 syi_2 ?_
                            refine lv_iadd hx hb dX8_mayTurn_214 ?_
                            refine lv_aload_n hx hb dX8_mayTurn_215 rfl (lv_at hl 2 rfl) ?_
                            refine mg_all hX hK hH dX8_mayTurn_216 ?_
                            refine lv_bipush (v := 76) hx hb dX8_mayTurn_219 syb_76 ?_
                            obtain ⟨x_85, he, hF⟩ := bd1e hF
                            refine ml_all hX hK hH he dX8_mayTurn_221 ?_
                            refine lv_icmp_le (tgt := 230) hx hb dX8_mayTurn_222 rfl (fun c_86 => ?_) (fun c_86 => ?_)
                            · have hF := itp c_86 hF
                              refine lv_iconst (v := 0) hx hb dX8_mayTurn_230 syi_0 ?_
                              obtain ⟨rfl, rfl⟩ := re2 hF
                              exact hret _ _ _ _ hH dX8_mayTurn_231
                            · have hF := itn c_86 hF
                              refine lv_bipush (v := 9) hx hb dX8_mayTurn_225 syb_9 ?_
                              refine lv_goto (tgt := 231) hx hb dX8_mayTurn_227 rfl ?_
                              obtain ⟨rfl, rfl⟩ := re2 hF
                              exact hret _ _ _ _ hH dX8_mayTurn_231
                          · have hF := itn c_83 hF
                            refine lv_bipush (v := 7) hx hb dX8_mayTurn_203 syb_7 ?_
                            obtain ⟨rfl, rfl⟩ := re2 hF
                            exact hret _ _ _ _ hH dX8_mayTurn_205
                      · have hF := itn c_73 hF
                        refine lv_bipush (v := 6) hx hb dX8_mayTurn_147 syb_6 ?_
                        obtain ⟨rfl, rfl⟩ := re2 hF
                        exact hret _ _ _ _ hH dX8_mayTurn_149
                  · have hF := itn c_65 hF
                    refine lv_iconst (v := 5) hx hb dX8_mayTurn_94 syi_5 ?_
                    obtain ⟨rfl, rfl⟩ := re2 hF
                    exact hret _ _ _ _ hH dX8_mayTurn_95
                · have hF := itn c_63 hF
                  refine lv_iconst (v := 3) hx hb dX8_mayTurn_83 syi_3 ?_
                  obtain ⟨rfl, rfl⟩ := re2 hF
                  exact hret _ _ _ _ hH dX8_mayTurn_84
            · have hF := itp c_57 hF
              refine lv_iconst (v := 2) hx hb dX8_mayTurn_51 syi_2 ?_
              obtain ⟨rfl, rfl⟩ := re2 hF
              exact hret _ _ _ _ hH dX8_mayTurn_52
        · have hF := itp c_53 hF
          refine lv_iconst (v := 1) hx hb dX8_mayTurn_31 syi_1 ?_
          obtain ⟨rfl, rfl⟩ := re2 hF
          exact hret _ _ _ _ hH dX8_mayTurn_32
abbrev rm_X8_mayExchange : Room := { frames := 3, cells := 0, slots := 0, locals := 80 }
set_option maxHeartbeats 4000000 in
theorem met_X8_mayExchange {l : Launch} {D : va_G} {ad : Nat → Nat} {cA : Nat → ClassId} {a_all : Nat → Int32} {a_hasImage : Nat → Int32} {a_tape : Nat → Int32} {a_fresh : Nat → Int32} {v_taped : Int32} {v_at : Int32} {v_behind : Int32} {v_size : Int32} {v_kind : Int32} {v_number : Int32} {v_wrong : Int32} {v_wrongAt : Int32} {v_depth : Int32} {v_steps : Int32} {v_faultKind : Int32} {v_faultPlace : Int32} {a_on : Nat → Int32} {a_many : Nat → Int32} {v_moved : Int32} {a_pile : Nat → Int32} {v_aside : Int32} {v_judgedBy : Int32} {v_judgedYear : Int32} {a_leastCost : Nat → Int32} {a_matched : Nat → Int32} {a_order : Nat → Int32} {a_lies : Nat → Int64} {a_movedThen : Nat → Int32} {a_yearTable : Nat → Int32} {a_yearMark : Nat → Int32} {a_beginTable : Nat → Int32} {a_beginMark : Nat → Int32} {v_statesTold : Int32} {v_found : Int32} {v_yearFrom : Int32} {v_mark : Int32} {v_beginsMark : Int32} {v_begins : Int32} {a_began : Nat → Int64} {v_isSpent : Int32} {a_wants : Nat → Int32} {a_rowSort : Nat → Int32} {a_rowMany : Nat → Int32} {a_numbers : Nat → Int64}  {p1 : Int32} {p2 : Int32} {res : Int32} {ra_on : Nat → Int32} {ra_many : Nat → Int32} {rv_moved : Int32} {ra_pile : Nat → Int32} {ak av fo : Nat} {E : EvT} (hE : EvM E ak av fo) (hF : FX8_mayExchange a_all a_on a_many a_pile p1 p2 = some (res, ra_on, ra_many, rv_moved, ra_pile)) : MM l yX8_mayExchange (ws_ yX8_mayExchange cX8_mayExchange 3 (Option.some Jvm.ClassFile.FieldType.int)) rm_X8_mayExchange D vwA (mT cA) E [.ref (ad 0), .int p1, .int p2] (mW ad cA a_all a_hasImage a_tape a_fresh v_taped v_at v_behind v_size v_kind v_number v_wrong v_wrongAt v_depth v_steps v_faultKind v_faultPlace a_on a_many v_moved a_pile v_aside v_judgedBy v_judgedYear a_leastCost a_matched a_order a_lies a_movedThen a_yearTable a_yearMark a_beginTable a_beginMark v_statesTold v_found v_yearFrom v_mark v_beginsMark v_begins a_began v_isSpent a_wants a_rowSort a_rowMany a_numbers) (mW ad cA a_all a_hasImage a_tape a_fresh v_taped v_at v_behind v_size v_kind v_number v_wrong v_wrongAt v_depth v_steps v_faultKind v_faultPlace ra_on ra_many rv_moved ra_pile v_aside v_judgedBy v_judgedYear a_leastCost a_matched a_order a_lies a_movedThen a_yearTable a_yearMark a_beginTable a_beginMark v_statesTold v_found v_yearFrom v_mark v_beginsMark v_begins a_began v_isSpent a_wants a_rowSort a_rowMany a_numbers) (some (.int res)) := by
  refine MM.ofI (by decide) (Nat.le_of_ble_eq_true rfl) ?_
  intro p e s m args below meth c Q A hX hK hE0 hret H locs ls hH hl
  have hX : CallFix p m c cX8_mayExchange 3 s args lw_all RX8 := hX
  have hx := hX.1
  have hb := hX.2.1
  have hown := hX.2.2.2.1
  have hts := hX.2.2.2.2
  have hl : lv_has ls 3 [(0, .ref (ad 0)), (1, .int p1), (2, .int p2)] := hl
  have hEv := hE.1
  delta FX8_mayExchange at hF
  refine lv_aload_n hx hb dX8_mayExchange_0 rfl (lv_at hl 0 rfl) ?_
  refine lv_iconst (v := 0) hx hb dX8_mayExchange_1 syi_0 ?_
  refine mp_thrown hX hK hH dX8_mayExchange_2 (fun H locs hH => ?_)
  refine lv_aload_n hx hb dX8_mayExchange_5 rfl (lv_at hl 0 rfl) ?_
  obtain ⟨a_on_47, a_many_48, v_moved_49, he, hF⟩ := bd3e hF
  refine mcV hX hK hEv hE0 hH (met_X8_looksNow hE he) (mrecv hK hH) gw_StoneYearModel_260 hd_yX8_looksNow ⟨Nat.le_of_ble_eq_true rfl, Nat.le_of_ble_eq_true rfl⟩ rfl rfl hl (Nat.le_of_ble_eq_true rfl) dX8_mayExchange_6 ⟨Nat.le_of_ble_eq_true rfl, Nat.le_of_ble_eq_true rfl⟩ (fun H locs hH => ?_)
  refine lv_aload_n hx hb dX8_mayExchange_9 rfl (lv_at hl 0 rfl) ?_
  refine lv_iload_n hx hb dX8_mayExchange_10 rfl (lv_at hl 1 rfl) ?_
  refine lv_iload_n hx hb dX8_mayExchange_11 rfl (lv_at hl 2 rfl) ?_
  obtain ⟨x_50, a_pile_51, he, hF⟩ := bd2e hF
  refine mcV hX hK hEv hE0 hH (met_X8_mayTurn hE he) (mrecv hK hH) gw_StoneYearModel_269 hd_yX8_mayTurn ⟨Nat.le_of_ble_eq_true rfl, Nat.le_of_ble_eq_true rfl⟩ rfl rfl hl (Nat.le_of_ble_eq_true rfl) dX8_mayExchange_12 ⟨Nat.le_of_ble_eq_true rfl, Nat.le_of_ble_eq_true rfl⟩ (fun H locs hH => ?_)
  obtain ⟨rfl, rfl, rfl, rfl, rfl⟩ := re5 hF
  exact hret _ _ _ _ hH dX8_mayExchange_15
abbrev rm_X8_carries : Room := { frames := 0, cells := 0, slots := 0, locals := 0 }
set_option maxHeartbeats 4000000 in
theorem met_X8_carries {l : Launch} {D : va_G} {ad : Nat → Nat} {cA : Nat → ClassId} {a_all : Nat → Int32} {a_hasImage : Nat → Int32} {a_tape : Nat → Int32} {a_fresh : Nat → Int32} {v_taped : Int32} {v_at : Int32} {v_behind : Int32} {v_size : Int32} {v_kind : Int32} {v_number : Int32} {v_wrong : Int32} {v_wrongAt : Int32} {v_depth : Int32} {v_steps : Int32} {v_faultKind : Int32} {v_faultPlace : Int32} {a_on : Nat → Int32} {a_many : Nat → Int32} {v_moved : Int32} {a_pile : Nat → Int32} {v_aside : Int32} {v_judgedBy : Int32} {v_judgedYear : Int32} {a_leastCost : Nat → Int32} {a_matched : Nat → Int32} {a_order : Nat → Int32} {a_lies : Nat → Int64} {a_movedThen : Nat → Int32} {a_yearTable : Nat → Int32} {a_yearMark : Nat → Int32} {a_beginTable : Nat → Int32} {a_beginMark : Nat → Int32} {v_statesTold : Int32} {v_found : Int32} {v_yearFrom : Int32} {v_mark : Int32} {v_beginsMark : Int32} {v_begins : Int32} {a_began : Nat → Int64} {v_isSpent : Int32} {a_wants : Nat → Int32} {a_rowSort : Nat → Int32} {a_rowMany : Nat → Int32} {a_numbers : Nat → Int64}  {p1 : Int32} {p2 : Int32} {ra_on : Nat → Int32} {ra_many : Nat → Int32} {rv_moved : Int32} {ak av fo : Nat} {E : EvT} (hE : EvM E ak av fo) (hF : FX8_carries a_on a_many v_moved p1 p2 = some (ra_on, ra_many, rv_moved)) : MM l yX8_carries (ws_ yX8_carries cX8_carries 4 (Option.none : Option Jvm.ClassFile.FieldType)) rm_X8_carries D vwA (mT cA) E [.ref (ad 0), .int p1, .int p2] (mW ad cA a_all a_hasImage a_tape a_fresh v_taped v_at v_behind v_size v_kind v_number v_wrong v_wrongAt v_depth v_steps v_faultKind v_faultPlace a_on a_many v_moved a_pile v_aside v_judgedBy v_judgedYear a_leastCost a_matched a_order a_lies a_movedThen a_yearTable a_yearMark a_beginTable a_beginMark v_statesTold v_found v_yearFrom v_mark v_beginsMark v_begins a_began v_isSpent a_wants a_rowSort a_rowMany a_numbers) (mW ad cA a_all a_hasImage a_tape a_fresh v_taped v_at v_behind v_size v_kind v_number v_wrong v_wrongAt v_depth v_steps v_faultKind v_faultPlace ra_on ra_many rv_moved a_pile v_aside v_judgedBy v_judgedYear a_leastCost a_matched a_order a_lies a_movedThen a_yearTable a_yearMark a_beginTable a_beginMark v_statesTold v_found v_yearFrom v_mark v_beginsMark v_begins a_began v_isSpent a_wants a_rowSort a_rowMany a_numbers) none := by
  refine MM.ofV (by decide) (Nat.le_of_ble_eq_true rfl) ?_
  intro p e s m args below meth c Q A hX hK hE0 hret H locs ls hH hl
  have hX : CallFix p m c cX8_carries 4 s args lw_all RX8 := hX
  have hx := hX.1
  have hb := hX.2.1
  have hown := hX.2.2.2.1
  have hts := hX.2.2.2.2
  have hl : lv_has ls 4 [(0, .ref (ad 0)), (1, .int p1), (2, .int p2)] := hl
  have hEv := hE.1
  delta FX8_carries at hF
  refine lv_aload_n hx hb dX8_carries_0 rfl (lv_at hl 0 rfl) ?_
  refine mg_on hX hK hH dX8_carries_1 ?_
  refine lv_iconst (v := 3) hx hb dX8_carries_4 syi_3 ?_
  refine lv_iload_n hx hb dX8_carries_5 rfl (lv_at hl 1 rfl) ?_
  refine lv_imul hx hb dX8_carries_6 ?_
  refine lv_aload_n hx hb dX8_carries_7 rfl (lv_at hl 0 rfl) ?_
  refine mg_many hX hK hH dX8_carries_8 ?_
  refine lv_iload_n hx hb dX8_carries_11 rfl (lv_at hl 1 rfl) ?_
  obtain ⟨x_47, he, hF⟩ := bd1e hF
  refine ml_many hX hK hH he dX8_carries_12 ?_
  refine lv_iadd hx hb dX8_carries_13 ?_
  refine lv_iconst (v := 1) hx hb dX8_carries_14 syi_1 ?_
  refine lv_isub hx hb dX8_carries_15 ?_
  obtain ⟨x_48, he, hF⟩ := bd1e hF
  refine ml_on hX hK hH he dX8_carries_16 ?_
  refine lv_istore_n (lv' := [(3, .int x_48), (0, .ref (ad 0)), (1, .int p1), (2, .int p2)]) hx hb dX8_carries_17 rfl hl (by decide) rfl (fun ls hl => ?_)
  refine lv_aload_n hx hb dX8_carries_18 rfl (lv_at hl 1 rfl) ?_
  refine mg_on hX hK hH dX8_carries_19 ?_
  refine lv_iconst (v := 3) hx hb dX8_carries_22 syi_3 ?_
  refine lv_iload_n hx hb dX8_carries_23 rfl (lv_at hl 2 rfl) ?_
  refine lv_imul hx hb dX8_carries_24 ?_
  refine lv_aload_n hx hb dX8_carries_25 rfl (lv_at hl 1 rfl) ?_
  refine mg_many hX hK hH dX8_carries_26 ?_
  refine lv_iload_n hx hb dX8_carries_29 rfl (lv_at hl 2 rfl) ?_
  obtain ⟨x_49, he, hF⟩ := bd1e hF
  refine ml_many hX hK hH he dX8_carries_30 ?_
  refine lv_iadd hx hb dX8_carries_31 ?_
  refine lv_iconst (v := 1) hx hb dX8_carries_32 syi_1 ?_
  refine lv_isub hx hb dX8_carries_33 ?_
  refine lv_iconst (v := 0) hx hb dX8_carries_34 syi_0 ?_
  obtain ⟨a_on_50, he, hF⟩ := bd1e hF
  refine ms_on hX hK hH he dX8_carries_35 (fun H locs hH => ?_)
  refine lv_aload_n hx hb dX8_carries_36 rfl (lv_at hl 1 rfl) ?_
  refine mg_on hX hK hH dX8_carries_37 ?_
  refine lv_iconst (v := 3) hx hb dX8_carries_40 syi_3 ?_
  refine lv_iload_n hx hb dX8_carries_41 rfl (lv_at hl 3 rfl) ?_
  refine lv_imul hx hb dX8_carries_42 ?_
  refine lv_aload_n hx hb dX8_carries_43 rfl (lv_at hl 1 rfl) ?_
  refine mg_many hX hK hH dX8_carries_44 ?_
  refine lv_iload_n hx hb dX8_carries_47 rfl (lv_at hl 3 rfl) ?_
  obtain ⟨x_51, he, hF⟩ := bd1e hF
  refine ml_many hX hK hH he dX8_carries_48 ?_
  refine lv_iadd hx hb dX8_carries_49 ?_
  refine lv_iload_n hx hb dX8_carries_50 rfl (lv_at hl 0 rfl) ?_
  obtain ⟨a_on_52, he, hF⟩ := bd1e hF
  refine ms_on hX hK hH he dX8_carries_51 (fun H locs hH => ?_)
  refine lv_aload_n hx hb dX8_carries_52 rfl (lv_at hl 1 rfl) ?_
  refine mg_many hX hK hH dX8_carries_53 ?_
  refine lv_iload_n hx hb dX8_carries_56 rfl (lv_at hl 2 rfl) ?_
  refine lv_dup2_11 hx hb dX8_carries_57 rfl rfl ?_
  obtain ⟨x_53, he, hF⟩ := bd1e hF
  refine ml_many hX hK hH he dX8_carries_58 ?_
  refine lv_iconst (v := 1) hx hb dX8_carries_59 syi_1 ?_
  refine lv_isub hx hb dX8_carries_60 ?_
  obtain ⟨a_many_54, he, hF⟩ := bd1e hF
  refine ms_many hX hK hH he dX8_carries_61 (fun H locs hH => ?_)
  refine lv_aload_n hx hb dX8_carries_62 rfl (lv_at hl 1 rfl) ?_
  refine mg_many hX hK hH dX8_carries_63 ?_
  refine lv_iload_n hx hb dX8_carries_66 rfl (lv_at hl 3 rfl) ?_
  refine lv_dup2_11 hx hb dX8_carries_67 rfl rfl ?_
  obtain ⟨x_55, he, hF⟩ := bd1e hF
  refine ml_many hX hK hH he dX8_carries_68 ?_
  refine lv_iconst (v := 1) hx hb dX8_carries_69 syi_1 ?_
  refine lv_iadd hx hb dX8_carries_70 ?_
  obtain ⟨a_many_56, he, hF⟩ := bd1e hF
  refine ms_many hX hK hH he dX8_carries_71 (fun H locs hH => ?_)
  refine lv_aload_n hx hb dX8_carries_72 rfl (lv_at hl 1 rfl) ?_
  refine lv_dup hx hb dX8_carries_73 rfl ?_
  refine mg_moved hX hK hH dX8_carries_74 ?_
  refine lv_iconst (v := 1) hx hb dX8_carries_77 syi_1 ?_
  refine lv_iload_n hx hb dX8_carries_78 rfl (lv_at hl 0 rfl) ?_
  refine lv_iconst (v := 1) hx hb dX8_carries_79 syi_1 ?_
  refine lv_isub hx hb dX8_carries_80 ?_
  refine lv_ishl hx hb dX8_carries_81 ?_
  refine lv_ior hx hb dX8_carries_82 ?_
  refine mp_moved hX hK hH dX8_carries_83 (fun H locs hH => ?_)
  obtain ⟨rfl, rfl, rfl⟩ := re3 hF
  exact hret _ _ _ _ hH dX8_carries_86
abbrev rm_X8_counted : Room := { frames := 0, cells := 0, slots := 0, locals := 0 }
set_option maxHeartbeats 4000000 in
theorem met_X8_counted {l : Launch} {D : va_G} {ad : Nat → Nat} {cA : Nat → ClassId} {a_all : Nat → Int32} {a_hasImage : Nat → Int32} {a_tape : Nat → Int32} {a_fresh : Nat → Int32} {v_taped : Int32} {v_at : Int32} {v_behind : Int32} {v_size : Int32} {v_kind : Int32} {v_number : Int32} {v_wrong : Int32} {v_wrongAt : Int32} {v_depth : Int32} {v_steps : Int32} {v_faultKind : Int32} {v_faultPlace : Int32} {a_on : Nat → Int32} {a_many : Nat → Int32} {v_moved : Int32} {a_pile : Nat → Int32} {v_aside : Int32} {v_judgedBy : Int32} {v_judgedYear : Int32} {a_leastCost : Nat → Int32} {a_matched : Nat → Int32} {a_order : Nat → Int32} {a_lies : Nat → Int64} {a_movedThen : Nat → Int32} {a_yearTable : Nat → Int32} {a_yearMark : Nat → Int32} {a_beginTable : Nat → Int32} {a_beginMark : Nat → Int32} {v_statesTold : Int32} {v_found : Int32} {v_yearFrom : Int32} {v_mark : Int32} {v_beginsMark : Int32} {v_begins : Int32} {a_began : Nat → Int64} {v_isSpent : Int32} {a_wants : Nat → Int32} {a_rowSort : Nat → Int32} {a_rowMany : Nat → Int32} {a_numbers : Nat → Int64}  {p1 : Int32} {ra_all : Nat → Int32} {ak av fo : Nat} {E : EvT} (hE : EvM E ak av fo) (hF : FX8_counted a_all p1 = some ra_all) : MM l yX8_counted (ws_ yX8_counted cX8_counted 2 (Option.none : Option Jvm.ClassFile.FieldType)) rm_X8_counted D vwA (mT cA) E [.ref (ad 0), .int p1] (mW ad cA a_all a_hasImage a_tape a_fresh v_taped v_at v_behind v_size v_kind v_number v_wrong v_wrongAt v_depth v_steps v_faultKind v_faultPlace a_on a_many v_moved a_pile v_aside v_judgedBy v_judgedYear a_leastCost a_matched a_order a_lies a_movedThen a_yearTable a_yearMark a_beginTable a_beginMark v_statesTold v_found v_yearFrom v_mark v_beginsMark v_begins a_began v_isSpent a_wants a_rowSort a_rowMany a_numbers) (mW ad cA ra_all a_hasImage a_tape a_fresh v_taped v_at v_behind v_size v_kind v_number v_wrong v_wrongAt v_depth v_steps v_faultKind v_faultPlace a_on a_many v_moved a_pile v_aside v_judgedBy v_judgedYear a_leastCost a_matched a_order a_lies a_movedThen a_yearTable a_yearMark a_beginTable a_beginMark v_statesTold v_found v_yearFrom v_mark v_beginsMark v_begins a_began v_isSpent a_wants a_rowSort a_rowMany a_numbers) none := by
  refine MM.ofV (by decide) (Nat.le_of_ble_eq_true rfl) ?_
  intro p e s m args below meth c Q A hX hK hE0 hret H locs ls hH hl
  have hX : CallFix p m c cX8_counted 2 s args lw_all RX8 := hX
  have hx := hX.1
  have hb := hX.2.1
  have hown := hX.2.2.2.1
  have hts := hX.2.2.2.2
  have hl : lv_has ls 2 [(0, .ref (ad 0)), (1, .int p1)] := hl
  have hEv := hE.1
  delta FX8_counted at hF
  refine lv_aload_n hx hb dX8_counted_0 rfl (lv_at hl 0 rfl) ?_
  refine mg_all hX hK hH dX8_counted_1 ?_
  refine lv_bipush (v := 96) hx hb dX8_counted_4 syb_96 ?_
  refine lv_iload_n hx hb dX8_counted_6 rfl (lv_at hl 1 rfl) ?_
  refine lv_iadd hx hb dX8_counted_7 ?_
  refine lv_dup2_11 hx hb dX8_counted_8 rfl rfl ?_
  obtain ⟨x_46, he, hF⟩ := bd1e hF
  refine ml_all hX hK hH he dX8_counted_9 ?_
  refine lv_iconst (v := 1) hx hb dX8_counted_10 syi_1 ?_
  refine lv_iadd hx hb dX8_counted_11 ?_
  obtain ⟨a_all_47, he, hF⟩ := bd1e hF
  refine ms_all hX hK hH he dX8_counted_12 (fun H locs hH => ?_)
  refine lv_aload_n hx hb dX8_counted_13 rfl (lv_at hl 0 rfl) ?_
  refine mg_all hX hK hH dX8_counted_14 ?_
  refine lv_bipush (v := 104) hx hb dX8_counted_17 syb_104 ?_
  refine lv_iload_n hx hb dX8_counted_19 rfl (lv_at hl 1 rfl) ?_
  refine lv_iadd hx hb dX8_counted_20 ?_
  refine lv_aload_n hx hb dX8_counted_21 rfl (lv_at hl 0 rfl) ?_
  refine mg_all hX hK hH dX8_counted_22 ?_
  refine lv_bipush (v := 112) hx hb dX8_counted_25 syb_112 ?_
  obtain ⟨x_48, he, hF⟩ := bd1e hF
  refine ml_all hX hK hH he dX8_counted_27 ?_
  obtain ⟨a_all_49, he, hF⟩ := bd1e hF
  refine ms_all hX hK hH he dX8_counted_28 (fun H locs hH => ?_)
  obtain rfl := Option.some.inj hF
  exact hret _ _ _ _ hH dX8_counted_29
abbrev rm_X8_keepsNow : Room := { frames := 0, cells := 0, slots := 0, locals := 0 }
set_option maxHeartbeats 4000000 in
theorem met_X8_keepsNow {l : Launch} {D : va_G} {ad : Nat → Nat} {cA : Nat → ClassId} {a_all : Nat → Int32} {a_hasImage : Nat → Int32} {a_tape : Nat → Int32} {a_fresh : Nat → Int32} {v_taped : Int32} {v_at : Int32} {v_behind : Int32} {v_size : Int32} {v_kind : Int32} {v_number : Int32} {v_wrong : Int32} {v_wrongAt : Int32} {v_depth : Int32} {v_steps : Int32} {v_faultKind : Int32} {v_faultPlace : Int32} {a_on : Nat → Int32} {a_many : Nat → Int32} {v_moved : Int32} {a_pile : Nat → Int32} {v_aside : Int32} {v_judgedBy : Int32} {v_judgedYear : Int32} {a_leastCost : Nat → Int32} {a_matched : Nat → Int32} {a_order : Nat → Int32} {a_lies : Nat → Int64} {a_movedThen : Nat → Int32} {a_yearTable : Nat → Int32} {a_yearMark : Nat → Int32} {a_beginTable : Nat → Int32} {a_beginMark : Nat → Int32} {v_statesTold : Int32} {v_found : Int32} {v_yearFrom : Int32} {v_mark : Int32} {v_beginsMark : Int32} {v_begins : Int32} {a_began : Nat → Int64} {v_isSpent : Int32} {a_wants : Nat → Int32} {a_rowSort : Nat → Int32} {a_rowMany : Nat → Int32} {a_numbers : Nat → Int64}   {ra_all : Nat → Int32} {ak av fo : Nat} {E : EvT} (hE : EvM E ak av fo) (hF : FX8_keepsNow a_all a_on v_moved = some ra_all) : MM l yX8_keepsNow (ws_ yX8_keepsNow cX8_keepsNow 2 (Option.none : Option Jvm.ClassFile.FieldType)) rm_X8_keepsNow D vwA (mT cA) E [.ref (ad 0)] (mW ad cA a_all a_hasImage a_tape a_fresh v_taped v_at v_behind v_size v_kind v_number v_wrong v_wrongAt v_depth v_steps v_faultKind v_faultPlace a_on a_many v_moved a_pile v_aside v_judgedBy v_judgedYear a_leastCost a_matched a_order a_lies a_movedThen a_yearTable a_yearMark a_beginTable a_beginMark v_statesTold v_found v_yearFrom v_mark v_beginsMark v_begins a_began v_isSpent a_wants a_rowSort a_rowMany a_numbers) (mW ad cA ra_all a_hasImage a_tape a_fresh v_taped v_at v_behind v_size v_kind v_number v_wrong v_wrongAt v_depth v_steps v_faultKind v_faultPlace a_on a_many v_moved a_pile v_aside v_judgedBy v_judgedYear a_leastCost a_matched a_order a_lies a_movedThen a_yearTable a_yearMark a_beginTable a_beginMark v_statesTold v_found v_yearFrom v_mark v_beginsMark v_begins a_began v_isSpent a_wants a_rowSort a_rowMany a_numbers) none := by
  refine MM.ofV (by decide) (Nat.le_of_ble_eq_true rfl) ?_
  intro p e s m args below meth c Q A hX hK hE0 hret H locs ls hH hl
  have hX : CallFix p m c cX8_keepsNow 2 s args lw_all RX8 := hX
  have hx := hX.1
  have hb := hX.2.1
  have hown := hX.2.2.2.1
  have hts := hX.2.2.2.2
  have hl : lv_has ls 2 [(0, .ref (ad 0))] := hl
  have hEv := hE.1
  delta FX8_keepsNow at hF
  refine lv_iconst (v := 0) hx hb dX8_keepsNow_0 syi_0 ?_
  refine lv_istore_n (lv' := [(1, .int 0), (0, .ref (ad 0))]) hx hb dX8_keepsNow_1 rfl hl (by decide) rfl (fun ls hl => ?_)
  obtain ⟨xx2, ee2, kk2_0⟩ := bd1L hF
  have k2_0 : ∀ (a_all_53 : Nat → Int32), xx2 = a_all_53 → ∀ (H : Heap) (locs : List Loc) (ls : Array Slot), MH D vwA A s.heap (mW ad cA a_all_53 a_hasImage a_tape a_fresh v_taped v_at v_behind v_size v_kind v_number v_wrong v_wrongAt v_depth v_steps v_faultKind v_faultPlace a_on a_many v_moved a_pile v_aside v_judgedBy v_judgedYear a_leastCost a_matched a_order a_lies a_movedThen a_yearTable a_yearMark a_beginTable a_beginMark v_statesTold v_found v_yearFrom v_mark v_beginsMark v_begins a_began v_isSpent a_wants a_rowSort a_rowMany a_numbers) H locs → lv_has ls 2 [(0, .ref (ad 0))] → W p l e rm_X8_keepsNow s m args below meth c H locs 0 0 Q (F0 m 29 ls []) := by
    intro a_all_53 hxx H locs ls hH hl
    have hF := un1e (kk2_0 a_all_53 hxx)
    refine lv_aload_n hx hb dX8_keepsNow_29 rfl (lv_at hl 0 rfl) ?_
    refine mg_all hX hK hH dX8_keepsNow_30 ?_
    refine lv_bipush (v := 95) hx hb dX8_keepsNow_33 syb_95 ?_
    refine lv_aload_n hx hb dX8_keepsNow_35 rfl (lv_at hl 0 rfl) ?_
    refine mg_moved hX hK hH dX8_keepsNow_36 ?_
    obtain ⟨a_all_54, he, hF⟩ := bd1e hF
    refine ms_all hX hK hH he dX8_keepsNow_39 (fun H locs hH => ?_)
    obtain rfl := Option.some.inj hF
    exact hret _ _ _ _ hH dX8_keepsNow_40
  obtain ⟨nn2, en2⟩ := loopC_some ee2
  have l2 : ∀ (n : Nat) (x_48 : Int32) (a_all_49 : Nat → Int32), loopN (fun s => FX8_keepsNow_b2 a_on s.1 s.2) n (x_48, a_all_49) = some xx2 → ∀ (H : Heap) (locs : List Loc) (ls : Array Slot), MH D vwA A s.heap (mW ad cA a_all_49 a_hasImage a_tape a_fresh v_taped v_at v_behind v_size v_kind v_number v_wrong v_wrongAt v_depth v_steps v_faultKind v_faultPlace a_on a_many v_moved a_pile v_aside v_judgedBy v_judgedYear a_leastCost a_matched a_order a_lies a_movedThen a_yearTable a_yearMark a_beginTable a_beginMark v_statesTold v_found v_yearFrom v_mark v_beginsMark v_begins a_began v_isSpent a_wants a_rowSort a_rowMany a_numbers) H locs → lv_has ls 2 [(0, .ref (ad 0)), (1, .int x_48)] → W p l e rm_X8_keepsNow s m args below meth c H locs 0 0 Q (F0 m 2 ls []) := by
    intro n
    induction n with
    | zero =>
      intro x_48 a_all_49 hN
      exact absurd hN loopN_zero
    | succ n ih =>
      intro x_48 a_all_49 hN H locs ls hH hl
      obtain ⟨yy2, hB2, hY2⟩ := loopN_succ hN
      have hF : FX8_keepsNow_b2 a_on x_48 a_all_49 = some yy2 := hB2
      delta FX8_keepsNow_b2 at hF
      refine lv_iload_n hx hb dX8_keepsNow_2 rfl (lv_at hl 1 rfl) ?_
      refine lv_bipush (v := 15) hx hb dX8_keepsNow_3 syb_15 ?_
      refine lv_icmp_ge (tgt := 29) hx hb dX8_keepsNow_5 rfl (fun c_50 => ?_) (fun c_50 => ?_)
      · have hF := itp c_50 hF
        obtain rfl := Option.some.inj hF
        exact k2_0 a_all_49 hY2 _ _ _ hH (lv_sub hl [0] rfl)
      · have hF := itn c_50 hF
        refine lv_aload_n hx hb dX8_keepsNow_8 rfl (lv_at hl 0 rfl) ?_
        refine mg_all hX hK hH dX8_keepsNow_9 ?_
        refine lv_bipush (v := 80) hx hb dX8_keepsNow_12 syb_80 ?_
        refine lv_iload_n hx hb dX8_keepsNow_14 rfl (lv_at hl 1 rfl) ?_
        refine lv_iadd hx hb dX8_keepsNow_15 ?_
        refine lv_aload_n hx hb dX8_keepsNow_16 rfl (lv_at hl 0 rfl) ?_
        refine mg_on hX hK hH dX8_keepsNow_17 ?_
        refine lv_iload_n hx hb dX8_keepsNow_20 rfl (lv_at hl 1 rfl) ?_
        obtain ⟨x_51, he, hF⟩ := bd1e hF
        refine ml_on hX hK hH he dX8_keepsNow_21 ?_
        obtain ⟨a_all_52, he, hF⟩ := bd1e hF
        refine ms_all hX hK hH he dX8_keepsNow_22 (fun H locs hH => ?_)
        refine lv_iinc (v := (x_48 + 1)) (lv' := [(1, .int (x_48 + 1)), (0, .ref (ad 0))]) hx hb dX8_keepsNow_23 hl (k := 1) rfl (syc syi_1) (by decide) rfl (fun ls hl => ?_)
        refine lv_goto (tgt := 2) hx hb dX8_keepsNow_26 rfl ?_
        obtain rfl := Option.some.inj hF
        exact ih (x_48 + 1) a_all_52 hY2 _ _ _ hH (lv_sub hl [1, 0] rfl)
  exact l2 nn2 0 a_all en2 _ _ _ hH (lv_sub hl [1, 0] rfl)
abbrev rm_X8_carry : Room := { frames := 3, cells := 0, slots := 0, locals := 80 }
set_option maxHeartbeats 4000000 in
theorem met_X8_carry {l : Launch} {D : va_G} {ad : Nat → Nat} {cA : Nat → ClassId} {a_all : Nat → Int32} {a_hasImage : Nat → Int32} {a_tape : Nat → Int32} {a_fresh : Nat → Int32} {v_taped : Int32} {v_at : Int32} {v_behind : Int32} {v_size : Int32} {v_kind : Int32} {v_number : Int32} {v_wrong : Int32} {v_wrongAt : Int32} {v_depth : Int32} {v_steps : Int32} {v_faultKind : Int32} {v_faultPlace : Int32} {a_on : Nat → Int32} {a_many : Nat → Int32} {v_moved : Int32} {a_pile : Nat → Int32} {v_aside : Int32} {v_judgedBy : Int32} {v_judgedYear : Int32} {a_leastCost : Nat → Int32} {a_matched : Nat → Int32} {a_order : Nat → Int32} {a_lies : Nat → Int64} {a_movedThen : Nat → Int32} {a_yearTable : Nat → Int32} {a_yearMark : Nat → Int32} {a_beginTable : Nat → Int32} {a_beginMark : Nat → Int32} {v_statesTold : Int32} {v_found : Int32} {v_yearFrom : Int32} {v_mark : Int32} {v_beginsMark : Int32} {v_begins : Int32} {a_began : Nat → Int64} {v_isSpent : Int32} {a_wants : Nat → Int32} {a_rowSort : Nat → Int32} {a_rowMany : Nat → Int32} {a_numbers : Nat → Int64}  {p1 : Int32} {p2 : Int32} {res : Int32} {ra_all : Nat → Int32} {ra_on : Nat → Int32} {ra_many : Nat → Int32} {rv_moved : Int32} {ra_pile : Nat → Int32} {ak av fo : Nat} {E : EvT} (hE : EvM E ak av fo) (hF : FX8_carry a_all a_on a_many a_pile v_aside p1 p2 = some (res, ra_all, ra_on, ra_many, rv_moved, ra_pile)) : MM l yX8_carry (ws_ yX8_carry cX8_carry 5 (Option.some Jvm.ClassFile.FieldType.int)) rm_X8_carry D vwA (mT cA) E [.ref (ad 0), .int p1, .int p2] (mW ad cA a_all a_hasImage a_tape a_fresh v_taped v_at v_behind v_size v_kind v_number v_wrong v_wrongAt v_depth v_steps v_faultKind v_faultPlace a_on a_many v_moved a_pile v_aside v_judgedBy v_judgedYear a_leastCost a_matched a_order a_lies a_movedThen a_yearTable a_yearMark a_beginTable a_beginMark v_statesTold v_found v_yearFrom v_mark v_beginsMark v_begins a_began v_isSpent a_wants a_rowSort a_rowMany a_numbers) (mW ad cA ra_all a_hasImage a_tape a_fresh v_taped v_at v_behind v_size v_kind v_number v_wrong v_wrongAt v_depth v_steps v_faultKind v_faultPlace ra_on ra_many rv_moved ra_pile v_aside v_judgedBy v_judgedYear a_leastCost a_matched a_order a_lies a_movedThen a_yearTable a_yearMark a_beginTable a_beginMark v_statesTold v_found v_yearFrom v_mark v_beginsMark v_begins a_began v_isSpent a_wants a_rowSort a_rowMany a_numbers) (some (.int res)) := by
  refine MM.ofI (by decide) (Nat.le_of_ble_eq_true rfl) ?_
  intro p e s m args below meth c Q A hX hK hE0 hret H locs ls hH hl
  have hX : CallFix p m c cX8_carry 5 s args lw_all RX8 := hX
  have hx := hX.1
  have hb := hX.2.1
  have hown := hX.2.2.2.1
  have hts := hX.2.2.2.2
  have hl : lv_has ls 5 [(0, .ref (ad 0)), (1, .int p1), (2, .int p2)] := hl
  have hEv := hE.1
  delta FX8_carry at hF
  refine lv_aload_n hx hb dX8_carry_0 rfl (lv_at hl 0 rfl) ?_
  refine lv_iconst (v := 0) hx hb dX8_carry_1 syi_0 ?_
  refine mp_thrown hX hK hH dX8_carry_2 (fun H locs hH => ?_)
  refine lv_aload_n hx hb dX8_carry_5 rfl (lv_at hl 0 rfl) ?_
  obtain ⟨a_on_47, a_many_48, v_moved_49, he, hF⟩ := bd3e hF
  refine mcV hX hK hEv hE0 hH (met_X8_looksNow hE he) (mrecv hK hH) gw_StoneYearModel_260 hd_yX8_looksNow ⟨Nat.le_of_ble_eq_true rfl, Nat.le_of_ble_eq_true rfl⟩ rfl rfl hl (Nat.le_of_ble_eq_true rfl) dX8_carry_6 ⟨Nat.le_of_ble_eq_true rfl, Nat.le_of_ble_eq_true rfl⟩ (fun H locs hH => ?_)
  refine lv_aload_n hx hb dX8_carry_9 rfl (lv_at hl 0 rfl) ?_
  refine lv_iload_n hx hb dX8_carry_10 rfl (lv_at hl 1 rfl) ?_
  refine lv_iload_n hx hb dX8_carry_11 rfl (lv_at hl 2 rfl) ?_
  obtain ⟨x_50, a_many_51, a_pile_52, he, hF⟩ := bd3e hF
  refine mcV hX hK hEv hE0 hH (met_X8_mayCarry hE he) (mrecv hK hH) gw_StoneYearModel_266 hd_yX8_mayCarry ⟨Nat.le_of_ble_eq_true rfl, Nat.le_of_ble_eq_true rfl⟩ rfl rfl hl (Nat.le_of_ble_eq_true rfl) dX8_carry_12 ⟨Nat.le_of_ble_eq_true rfl, Nat.le_of_ble_eq_true rfl⟩ (fun H locs hH => ?_)
  refine lv_istore_n (lv' := [(3, .int x_50), (0, .ref (ad 0)), (1, .int p1), (2, .int p2)]) hx hb dX8_carry_15 rfl hl (by decide) rfl (fun ls hl => ?_)
  refine lv_iload_n hx hb dX8_carry_16 rfl (lv_at hl 0 rfl) ?_
  refine lv_if_eq (tgt := 25) hx hb dX8_carry_17 rfl (fun c_53 => ?_) (fun c_53 => ?_)
  · have hF := itp c_53 hF
    refine lv_aload_n hx hb dX8_carry_25 rfl (lv_at hl 1 rfl) ?_
    refine lv_iload_n hx hb dX8_carry_26 rfl (lv_at hl 2 rfl) ?_
    obtain ⟨x_54, he, hF⟩ := bd1e hF
    refine mcV hX hK hEv hE0 hH (met_X8_topOf hE he) (mrecv hK hH) gw_StoneYearModel_226 hd_yX8_topOf ⟨Nat.le_of_ble_eq_true rfl, Nat.le_of_ble_eq_true rfl⟩ rfl rfl hl (Nat.le_of_ble_eq_true rfl) dX8_carry_27 ⟨Nat.le_of_ble_eq_true rfl, Nat.le_of_ble_eq_true rfl⟩ (fun H locs hH => ?_)
    refine lv_istore (lv' := [(4, .int x_54), (3, .int x_50), (0, .ref (ad 0)), (1, .int p1), (2, .int p2)]) hx hb dX8_carry_30 hl (by decide) rfl (fun ls hl => ?_)
    refine lv_aload_n hx hb dX8_carry_32 rfl (lv_at hl 2 rfl) ?_
    refine lv_iload_n hx hb dX8_carry_33 rfl (lv_at hl 3 rfl) ?_
    refine lv_iload_n hx hb dX8_carry_34 rfl (lv_at hl 4 rfl) ?_
    obtain ⟨a_on_55, a_many_56, v_moved_57, he, hF⟩ := bd3e hF
    refine mcV hX hK hEv hE0 hH (met_X8_carries hE he) (mrecv hK hH) gw_StoneYearModel_272 hd_yX8_carries ⟨Nat.le_of_ble_eq_true rfl, Nat.le_of_ble_eq_true rfl⟩ rfl rfl hl (Nat.le_of_ble_eq_true rfl) dX8_carry_35 ⟨Nat.le_of_ble_eq_true rfl, Nat.le_of_ble_eq_true rfl⟩ (fun H locs hH => ?_)
    refine lv_aload_n hx hb dX8_carry_38 rfl (lv_at hl 2 rfl) ?_
    obtain ⟨a_all_58, he, hF⟩ := bd1e hF
    refine mcV hX hK hEv hE0 hH (met_X8_keepsNow hE he) (mrecv hK hH) gw_StoneYearModel_275 hd_yX8_keepsNow ⟨Nat.le_of_ble_eq_true rfl, Nat.le_of_ble_eq_true rfl⟩ rfl rfl hl (Nat.le_of_ble_eq_true rfl) dX8_carry_39 ⟨Nat.le_of_ble_eq_true rfl, Nat.le_of_ble_eq_true rfl⟩ (fun H locs hH => ?_)
    refine lv_aload_n hx hb dX8_carry_42 rfl (lv_at hl 2 rfl) ?_
    refine lv_iload hx hb dX8_carry_43 (lv_at hl 0 rfl) ?_
    obtain ⟨a_all_59, he, hF⟩ := bd1e hF
    refine mcV hX hK hEv hE0 hH (met_X8_counted hE he) (mrecv hK hH) gw_StoneYearModel_278 hd_yX8_counted ⟨Nat.le_of_ble_eq_true rfl, Nat.le_of_ble_eq_true rfl⟩ rfl rfl hl (Nat.le_of_ble_eq_true rfl) dX8_carry_45 ⟨Nat.le_of_ble_eq_true rfl, Nat.le_of_ble_eq_true rfl⟩ (fun H locs hH => ?_)
    refine lv_iload hx hb dX8_carry_48 (lv_at hl 0 rfl) ?_
    obtain ⟨rfl, rfl, rfl, rfl, rfl, rfl⟩ := re6 hF
    exact hret _ _ _ _ hH dX8_carry_50
  · have hF := itn c_53 hF
    refine lv_bipush (v := (-10)) hx hb dX8_carry_20 syb_m10 ?_
    refine lv_iload_n hx hb dX8_carry_22 rfl (lv_at hl 0 rfl) ?_
    refine lv_isub hx hb dX8_carry_23 ?_
    obtain ⟨rfl, rfl, rfl, rfl, rfl, rfl⟩ := re6 hF
    exact hret _ _ _ _ hH dX8_carry_24
abbrev rm_X8_turns : Room := { frames := 0, cells := 0, slots := 0, locals := 0 }
set_option maxHeartbeats 4000000 in
theorem met_X8_turns {l : Launch} {D : va_G} {ad : Nat → Nat} {cA : Nat → ClassId} {a_all : Nat → Int32} {a_hasImage : Nat → Int32} {a_tape : Nat → Int32} {a_fresh : Nat → Int32} {v_taped : Int32} {v_at : Int32} {v_behind : Int32} {v_size : Int32} {v_kind : Int32} {v_number : Int32} {v_wrong : Int32} {v_wrongAt : Int32} {v_depth : Int32} {v_steps : Int32} {v_faultKind : Int32} {v_faultPlace : Int32} {a_on : Nat → Int32} {a_many : Nat → Int32} {v_moved : Int32} {a_pile : Nat → Int32} {v_aside : Int32} {v_judgedBy : Int32} {v_judgedYear : Int32} {a_leastCost : Nat → Int32} {a_matched : Nat → Int32} {a_order : Nat → Int32} {a_lies : Nat → Int64} {a_movedThen : Nat → Int32} {a_yearTable : Nat → Int32} {a_yearMark : Nat → Int32} {a_beginTable : Nat → Int32} {a_beginMark : Nat → Int32} {v_statesTold : Int32} {v_found : Int32} {v_yearFrom : Int32} {v_mark : Int32} {v_beginsMark : Int32} {v_begins : Int32} {a_began : Nat → Int64} {v_isSpent : Int32} {a_wants : Nat → Int32} {a_rowSort : Nat → Int32} {a_rowMany : Nat → Int32} {a_numbers : Nat → Int64}  {p1 : Int32} {p2 : Int32} {ra_on : Nat → Int32} {rv_moved : Int32} {ak av fo : Nat} {E : EvT} (hE : EvM E ak av fo) (hF : FX8_turns a_on a_many v_moved p1 p2 = some (ra_on, rv_moved)) : MM l yX8_turns (ws_ yX8_turns cX8_turns 6 (Option.none : Option Jvm.ClassFile.FieldType)) rm_X8_turns D vwA (mT cA) E [.ref (ad 0), .int p1, .int p2] (mW ad cA a_all a_hasImage a_tape a_fresh v_taped v_at v_behind v_size v_kind v_number v_wrong v_wrongAt v_depth v_steps v_faultKind v_faultPlace a_on a_many v_moved a_pile v_aside v_judgedBy v_judgedYear a_leastCost a_matched a_order a_lies a_movedThen a_yearTable a_yearMark a_beginTable a_beginMark v_statesTold v_found v_yearFrom v_mark v_beginsMark v_begins a_began v_isSpent a_wants a_rowSort a_rowMany a_numbers) (mW ad cA a_all a_hasImage a_tape a_fresh v_taped v_at v_behind v_size v_kind v_number v_wrong v_wrongAt v_depth v_steps v_faultKind v_faultPlace ra_on a_many rv_moved a_pile v_aside v_judgedBy v_judgedYear a_leastCost a_matched a_order a_lies a_movedThen a_yearTable a_yearMark a_beginTable a_beginMark v_statesTold v_found v_yearFrom v_mark v_beginsMark v_begins a_began v_isSpent a_wants a_rowSort a_rowMany a_numbers) none := by
  refine MM.ofV (by decide) (Nat.le_of_ble_eq_true rfl) ?_
  intro p e s m args below meth c Q A hX hK hE0 hret H locs ls hH hl
  have hX : CallFix p m c cX8_turns 6 s args lw_all RX8 := hX
  have hx := hX.1
  have hb := hX.2.1
  have hown := hX.2.2.2.1
  have hts := hX.2.2.2.2
  have hl : lv_has ls 6 [(0, .ref (ad 0)), (1, .int p1), (2, .int p2)] := hl
  have hEv := hE.1
  delta FX8_turns at hF
  refine lv_iconst (v := 3) hx hb dX8_turns_0 syi_3 ?_
  refine lv_iload_n hx hb dX8_turns_1 rfl (lv_at hl 1 rfl) ?_
  refine lv_imul hx hb dX8_turns_2 ?_
  refine lv_aload_n hx hb dX8_turns_3 rfl (lv_at hl 0 rfl) ?_
  refine mg_many hX hK hH dX8_turns_4 ?_
  refine lv_iload_n hx hb dX8_turns_7 rfl (lv_at hl 1 rfl) ?_
  obtain ⟨x_47, he, hF⟩ := bd1e hF
  refine ml_many hX hK hH he dX8_turns_8 ?_
  refine lv_iadd hx hb dX8_turns_9 ?_
  refine lv_iconst (v := 1) hx hb dX8_turns_10 syi_1 ?_
  refine lv_isub hx hb dX8_turns_11 ?_
  refine lv_istore_n (lv' := [(3, .int (((3 * p1) + x_47) - 1)), (0, .ref (ad 0)), (1, .int p1), (2, .int p2)]) hx hb dX8_turns_12 rfl hl (by decide) rfl (fun ls hl => ?_)
  refine lv_iconst (v := 3) hx hb dX8_turns_13 syi_3 ?_
  refine lv_iload_n hx hb dX8_turns_14 rfl (lv_at hl 3 rfl) ?_
  refine lv_imul hx hb dX8_turns_15 ?_
  refine lv_aload_n hx hb dX8_turns_16 rfl (lv_at hl 1 rfl) ?_
  refine mg_many hX hK hH dX8_turns_17 ?_
  refine lv_iload_n hx hb dX8_turns_20 rfl (lv_at hl 3 rfl) ?_
  obtain ⟨x_48, he, hF⟩ := bd1e hF
  refine ml_many hX hK hH he dX8_turns_21 ?_
  refine lv_iadd hx hb dX8_turns_22 ?_
  refine lv_iconst (v := 1) hx hb dX8_turns_23 syi_1 ?_
  refine lv_isub hx hb dX8_turns_24 ?_
  refine lv_istore (lv' := [(4, .int (((3 * p2) + x_48) - 1)), (3, .int (((3 * p1) + x_47) - 1)), (0, .ref (ad 0)), (1, .int p1), (2, .int p2)]) hx hb dX8_turns_25 hl (by decide) rfl (fun ls hl => ?_)
  refine lv_aload_n hx hb dX8_turns_27 rfl (lv_at hl 2 rfl) ?_
  refine mg_on hX hK hH dX8_turns_28 ?_
  refine lv_iload_n hx hb dX8_turns_31 rfl (lv_at hl 1 rfl) ?_
  obtain ⟨x_49, he, hF⟩ := bd1e hF
  refine ml_on hX hK hH he dX8_turns_32 ?_
  refine lv_istore (lv' := [(5, .int x_49), (4, .int (((3 * p2) + x_48) - 1)), (3, .int (((3 * p1) + x_47) - 1)), (0, .ref (ad 0)), (1, .int p1), (2, .int p2)]) hx hb dX8_turns_33 hl (by decide) rfl (fun ls hl => ?_)
  refine lv_aload_n hx hb dX8_turns_35 rfl (lv_at hl 3 rfl) ?_
  refine mg_on hX hK hH dX8_turns_36 ?_
  refine lv_iload_n hx hb dX8_turns_39 rfl (lv_at hl 2 rfl) ?_
  refine lv_aload_n hx hb dX8_turns_40 rfl (lv_at hl 3 rfl) ?_
  refine mg_on hX hK hH dX8_turns_41 ?_
  refine lv_iload hx hb dX8_turns_44 (lv_at hl 1 rfl) ?_
  obtain ⟨x_50, he, hF⟩ := bd1e hF
  refine ml_on hX hK hH he dX8_turns_46 ?_
  obtain ⟨a_on_51, he, hF⟩ := bd1e hF
  refine ms_on hX hK hH he dX8_turns_47 (fun H locs hH => ?_)
  refine lv_aload_n hx hb dX8_turns_48 rfl (lv_at hl 3 rfl) ?_
  refine mg_on hX hK hH dX8_turns_49 ?_
  refine lv_iload hx hb dX8_turns_52 (lv_at hl 1 rfl) ?_
  refine lv_iload hx hb dX8_turns_54 (lv_at hl 0 rfl) ?_
  obtain ⟨a_on_52, he, hF⟩ := bd1e hF
  refine ms_on hX hK hH he dX8_turns_56 (fun H locs hH => ?_)
  refine lv_aload_n hx hb dX8_turns_57 rfl (lv_at hl 3 rfl) ?_
  refine lv_dup hx hb dX8_turns_58 rfl ?_
  refine mg_moved hX hK hH dX8_turns_59 ?_
  refine lv_iconst (v := 1) hx hb dX8_turns_62 syi_1 ?_
  refine lv_aload_n hx hb dX8_turns_63 rfl (lv_at hl 3 rfl) ?_
  refine mg_on hX hK hH dX8_turns_64 ?_
  refine lv_iload_n hx hb dX8_turns_67 rfl (lv_at hl 2 rfl) ?_
  obtain ⟨x_53, he, hF⟩ := bd1e hF
  refine ml_on hX hK hH he dX8_turns_68 ?_
  refine lv_iconst (v := 1) hx hb dX8_turns_69 syi_1 ?_
  refine lv_isub hx hb dX8_turns_70 ?_
  refine lv_ishl hx hb dX8_turns_71 ?_
  refine lv_iconst (v := 1) hx hb dX8_turns_72 syi_1 ?_
  refine lv_aload_n hx hb dX8_turns_73 rfl (lv_at hl 3 rfl) ?_
  refine mg_on hX hK hH dX8_turns_74 ?_
  refine lv_iload hx hb dX8_turns_77 (lv_at hl 1 rfl) ?_
  obtain ⟨x_54, he, hF⟩ := bd1e hF
  refine ml_on hX hK hH he dX8_turns_79 ?_
  refine lv_iconst (v := 1) hx hb dX8_turns_80 syi_1 ?_
  refine lv_isub hx hb dX8_turns_81 ?_
  refine lv_ishl hx hb dX8_turns_82 ?_
  refine lv_ior hx hb dX8_turns_83 ?_
  refine lv_ior hx hb dX8_turns_84 ?_
  refine mp_moved hX hK hH dX8_turns_85 (fun H locs hH => ?_)
  obtain ⟨rfl, rfl⟩ := re2 hF
  exact hret _ _ _ _ hH dX8_turns_88
abbrev rm_X8_exchange : Room := { frames := 3, cells := 0, slots := 0, locals := 80 }
set_option maxHeartbeats 4000000 in
theorem met_X8_exchange {l : Launch} {D : va_G} {ad : Nat → Nat} {cA : Nat → ClassId} {a_all : Nat → Int32} {a_hasImage : Nat → Int32} {a_tape : Nat → Int32} {a_fresh : Nat → Int32} {v_taped : Int32} {v_at : Int32} {v_behind : Int32} {v_size : Int32} {v_kind : Int32} {v_number : Int32} {v_wrong : Int32} {v_wrongAt : Int32} {v_depth : Int32} {v_steps : Int32} {v_faultKind : Int32} {v_faultPlace : Int32} {a_on : Nat → Int32} {a_many : Nat → Int32} {v_moved : Int32} {a_pile : Nat → Int32} {v_aside : Int32} {v_judgedBy : Int32} {v_judgedYear : Int32} {a_leastCost : Nat → Int32} {a_matched : Nat → Int32} {a_order : Nat → Int32} {a_lies : Nat → Int64} {a_movedThen : Nat → Int32} {a_yearTable : Nat → Int32} {a_yearMark : Nat → Int32} {a_beginTable : Nat → Int32} {a_beginMark : Nat → Int32} {v_statesTold : Int32} {v_found : Int32} {v_yearFrom : Int32} {v_mark : Int32} {v_beginsMark : Int32} {v_begins : Int32} {a_began : Nat → Int64} {v_isSpent : Int32} {a_wants : Nat → Int32} {a_rowSort : Nat → Int32} {a_rowMany : Nat → Int32} {a_numbers : Nat → Int64}  {p1 : Int32} {p2 : Int32} {res : Int32} {ra_all : Nat → Int32} {ra_on : Nat → Int32} {ra_many : Nat → Int32} {rv_moved : Int32} {ra_pile : Nat → Int32} {ak av fo : Nat} {E : EvT} (hE : EvM E ak av fo) (hF : FX8_exchange a_all a_on a_many a_pile p1 p2 = some (res, ra_all, ra_on, ra_many, rv_moved, ra_pile)) : MM l yX8_exchange (ws_ yX8_exchange cX8_exchange 6 (Option.some Jvm.ClassFile.FieldType.int)) rm_X8_exchange D vwA (mT cA) E [.ref (ad 0), .int p1, .int p2] (mW ad cA a_all a_hasImage a_tape a_fresh v_taped v_at v_behind v_size v_kind v_number v_wrong v_wrongAt v_depth v_steps v_faultKind v_faultPlace a_on a_many v_moved a_pile v_aside v_judgedBy v_judgedYear a_leastCost a_matched a_order a_lies a_movedThen a_yearTable a_yearMark a_beginTable a_beginMark v_statesTold v_found v_yearFrom v_mark v_beginsMark v_begins a_began v_isSpent a_wants a_rowSort a_rowMany a_numbers) (mW ad cA ra_all a_hasImage a_tape a_fresh v_taped v_at v_behind v_size v_kind v_number v_wrong v_wrongAt v_depth v_steps v_faultKind v_faultPlace ra_on ra_many rv_moved ra_pile v_aside v_judgedBy v_judgedYear a_leastCost a_matched a_order a_lies a_movedThen a_yearTable a_yearMark a_beginTable a_beginMark v_statesTold v_found v_yearFrom v_mark v_beginsMark v_begins a_began v_isSpent a_wants a_rowSort a_rowMany a_numbers) (some (.int res)) := by
  refine MM.ofI (by decide) (Nat.le_of_ble_eq_true rfl) ?_
  intro p e s m args below meth c Q A hX hK hE0 hret H locs ls hH hl
  have hX : CallFix p m c cX8_exchange 6 s args lw_all RX8 := hX
  have hx := hX.1
  have hb := hX.2.1
  have hown := hX.2.2.2.1
  have hts := hX.2.2.2.2
  have hl : lv_has ls 6 [(0, .ref (ad 0)), (1, .int p1), (2, .int p2)] := hl
  have hEv := hE.1
  delta FX8_exchange at hF
  refine lv_aload_n hx hb dX8_exchange_0 rfl (lv_at hl 0 rfl) ?_
  refine lv_iconst (v := 0) hx hb dX8_exchange_1 syi_0 ?_
  refine mp_thrown hX hK hH dX8_exchange_2 (fun H locs hH => ?_)
  refine lv_aload_n hx hb dX8_exchange_5 rfl (lv_at hl 0 rfl) ?_
  obtain ⟨a_on_47, a_many_48, v_moved_49, he, hF⟩ := bd3e hF
  refine mcV hX hK hEv hE0 hH (met_X8_looksNow hE he) (mrecv hK hH) gw_StoneYearModel_260 hd_yX8_looksNow ⟨Nat.le_of_ble_eq_true rfl, Nat.le_of_ble_eq_true rfl⟩ rfl rfl hl (Nat.le_of_ble_eq_true rfl) dX8_exchange_6 ⟨Nat.le_of_ble_eq_true rfl, Nat.le_of_ble_eq_true rfl⟩ (fun H locs hH => ?_)
  refine lv_aload_n hx hb dX8_exchange_9 rfl (lv_at hl 0 rfl) ?_
  refine lv_iload_n hx hb dX8_exchange_10 rfl (lv_at hl 1 rfl) ?_
  refine lv_iload_n hx hb dX8_exchange_11 rfl (lv_at hl 2 rfl) ?_
  obtain ⟨x_50, a_pile_51, he, hF⟩ := bd2e hF
  refine mcV hX hK hEv hE0 hH (met_X8_mayTurn hE he) (mrecv hK hH) gw_StoneYearModel_269 hd_yX8_mayTurn ⟨Nat.le_of_ble_eq_true rfl, Nat.le_of_ble_eq_true rfl⟩ rfl rfl hl (Nat.le_of_ble_eq_true rfl) dX8_exchange_12 ⟨Nat.le_of_ble_eq_true rfl, Nat.le_of_ble_eq_true rfl⟩ (fun H locs hH => ?_)
  refine lv_istore_n (lv' := [(3, .int x_50), (0, .ref (ad 0)), (1, .int p1), (2, .int p2)]) hx hb dX8_exchange_15 rfl hl (by decide) rfl (fun ls hl => ?_)
  refine lv_iload_n hx hb dX8_exchange_16 rfl (lv_at hl 0 rfl) ?_
  refine lv_if_eq (tgt := 25) hx hb dX8_exchange_17 rfl (fun c_52 => ?_) (fun c_52 => ?_)
  · have hF := itp c_52 hF
    refine lv_aload_n hx hb dX8_exchange_25 rfl (lv_at hl 1 rfl) ?_
    refine lv_iload_n hx hb dX8_exchange_26 rfl (lv_at hl 2 rfl) ?_
    obtain ⟨x_53, he, hF⟩ := bd1e hF
    refine mcV hX hK hEv hE0 hH (met_X8_topOf hE he) (mrecv hK hH) gw_StoneYearModel_226 hd_yX8_topOf ⟨Nat.le_of_ble_eq_true rfl, Nat.le_of_ble_eq_true rfl⟩ rfl rfl hl (Nat.le_of_ble_eq_true rfl) dX8_exchange_27 ⟨Nat.le_of_ble_eq_true rfl, Nat.le_of_ble_eq_true rfl⟩ (fun H locs hH => ?_)
    refine lv_istore (lv' := [(4, .int x_53), (3, .int x_50), (0, .ref (ad 0)), (1, .int p1), (2, .int p2)]) hx hb dX8_exchange_30 hl (by decide) rfl (fun ls hl => ?_)
    refine lv_aload_n hx hb dX8_exchange_32 rfl (lv_at hl 2 rfl) ?_
    refine lv_iload_n hx hb dX8_exchange_33 rfl (lv_at hl 4 rfl) ?_
    obtain ⟨x_54, he, hF⟩ := bd1e hF
    refine mcV hX hK hEv hE0 hH (met_X8_topOf hE he) (mrecv hK hH) gw_StoneYearModel_226 hd_yX8_topOf ⟨Nat.le_of_ble_eq_true rfl, Nat.le_of_ble_eq_true rfl⟩ rfl rfl hl (Nat.le_of_ble_eq_true rfl) dX8_exchange_34 ⟨Nat.le_of_ble_eq_true rfl, Nat.le_of_ble_eq_true rfl⟩ (fun H locs hH => ?_)
    refine lv_istore (lv' := [(5, .int x_54), (4, .int x_53), (3, .int x_50), (0, .ref (ad 0)), (1, .int p1), (2, .int p2)]) hx hb dX8_exchange_37 hl (by decide) rfl (fun ls hl => ?_)
    refine lv_aload_n hx hb dX8_exchange_39 rfl (lv_at hl 3 rfl) ?_
    refine lv_iload_n hx hb dX8_exchange_40 rfl (lv_at hl 4 rfl) ?_
    refine lv_iload_n hx hb dX8_exchange_41 rfl (lv_at hl 5 rfl) ?_
    obtain ⟨a_on_55, v_moved_56, he, hF⟩ := bd2e hF
    refine mcV hX hK hEv hE0 hH (met_X8_turns hE he) (mrecv hK hH) gw_StoneYearModel_281 hd_yX8_turns ⟨Nat.le_of_ble_eq_true rfl, Nat.le_of_ble_eq_true rfl⟩ rfl rfl hl (Nat.le_of_ble_eq_true rfl) dX8_exchange_42 ⟨Nat.le_of_ble_eq_true rfl, Nat.le_of_ble_eq_true rfl⟩ (fun H locs hH => ?_)
    refine lv_aload_n hx hb dX8_exchange_45 rfl (lv_at hl 3 rfl) ?_
    obtain ⟨a_all_57, he, hF⟩ := bd1e hF
    refine mcV hX hK hEv hE0 hH (met_X8_keepsNow hE he) (mrecv hK hH) gw_StoneYearModel_275 hd_yX8_keepsNow ⟨Nat.le_of_ble_eq_true rfl, Nat.le_of_ble_eq_true rfl⟩ rfl rfl hl (Nat.le_of_ble_eq_true rfl) dX8_exchange_46 ⟨Nat.le_of_ble_eq_true rfl, Nat.le_of_ble_eq_true rfl⟩ (fun H locs hH => ?_)
    refine lv_aload_n hx hb dX8_exchange_49 rfl (lv_at hl 3 rfl) ?_
    refine lv_iload hx hb dX8_exchange_50 (lv_at hl 1 rfl) ?_
    obtain ⟨a_all_58, he, hF⟩ := bd1e hF
    refine mcV hX hK hEv hE0 hH (met_X8_counted hE he) (mrecv hK hH) gw_StoneYearModel_278 hd_yX8_counted ⟨Nat.le_of_ble_eq_true rfl, Nat.le_of_ble_eq_true rfl⟩ rfl rfl hl (Nat.le_of_ble_eq_true rfl) dX8_exchange_52 ⟨Nat.le_of_ble_eq_true rfl, Nat.le_of_ble_eq_true rfl⟩ (fun H locs hH => ?_)
    refine lv_aload_n hx hb dX8_exchange_55 rfl (lv_at hl 3 rfl) ?_
    refine lv_iload hx hb dX8_exchange_56 (lv_at hl 0 rfl) ?_
    obtain ⟨a_all_59, he, hF⟩ := bd1e hF
    refine mcV hX hK hEv hE0 hH (met_X8_counted hE he) (mrecv hK hH) gw_StoneYearModel_278 hd_yX8_counted ⟨Nat.le_of_ble_eq_true rfl, Nat.le_of_ble_eq_true rfl⟩ rfl rfl hl (Nat.le_of_ble_eq_true rfl) dX8_exchange_58 ⟨Nat.le_of_ble_eq_true rfl, Nat.le_of_ble_eq_true rfl⟩ (fun H locs hH => ?_)
    refine lv_iload hx hb dX8_exchange_61 (lv_at hl 1 rfl) ?_
    obtain ⟨rfl, rfl, rfl, rfl, rfl, rfl⟩ := re6 hF
    exact hret _ _ _ _ hH dX8_exchange_63
  · have hF := itn c_52 hF
    refine lv_bipush (v := (-10)) hx hb dX8_exchange_20 syb_m10 ?_
    refine lv_iload_n hx hb dX8_exchange_22 rfl (lv_at hl 0 rfl) ?_
    refine lv_isub hx hb dX8_exchange_23 ?_
    obtain ⟨rfl, rfl, rfl, rfl, rfl, rfl⟩ := re6 hF
    exact hret _ _ _ _ hH dX8_exchange_24
abbrev rm_X8_year : Room := { frames := 0, cells := 0, slots := 0, locals := 0 }
set_option maxHeartbeats 4000000 in
theorem met_X8_year {l : Launch} {D : va_G} {ad : Nat → Nat} {cA : Nat → ClassId} {a_all : Nat → Int32} {a_hasImage : Nat → Int32} {a_tape : Nat → Int32} {a_fresh : Nat → Int32} {v_taped : Int32} {v_at : Int32} {v_behind : Int32} {v_size : Int32} {v_kind : Int32} {v_number : Int32} {v_wrong : Int32} {v_wrongAt : Int32} {v_depth : Int32} {v_steps : Int32} {v_faultKind : Int32} {v_faultPlace : Int32} {a_on : Nat → Int32} {a_many : Nat → Int32} {v_moved : Int32} {a_pile : Nat → Int32} {v_aside : Int32} {v_judgedBy : Int32} {v_judgedYear : Int32} {a_leastCost : Nat → Int32} {a_matched : Nat → Int32} {a_order : Nat → Int32} {a_lies : Nat → Int64} {a_movedThen : Nat → Int32} {a_yearTable : Nat → Int32} {a_yearMark : Nat → Int32} {a_beginTable : Nat → Int32} {a_beginMark : Nat → Int32} {v_statesTold : Int32} {v_found : Int32} {v_yearFrom : Int32} {v_mark : Int32} {v_beginsMark : Int32} {v_begins : Int32} {a_began : Nat → Int64} {v_isSpent : Int32} {a_wants : Nat → Int32} {a_rowSort : Nat → Int32} {a_rowMany : Nat → Int32} {a_numbers : Nat → Int64}   {res : Int32} {ra_all : Nat → Int32} {ak av fo : Nat} {E : EvT} (hE : EvM E ak av fo) (hF : FX8_year a_all = some (res, ra_all)) : MM l yX8_year (ws_ yX8_year cX8_year 1 (Option.some Jvm.ClassFile.FieldType.int)) rm_X8_year D vwA (mT cA) E [.ref (ad 0)] (mW ad cA a_all a_hasImage a_tape a_fresh v_taped v_at v_behind v_size v_kind v_number v_wrong v_wrongAt v_depth v_steps v_faultKind v_faultPlace a_on a_many v_moved a_pile v_aside v_judgedBy v_judgedYear a_leastCost a_matched a_order a_lies a_movedThen a_yearTable a_yearMark a_beginTable a_beginMark v_statesTold v_found v_yearFrom v_mark v_beginsMark v_begins a_began v_isSpent a_wants a_rowSort a_rowMany a_numbers) (mW ad cA ra_all a_hasImage a_tape a_fresh v_taped v_at v_behind v_size v_kind v_number v_wrong v_wrongAt v_depth v_steps v_faultKind v_faultPlace a_on a_many v_moved a_pile v_aside v_judgedBy v_judgedYear a_leastCost a_matched a_order a_lies a_movedThen a_yearTable a_yearMark a_beginTable a_beginMark v_statesTold v_found v_yearFrom v_mark v_beginsMark v_begins a_began v_isSpent a_wants a_rowSort a_rowMany a_numbers) (some (.int res)) := by
  refine MM.ofI (by decide) (Nat.le_of_ble_eq_true rfl) ?_
  intro p e s m args below meth c Q A hX hK hE0 hret H locs ls hH hl
  have hX : CallFix p m c cX8_year 1 s args lw_all RX8 := hX
  have hx := hX.1
  have hb := hX.2.1
  have hown := hX.2.2.2.1
  have hts := hX.2.2.2.2
  have hl : lv_has ls 1 [(0, .ref (ad 0))] := hl
  have hEv := hE.1
  delta FX8_year at hF
  refine lv_aload_n hx hb dX8_year_0 rfl (lv_at hl 0 rfl) ?_
  refine lv_iconst (v := 0) hx hb dX8_year_1 syi_0 ?_
  refine mp_thrown hX hK hH dX8_year_2 (fun H locs hH => ?_)
  refine lv_aload_n hx hb dX8_year_5 rfl (lv_at hl 0 rfl) ?_
  refine mg_all hX hK hH dX8_year_6 ?_
  refine lv_bipush (v := 112) hx hb dX8_year_9 syb_112 ?_
  obtain ⟨x_45, he, hF⟩ := bd1e hF
  refine ml_all hX hK hH he dX8_year_11 ?_
  refine lv_sipush (v := 999) hx hb dX8_year_12 sys_999 ?_
  refine lv_icmp_ne (tgt := 21) hx hb dX8_year_15 rfl (fun c_46 => ?_) (fun c_46 => ?_)
  · have hF := itn c_46 hF
    refine lv_aload_n hx hb dX8_year_21 rfl (lv_at hl 0 rfl) ?_
    refine mg_all hX hK hH dX8_year_22 ?_
    refine lv_bipush (v := 112) hx hb dX8_year_25 syb_112 ?_
    refine lv_dup2_11 hx hb dX8_year_27 rfl rfl ?_
    obtain ⟨x_47, he, hF⟩ := bd1e hF
    refine ml_all hX hK hH he dX8_year_28 ?_
    refine lv_iconst (v := 1) hx hb dX8_year_29 syi_1 ?_
    refine lv_iadd hx hb dX8_year_30 ?_
    obtain ⟨a_all_48, he, hF⟩ := bd1e hF
    refine ms_all hX hK hH he dX8_year_31 (fun H locs hH => ?_)
    refine lv_aload_n hx hb dX8_year_32 rfl (lv_at hl 0 rfl) ?_
    refine mg_all hX hK hH dX8_year_33 ?_
    refine lv_bipush (v := 95) hx hb dX8_year_36 syb_95 ?_
    refine lv_iconst (v := 0) hx hb dX8_year_38 syi_0 ?_
    obtain ⟨a_all_49, he, hF⟩ := bd1e hF
    refine ms_all hX hK hH he dX8_year_39 (fun H locs hH => ?_)
    refine lv_aload_n hx hb dX8_year_40 rfl (lv_at hl 0 rfl) ?_
    refine mg_all hX hK hH dX8_year_41 ?_
    refine lv_bipush (v := 112) hx hb dX8_year_44 syb_112 ?_
    obtain ⟨x_50, he, hF⟩ := bd1e hF
    refine ml_all hX hK hH he dX8_year_46 ?_
    obtain ⟨rfl, rfl⟩ := re2 hF
    exact hret _ _ _ _ hH dX8_year_47
  · have hF := itp c_46 hF
    refine lv_bipush (v := (-5)) hx hb dX8_year_18 syb_m5 ?_
    obtain ⟨rfl, rfl⟩ := re2 hF
    exact hret _ _ _ _ hH dX8_year_20
abbrev rm_X8_flood : Room := { frames := 2, cells := 0, slots := 0, locals := 46 }
set_option maxHeartbeats 4000000 in
theorem met_X8_flood {l : Launch} {D : va_G} {ad : Nat → Nat} {cA : Nat → ClassId} {a_all : Nat → Int32} {a_hasImage : Nat → Int32} {a_tape : Nat → Int32} {a_fresh : Nat → Int32} {v_taped : Int32} {v_at : Int32} {v_behind : Int32} {v_size : Int32} {v_kind : Int32} {v_number : Int32} {v_wrong : Int32} {v_wrongAt : Int32} {v_depth : Int32} {v_steps : Int32} {v_faultKind : Int32} {v_faultPlace : Int32} {a_on : Nat → Int32} {a_many : Nat → Int32} {v_moved : Int32} {a_pile : Nat → Int32} {v_aside : Int32} {v_judgedBy : Int32} {v_judgedYear : Int32} {a_leastCost : Nat → Int32} {a_matched : Nat → Int32} {a_order : Nat → Int32} {a_lies : Nat → Int64} {a_movedThen : Nat → Int32} {a_yearTable : Nat → Int32} {a_yearMark : Nat → Int32} {a_beginTable : Nat → Int32} {a_beginMark : Nat → Int32} {v_statesTold : Int32} {v_found : Int32} {v_yearFrom : Int32} {v_mark : Int32} {v_beginsMark : Int32} {v_begins : Int32} {a_began : Nat → Int64} {v_isSpent : Int32} {a_wants : Nat → Int32} {a_rowSort : Nat → Int32} {a_rowMany : Nat → Int32} {a_numbers : Nat → Int64}  {p1 : Int32} {res : Int32} {ra_all : Nat → Int32} {ra_on : Nat → Int32} {ra_many : Nat → Int32} {rv_moved : Int32} {ak av fo : Nat} {E : EvT} (hE : EvM E ak av fo) (hF : FX8_flood a_all a_on a_many p1 = some (res, ra_all, ra_on, ra_many, rv_moved)) : MM l yX8_flood (ws_ yX8_flood cX8_flood 9 (Option.some Jvm.ClassFile.FieldType.int)) rm_X8_flood D vwA (mT cA) E [.ref (ad 0), .int p1] (mW ad cA a_all a_hasImage a_tape a_fresh v_taped v_at v_behind v_size v_kind v_number v_wrong v_wrongAt v_depth v_steps v_faultKind v_faultPlace a_on a_many v_moved a_pile v_aside v_judgedBy v_judgedYear a_leastCost a_matched a_order a_lies a_movedThen a_yearTable a_yearMark a_beginTable a_beginMark v_statesTold v_found v_yearFrom v_mark v_beginsMark v_begins a_began v_isSpent a_wants a_rowSort a_rowMany a_numbers) (mW ad cA ra_all a_hasImage a_tape a_fresh v_taped v_at v_behind v_size v_kind v_number v_wrong v_wrongAt v_depth v_steps v_faultKind v_faultPlace ra_on ra_many rv_moved a_pile v_aside v_judgedBy v_judgedYear a_leastCost a_matched a_order a_lies a_movedThen a_yearTable a_yearMark a_beginTable a_beginMark v_statesTold v_found v_yearFrom v_mark v_beginsMark v_begins a_began v_isSpent a_wants a_rowSort a_rowMany a_numbers) (some (.int res)) := by
  refine MM.ofI (by decide) (Nat.le_of_ble_eq_true rfl) ?_
  intro p e s m args below meth c Q A hX hK hE0 hret H locs ls hH hl
  have hX : CallFix p m c cX8_flood 9 s args lw_all RX8 := hX
  have hx := hX.1
  have hb := hX.2.1
  have hown := hX.2.2.2.1
  have hts := hX.2.2.2.2
  have hl : lv_has ls 9 [(0, .ref (ad 0)), (1, .int p1)] := hl
  have hEv := hE.1
  delta FX8_flood at hF
  refine lv_aload_n hx hb dX8_flood_0 rfl (lv_at hl 0 rfl) ?_
  refine lv_iconst (v := 0) hx hb dX8_flood_1 syi_0 ?_
  refine mp_thrown hX hK hH dX8_flood_2 (fun H locs hH => ?_)
  refine lv_aload_n hx hb dX8_flood_5 rfl (lv_at hl 0 rfl) ?_
  obtain ⟨a_on_46, a_many_47, v_moved_48, he, hF⟩ := bd3e hF
  refine mcV hX hK hEv hE0 hH (met_X8_looksNow hE he) (mrecv hK hH) gw_StoneYearModel_260 hd_yX8_looksNow ⟨Nat.le_of_ble_eq_true rfl, Nat.le_of_ble_eq_true rfl⟩ rfl rfl hl (Nat.le_of_ble_eq_true rfl) dX8_flood_6 ⟨Nat.le_of_ble_eq_true rfl, Nat.le_of_ble_eq_true rfl⟩ (fun H locs hH => ?_)
  refine lv_aload_n hx hb dX8_flood_9 rfl (lv_at hl 0 rfl) ?_
  refine mg_moved hX hK hH dX8_flood_10 ?_
  refine lv_istore_n (lv' := [(2, .int v_moved_48), (0, .ref (ad 0)), (1, .int p1)]) hx hb dX8_flood_13 rfl hl (by decide) rfl (fun ls hl => ?_)
  refine lv_iload_n hx hb dX8_flood_14 rfl (lv_at hl 2 rfl) ?_
  refine lv_istore_n (lv' := [(3, .int p1), (2, .int v_moved_48), (0, .ref (ad 0)), (1, .int p1)]) hx hb dX8_flood_15 rfl hl (by decide) rfl (fun ls hl => ?_)
  refine lv_iconst (v := 0) hx hb dX8_flood_16 syi_0 ?_
  refine lv_istore (lv' := [(4, .int 0), (3, .int p1), (2, .int v_moved_48), (0, .ref (ad 0)), (1, .int p1)]) hx hb dX8_flood_17 hl (by decide) rfl (fun ls hl => ?_)
  refine lv_iconst (v := 0) hx hb dX8_flood_19 syi_0 ?_
  refine lv_istore (lv' := [(5, .int 0), (4, .int 0), (3, .int p1), (2, .int v_moved_48), (0, .ref (ad 0)), (1, .int p1)]) hx hb dX8_flood_20 hl (by decide) rfl (fun ls hl => ?_)
  obtain ⟨xx22, ee22, kk22_0⟩ := bd5L hF
  have k22_0 : ∀ (x_110 : Int32) (a_all_111 : Nat → Int32) (a_on_112 : Nat → Int32) (a_many_113 : Nat → Int32) (v_moved_114 : Int32), xx22 = (x_110, a_all_111, a_on_112, a_many_113, v_moved_114) → ∀ (H : Heap) (locs : List Loc) (ls : Array Slot), MH D vwA A s.heap (mW ad cA a_all_111 a_hasImage a_tape a_fresh v_taped v_at v_behind v_size v_kind v_number v_wrong v_wrongAt v_depth v_steps v_faultKind v_faultPlace a_on_112 a_many_113 v_moved_114 a_pile v_aside v_judgedBy v_judgedYear a_leastCost a_matched a_order a_lies a_movedThen a_yearTable a_yearMark a_beginTable a_beginMark v_statesTold v_found v_yearFrom v_mark v_beginsMark v_begins a_began v_isSpent a_wants a_rowSort a_rowMany a_numbers) H locs → lv_has ls 9 [(0, .ref (ad 0)), (2, .int v_moved_48), (4, .int x_110)] → W p l e rm_X8_flood s m args below meth c H locs 0 0 Q (F0 m 179 ls []) := by
    intro x_110 a_all_111 a_on_112 a_many_113 v_moved_114 hxx H locs ls hH hl
    have hF := un5e (kk22_0 (x_110, a_all_111, a_on_112, a_many_113, v_moved_114) hxx)
    refine lv_aload_n hx hb dX8_flood_179 rfl (lv_at hl 0 rfl) ?_
    refine lv_aload_n hx hb dX8_flood_180 rfl (lv_at hl 0 rfl) ?_
    refine mg_all hX hK hH dX8_flood_181 ?_
    refine lv_bipush (v := 78) hx hb dX8_flood_184 syb_78 ?_
    obtain ⟨x_115, he, hF⟩ := bd1e hF
    refine ml_all hX hK hH he dX8_flood_186 ?_
    refine lv_iconst (v := 1) hx hb dX8_flood_187 syi_1 ?_
    have j199 : ∀ (x_117 : Int32), FX8_flood_j199 x_110 a_all_111 a_on_112 a_many_113 x_117 = some (res, ra_all, ra_on, ra_many, rv_moved) → ∀ (H : Heap) (locs : List Loc) (ls : Array Slot), MH D vwA A s.heap (mW ad cA a_all_111 a_hasImage a_tape a_fresh v_taped v_at v_behind v_size v_kind v_number v_wrong v_wrongAt v_depth v_steps v_faultKind v_faultPlace a_on_112 a_many_113 v_moved_114 a_pile v_aside v_judgedBy v_judgedYear a_leastCost a_matched a_order a_lies a_movedThen a_yearTable a_yearMark a_beginTable a_beginMark v_statesTold v_found v_yearFrom v_mark v_beginsMark v_begins a_began v_isSpent a_wants a_rowSort a_rowMany a_numbers) H locs → lv_has ls 9 [(0, .ref (ad 0)), (4, .int x_110)] → W p l e rm_X8_flood s m args below meth c H locs 0 0 Q (F0 m 199 ls [.int x_117, .ref (ad 0)]) := by
      intro x_117 hF H locs ls hH hl
      delta FX8_flood_j199 at hF
      refine mp_moved hX hK hH dX8_flood_199 (fun H locs hH => ?_)
      refine lv_aload_n hx hb dX8_flood_202 rfl (lv_at hl 0 rfl) ?_
      obtain ⟨a_all_118, he, hF⟩ := bd1e hF
      refine mcV hX hK hEv hE0 hH (met_X8_keepsNow hE he) (mrecv hK hH) gw_StoneYearModel_275 hd_yX8_keepsNow ⟨Nat.le_of_ble_eq_true rfl, Nat.le_of_ble_eq_true rfl⟩ rfl rfl hl (Nat.le_of_ble_eq_true rfl) dX8_flood_203 ⟨Nat.le_of_ble_eq_true rfl, Nat.le_of_ble_eq_true rfl⟩ (fun H locs hH => ?_)
      refine lv_iload hx hb dX8_flood_206 (lv_at hl 1 rfl) ?_
      obtain ⟨rfl, rfl, rfl, rfl, rfl⟩ := re5 hF
      exact hret _ _ _ _ hH dX8_flood_208
    refine lv_icmp_ne (tgt := 198) hx hb dX8_flood_188 rfl (fun c_116 => ?_) (fun c_116 => ?_)
    · have hF := itn c_116 hF
      refine lv_iload_n hx hb dX8_flood_198 rfl (lv_at hl 1 rfl) ?_
      exact j199 v_moved_48 hF _ _ _ hH (lv_sub hl [0, 2] rfl)
    · have hF := itp c_116 hF
      refine lv_aload_n hx hb dX8_flood_191 rfl (lv_at hl 0 rfl) ?_
      refine mg_moved hX hK hH dX8_flood_192 ?_
      refine lv_goto (tgt := 199) hx hb dX8_flood_195 rfl ?_
      exact j199 v_moved_114 hF _ _ _ hH (lv_sub hl [0, 2] rfl)
  obtain ⟨nn22, en22⟩ := loopC_some ee22
  have l22 : ∀ (n : Nat) (x_76 : Int32) (x_77 : Int32) (x_78 : Int32) (a_all_79 : Nat → Int32) (a_on_80 : Nat → Int32) (a_many_81 : Nat → Int32) (v_moved_82 : Int32), loopN (fun s => FX8_flood_b22 s.1 s.2.1 s.2.2.1 s.2.2.2.1 s.2.2.2.2.1 s.2.2.2.2.2.1 s.2.2.2.2.2.2) n (x_76, x_77, x_78, a_all_79, a_on_80, a_many_81, v_moved_82) = some xx22 → ∀ (H : Heap) (locs : List Loc) (ls : Array Slot), MH D vwA A s.heap (mW ad cA a_all_79 a_hasImage a_tape a_fresh v_taped v_at v_behind v_size v_kind v_number v_wrong v_wrongAt v_depth v_steps v_faultKind v_faultPlace a_on_80 a_many_81 v_moved_82 a_pile v_aside v_judgedBy v_judgedYear a_leastCost a_matched a_order a_lies a_movedThen a_yearTable a_yearMark a_beginTable a_beginMark v_statesTold v_found v_yearFrom v_mark v_beginsMark v_begins a_began v_isSpent a_wants a_rowSort a_rowMany a_numbers) H locs → lv_has ls 9 [(0, .ref (ad 0)), (2, .int v_moved_48), (3, .int x_76), (4, .int x_77), (5, .int x_78)] → W p l e rm_X8_flood s m args below meth c H locs 0 0 Q (F0 m 22 ls []) := by
    intro n
    induction n with
    | zero =>
      intro x_76 x_77 x_78 a_all_79 a_on_80 a_many_81 v_moved_82 hN
      exact absurd hN loopN_zero
    | succ n ih =>
      intro x_76 x_77 x_78 a_all_79 a_on_80 a_many_81 v_moved_82 hN H locs ls hH hl
      obtain ⟨yy22, hB22, hY22⟩ := loopN_succ hN
      have hF : FX8_flood_b22 x_76 x_77 x_78 a_all_79 a_on_80 a_many_81 v_moved_82 = some yy22 := hB22
      delta FX8_flood_b22 at hF
      refine lv_iload hx hb dX8_flood_22 (lv_at hl 4 rfl) ?_
      refine lv_aload_n hx hb dX8_flood_24 rfl (lv_at hl 0 rfl) ?_
      refine mg_all hX hK hH dX8_flood_25 ?_
      refine lv_iconst (v := 0) hx hb dX8_flood_28 syi_0 ?_
      obtain ⟨x_83, he, hF⟩ := bd1e hF
      refine ml_all hX hK hH he dX8_flood_29 ?_
      refine lv_icmp_ge (tgt := 179) hx hb dX8_flood_30 rfl (fun c_84 => ?_) (fun c_84 => ?_)
      · have hF := itp c_84 hF
        obtain rfl := Option.some.inj hF
        exact k22_0 x_77 a_all_79 a_on_80 a_many_81 v_moved_82 hY22 _ _ _ hH (lv_sub hl [0, 1, 3] rfl)
      · have hF := itn c_84 hF
        refine lv_aload_n hx hb dX8_flood_33 rfl (lv_at hl 0 rfl) ?_
        refine mg_many hX hK hH dX8_flood_34 ?_
        refine lv_iload hx hb dX8_flood_37 (lv_at hl 4 rfl) ?_
        obtain ⟨x_85, he, hF⟩ := bd1e hF
        refine ml_many hX hK hH he dX8_flood_39 ?_
        have j173 : ∀ (x_104 : Int32) (x_105 : Int32) (a_all_106 : Nat → Int32) (a_on_107 : Nat → Int32) (a_many_108 : Nat → Int32) (v_moved_109 : Int32), FX8_flood_j173 x_78 x_104 x_105 a_all_106 a_on_107 a_many_108 v_moved_109 = some yy22 → ∀ (H : Heap) (locs : List Loc) (ls : Array Slot), MH D vwA A s.heap (mW ad cA a_all_106 a_hasImage a_tape a_fresh v_taped v_at v_behind v_size v_kind v_number v_wrong v_wrongAt v_depth v_steps v_faultKind v_faultPlace a_on_107 a_many_108 v_moved_109 a_pile v_aside v_judgedBy v_judgedYear a_leastCost a_matched a_order a_lies a_movedThen a_yearTable a_yearMark a_beginTable a_beginMark v_statesTold v_found v_yearFrom v_mark v_beginsMark v_begins a_began v_isSpent a_wants a_rowSort a_rowMany a_numbers) H locs → lv_has ls 9 [(0, .ref (ad 0)), (2, .int v_moved_48), (3, .int x_104), (4, .int x_105), (5, .int x_78)] → W p l e rm_X8_flood s m args below meth c H locs 0 0 Q (F0 m 173 ls []) := by
          intro x_104 x_105 a_all_106 a_on_107 a_many_108 v_moved_109 hF H locs ls hH hl
          delta FX8_flood_j173 at hF
          refine lv_iinc (v := (x_78 + 1)) (lv' := [(5, .int (x_78 + 1)), (0, .ref (ad 0)), (2, .int v_moved_48), (3, .int x_104), (4, .int x_105)]) hx hb dX8_flood_173 hl (k := 4) rfl (syc syi_1) (by decide) rfl (fun ls hl => ?_)
          refine lv_goto (tgt := 22) hx hb dX8_flood_176 rfl ?_
          obtain rfl := Option.some.inj hF
          exact ih x_104 x_105 (x_78 + 1) a_all_106 a_on_107 a_many_108 v_moved_109 hY22 _ _ _ hH (lv_sub hl [1, 2, 3, 4, 0] rfl)
        refine lv_if_ne (tgt := 46) hx hb dX8_flood_40 rfl (fun c_86 => ?_) (fun c_86 => ?_)
        · have hF := itn c_86 hF
          refine lv_ldcw (v := 1103515245) hx hb hown (hts _ q1987) dX8_flood_46 ?_
          refine lv_iload_n hx hb dX8_flood_49 rfl (lv_at hl 2 rfl) ?_
          refine lv_imul hx hb dX8_flood_50 ?_
          refine lv_sipush (v := 12345) hx hb dX8_flood_51 sys_12345 ?_
          refine lv_iadd hx hb dX8_flood_54 ?_
          refine lv_istore_n (lv' := [(3, .int ((1103515245 * x_76) + 12345)), (0, .ref (ad 0)), (2, .int v_moved_48), (4, .int x_77), (5, .int x_78)]) hx hb dX8_flood_55 rfl hl (by decide) rfl (fun ls hl => ?_)
          refine lv_iload_n hx hb dX8_flood_56 rfl (lv_at hl 0 rfl) ?_
          refine lv_bipush (v := 16) hx hb dX8_flood_57 syb_16 ?_
          refine lv_iushr hx hb dX8_flood_59 rfl ?_
          refine lv_iconst (v := 3) hx hb dX8_flood_60 syi_3 ?_
          refine lv_irem hx hb dX8_flood_61 (by decide) ?_
          refine lv_istore (lv' := [(6, .int ((ushI ((1103515245 * x_76) + 12345) 16) - (ushI ((1103515245 * x_76) + 12345) 16) / 3 * 3)), (3, .int ((1103515245 * x_76) + 12345)), (0, .ref (ad 0)), (2, .int v_moved_48), (4, .int x_77), (5, .int x_78)]) hx hb dX8_flood_62 hl (by decide) rfl (fun ls hl => ?_)
          refine lv_iload hx hb dX8_flood_64 (lv_at hl 0 rfl) ?_
          refine lv_iconst (v := 1) hx hb dX8_flood_66 syi_1 ?_
          have j81 : ∀ (x_88 : Int32), FX8_flood_j81 x_76 x_77 x_78 a_all_79 a_on_80 a_many_81 v_moved_82 x_88 = some yy22 → ∀ (H : Heap) (locs : List Loc) (ls : Array Slot), MH D vwA A s.heap (mW ad cA a_all_79 a_hasImage a_tape a_fresh v_taped v_at v_behind v_size v_kind v_number v_wrong v_wrongAt v_depth v_steps v_faultKind v_faultPlace a_on_80 a_many_81 v_moved_82 a_pile v_aside v_judgedBy v_judgedYear a_leastCost a_matched a_order a_lies a_movedThen a_yearTable a_yearMark a_beginTable a_beginMark v_statesTold v_found v_yearFrom v_mark v_beginsMark v_begins a_began v_isSpent a_wants a_rowSort a_rowMany a_numbers) H locs → lv_has ls 9 [(0, .ref (ad 0)), (2, .int v_moved_48), (3, .int ((1103515245 * x_76) + 12345)), (4, .int x_77), (5, .int x_78), (6, .int ((ushI ((1103515245 * x_76) + 12345) 16) - (ushI ((1103515245 * x_76) + 12345) 16) / 3 * 3))] → W p l e rm_X8_flood s m args below meth c H locs 0 0 Q (F0 m 81 ls [.int x_88]) := by
            intro x_88 hF H locs ls hH hl
            delta FX8_flood_j81 at hF
            refine lv_istore (lv' := [(7, .int x_88), (0, .ref (ad 0)), (2, .int v_moved_48), (3, .int ((1103515245 * x_76) + 12345)), (4, .int x_77), (5, .int x_78), (6, .int ((ushI ((1103515245 * x_76) + 12345) 16) - (ushI ((1103515245 * x_76) + 12345) 16) / 3 * 3))]) hx hb dX8_flood_81 hl (by decide) rfl (fun ls hl => ?_)
            refine lv_iload hx hb dX8_flood_83 (lv_at hl 6 rfl) ?_
            refine lv_if_eq (tgt := 173) hx hb dX8_flood_85 rfl (fun c_89 => ?_) (fun c_89 => ?_)
            · have hF := itp c_89 hF
              exact j173 ((1103515245 * x_76) + 12345) x_77 a_all_79 a_on_80 a_many_81 v_moved_82 hF _ _ _ hH (lv_sub hl [1, 2, 3, 4, 5] rfl)
            · have hF := itn c_89 hF
              refine lv_aload_n hx hb dX8_flood_88 rfl (lv_at hl 1 rfl) ?_
              refine lv_iload hx hb dX8_flood_89 (lv_at hl 0 rfl) ?_
              obtain ⟨b_90, he, hF⟩ := bd1e hF
              refine mcV hX hK hEv hE0 hH (met_X8_isRow hE he) (mrecv hK hH) gw_StoneYearModel_223 hd_yX8_isRow ⟨Nat.le_of_ble_eq_true rfl, Nat.le_of_ble_eq_true rfl⟩ rfl rfl hl (Nat.le_of_ble_eq_true rfl) dX8_flood_91 ⟨Nat.le_of_ble_eq_true rfl, Nat.le_of_ble_eq_true rfl⟩ (fun H locs hH => ?_)
              refine lv_if_eq (tgt := 173) hx hb dX8_flood_94 rfl (fun c_91 => ?_) (fun c_91 => ?_)
              · have hF := itp c_91 hF
                exact j173 ((1103515245 * x_76) + 12345) x_77 a_all_79 a_on_80 a_many_81 v_moved_82 hF _ _ _ hH (lv_sub hl [1, 2, 3, 4, 5] rfl)
              · have hF := itn c_91 hF
                refine lv_aload_n hx hb dX8_flood_97 rfl (lv_at hl 1 rfl) ?_
                refine mg_many hX hK hH dX8_flood_98 ?_
                refine lv_iload hx hb dX8_flood_101 (lv_at hl 0 rfl) ?_
                obtain ⟨x_92, he, hF⟩ := bd1e hF
                refine ml_many hX hK hH he dX8_flood_103 ?_
                refine lv_aload_n hx hb dX8_flood_104 rfl (lv_at hl 1 rfl) ?_
                refine mg_all hX hK hH dX8_flood_105 ?_
                refine lv_iconst (v := 1) hx hb dX8_flood_108 syi_1 ?_
                refine lv_iload hx hb dX8_flood_109 (lv_at hl 0 rfl) ?_
                refine lv_iadd hx hb dX8_flood_111 ?_
                obtain ⟨x_93, he, hF⟩ := bd1e hF
                refine ml_all hX hK hH he dX8_flood_112 ?_
                refine lv_icmp_ne (tgt := 119) hx hb dX8_flood_113 rfl (fun c_94 => ?_) (fun c_94 => ?_)
                · have hF := itn c_94 hF
                  refine lv_aload_n hx hb dX8_flood_119 rfl (lv_at hl 1 rfl) ?_
                  refine lv_iload hx hb dX8_flood_120 (lv_at hl 5 rfl) ?_
                  obtain ⟨x_95, he, hF⟩ := bd1e hF
                  refine mcV hX hK hEv hE0 hH (met_X8_topOf hE he) (mrecv hK hH) gw_StoneYearModel_226 hd_yX8_topOf ⟨Nat.le_of_ble_eq_true rfl, Nat.le_of_ble_eq_true rfl⟩ rfl rfl hl (Nat.le_of_ble_eq_true rfl) dX8_flood_122 ⟨Nat.le_of_ble_eq_true rfl, Nat.le_of_ble_eq_true rfl⟩ (fun H locs hH => ?_)
                  refine lv_istore (lv' := [(8, .int x_95), (7, .int x_88), (0, .ref (ad 0)), (2, .int v_moved_48), (3, .int ((1103515245 * x_76) + 12345)), (4, .int x_77), (5, .int x_78), (6, .int ((ushI ((1103515245 * x_76) + 12345) 16) - (ushI ((1103515245 * x_76) + 12345) 16) / 3 * 3))]) hx hb dX8_flood_125 hl (by decide) rfl (fun ls hl => ?_)
                  refine lv_aload_n hx hb dX8_flood_127 rfl (lv_at hl 2 rfl) ?_
                  refine lv_iload hx hb dX8_flood_128 (lv_at hl 1 rfl) ?_
                  refine lv_aload_n hx hb dX8_flood_130 rfl (lv_at hl 2 rfl) ?_
                  refine mg_many hX hK hH dX8_flood_131 ?_
                  refine lv_iload hx hb dX8_flood_134 (lv_at hl 1 rfl) ?_
                  obtain ⟨x_96, he, hF⟩ := bd1e hF
                  refine ml_many hX hK hH he dX8_flood_136 ?_
                  refine lv_aload_n hx hb dX8_flood_137 rfl (lv_at hl 2 rfl) ?_
                  refine mg_all hX hK hH dX8_flood_138 ?_
                  refine lv_bipush (v := 15) hx hb dX8_flood_141 syb_15 ?_
                  refine lv_iload hx hb dX8_flood_143 (lv_at hl 0 rfl) ?_
                  refine lv_iadd hx hb dX8_flood_145 ?_
                  obtain ⟨x_97, he, hF⟩ := bd1e hF
                  refine ml_all hX hK hH he dX8_flood_146 ?_
                  obtain ⟨b_98, he, hF⟩ := bd1e hF
                  refine mcV hX hK hEv hE0 hH (met_X8_isHeavy hE he) (mrecv hK hH) gw_StoneYearModel_236 hd_yX8_isHeavy ⟨Nat.le_of_ble_eq_true rfl, Nat.le_of_ble_eq_true rfl⟩ rfl rfl hl (Nat.le_of_ble_eq_true rfl) dX8_flood_147 ⟨Nat.le_of_ble_eq_true rfl, Nat.le_of_ble_eq_true rfl⟩ (fun H locs hH => ?_)
                  refine lv_if_eq (tgt := 156) hx hb dX8_flood_150 rfl (fun c_99 => ?_) (fun c_99 => ?_)
                  · have hF := itp c_99 hF
                    refine lv_aload_n hx hb dX8_flood_156 rfl (lv_at hl 2 rfl) ?_
                    refine lv_iload hx hb dX8_flood_157 (lv_at hl 6 rfl) ?_
                    refine lv_iload hx hb dX8_flood_159 (lv_at hl 1 rfl) ?_
                    obtain ⟨a_on_100, a_many_101, v_moved_102, he, hF⟩ := bd3e hF
                    refine mcV hX hK hEv hE0 hH (met_X8_carries hE he) (mrecv hK hH) gw_StoneYearModel_272 hd_yX8_carries ⟨Nat.le_of_ble_eq_true rfl, Nat.le_of_ble_eq_true rfl⟩ rfl rfl hl (Nat.le_of_ble_eq_true rfl) dX8_flood_161 ⟨Nat.le_of_ble_eq_true rfl, Nat.le_of_ble_eq_true rfl⟩ (fun H locs hH => ?_)
                    refine lv_aload_n hx hb dX8_flood_164 rfl (lv_at hl 2 rfl) ?_
                    refine lv_iload hx hb dX8_flood_165 (lv_at hl 0 rfl) ?_
                    obtain ⟨a_all_103, he, hF⟩ := bd1e hF
                    refine mcV hX hK hEv hE0 hH (met_X8_counted hE he) (mrecv hK hH) gw_StoneYearModel_278 hd_yX8_counted ⟨Nat.le_of_ble_eq_true rfl, Nat.le_of_ble_eq_true rfl⟩ rfl rfl hl (Nat.le_of_ble_eq_true rfl) dX8_flood_167 ⟨Nat.le_of_ble_eq_true rfl, Nat.le_of_ble_eq_true rfl⟩ (fun H locs hH => ?_)
                    refine lv_iinc (v := (x_77 + 1)) (lv' := [(4, .int (x_77 + 1)), (8, .int x_95), (7, .int x_88), (0, .ref (ad 0)), (2, .int v_moved_48), (3, .int ((1103515245 * x_76) + 12345)), (5, .int x_78), (6, .int ((ushI ((1103515245 * x_76) + 12345) 16) - (ushI ((1103515245 * x_76) + 12345) 16) / 3 * 3))]) hx hb dX8_flood_170 hl (k := 5) rfl (syc syi_1) (by decide) rfl (fun ls hl => ?_)
                    exact j173 ((1103515245 * x_76) + 12345) (x_77 + 1) a_all_103 a_on_100 a_many_101 v_moved_102 hF _ _ _ hH (lv_sub hl [3, 4, 5, 0, 6] rfl)
                  · have hF := itn c_99 hF
                    refine lv_goto (tgt := 173) hx hb dX8_flood_153 rfl ?_
                    exact j173 ((1103515245 * x_76) + 12345) x_77 a_all_79 a_on_80 a_many_81 v_moved_82 hF _ _ _ hH (lv_sub hl [2, 3, 4, 5, 6] rfl)
                · have hF := itp c_94 hF
                  refine lv_goto (tgt := 173) hx hb dX8_flood_116 rfl ?_
                  exact j173 ((1103515245 * x_76) + 12345) x_77 a_all_79 a_on_80 a_many_81 v_moved_82 hF _ _ _ hH (lv_sub hl [1, 2, 3, 4, 5] rfl)
          refine lv_icmp_ne (tgt := 77) hx hb dX8_flood_67 rfl (fun c_87 => ?_) (fun c_87 => ?_)
          · have hF := itn c_87 hF
            refine lv_iload hx hb dX8_flood_77 (lv_at hl 5 rfl) ?_
            refine lv_iconst (v := 1) hx hb dX8_flood_79 syi_1 ?_
            refine lv_iadd hx hb dX8_flood_80 ?_
            exact j81 (x_78 + 1) hF _ _ _ hH (lv_sub hl [2, 3, 1, 4, 5, 0] rfl)
          · have hF := itp c_87 hF
            refine lv_iload hx hb dX8_flood_70 (lv_at hl 5 rfl) ?_
            refine lv_iconst (v := 1) hx hb dX8_flood_72 syi_1 ?_
            refine lv_isub hx hb dX8_flood_73 ?_
            refine lv_goto (tgt := 81) hx hb dX8_flood_74 rfl ?_
            exact j81 (x_78 - 1) hF _ _ _ hH (lv_sub hl [2, 3, 1, 4, 5, 0] rfl)
        · have hF := itp c_86 hF
          refine lv_goto (tgt := 173) hx hb dX8_flood_43 rfl ?_
          exact j173 x_76 x_77 a_all_79 a_on_80 a_many_81 v_moved_82 hF _ _ _ hH (lv_sub hl [0, 1, 2, 3, 4] rfl)
  exact l22 nn22 p1 0 0 a_all a_on_46 a_many_47 v_moved_48 en22 _ _ _ hH (lv_sub hl [4, 3, 2, 1, 0] rfl)
abbrev rm_X8_topPlace : Room := { frames := 1, cells := 0, slots := 0, locals := 22 }
set_option maxHeartbeats 4000000 in
theorem met_X8_topPlace {l : Launch} {D : va_G} {ad : Nat → Nat} {cA : Nat → ClassId} {a_all : Nat → Int32} {a_hasImage : Nat → Int32} {a_tape : Nat → Int32} {a_fresh : Nat → Int32} {v_taped : Int32} {v_at : Int32} {v_behind : Int32} {v_size : Int32} {v_kind : Int32} {v_number : Int32} {v_wrong : Int32} {v_wrongAt : Int32} {v_depth : Int32} {v_steps : Int32} {v_faultKind : Int32} {v_faultPlace : Int32} {a_on : Nat → Int32} {a_many : Nat → Int32} {v_moved : Int32} {a_pile : Nat → Int32} {v_aside : Int32} {v_judgedBy : Int32} {v_judgedYear : Int32} {a_leastCost : Nat → Int32} {a_matched : Nat → Int32} {a_order : Nat → Int32} {a_lies : Nat → Int64} {a_movedThen : Nat → Int32} {a_yearTable : Nat → Int32} {a_yearMark : Nat → Int32} {a_beginTable : Nat → Int32} {a_beginMark : Nat → Int32} {v_statesTold : Int32} {v_found : Int32} {v_yearFrom : Int32} {v_mark : Int32} {v_beginsMark : Int32} {v_begins : Int32} {a_began : Nat → Int64} {v_isSpent : Int32} {a_wants : Nat → Int32} {a_rowSort : Nat → Int32} {a_rowMany : Nat → Int32} {a_numbers : Nat → Int64}  {p1 : Int32} {res : Int32} {ak av fo : Nat} {E : EvT} (hE : EvM E ak av fo) (hF : FX8_topPlace a_all p1 = some res) : MM l yX8_topPlace (ws_ yX8_topPlace cX8_topPlace 3 (Option.some Jvm.ClassFile.FieldType.int)) rm_X8_topPlace D vwA (mT cA) E [.ref (ad 0), .int p1] (mW ad cA a_all a_hasImage a_tape a_fresh v_taped v_at v_behind v_size v_kind v_number v_wrong v_wrongAt v_depth v_steps v_faultKind v_faultPlace a_on a_many v_moved a_pile v_aside v_judgedBy v_judgedYear a_leastCost a_matched a_order a_lies a_movedThen a_yearTable a_yearMark a_beginTable a_beginMark v_statesTold v_found v_yearFrom v_mark v_beginsMark v_begins a_began v_isSpent a_wants a_rowSort a_rowMany a_numbers) (mW ad cA a_all a_hasImage a_tape a_fresh v_taped v_at v_behind v_size v_kind v_number v_wrong v_wrongAt v_depth v_steps v_faultKind v_faultPlace a_on a_many v_moved a_pile v_aside v_judgedBy v_judgedYear a_leastCost a_matched a_order a_lies a_movedThen a_yearTable a_yearMark a_beginTable a_beginMark v_statesTold v_found v_yearFrom v_mark v_beginsMark v_begins a_began v_isSpent a_wants a_rowSort a_rowMany a_numbers) (some (.int res)) := by
  refine MM.ofI (by decide) (Nat.le_of_ble_eq_true rfl) ?_
  intro p e s m args below meth c Q A hX hK hE0 hret H locs ls hH hl
  have hX : CallFix p m c cX8_topPlace 3 s args lw_all RX8 := hX
  have hx := hX.1
  have hb := hX.2.1
  have hown := hX.2.2.2.1
  have hts := hX.2.2.2.2
  have hl : lv_has ls 3 [(0, .ref (ad 0)), (1, .int p1)] := hl
  have hEv := hE.1
  delta FX8_topPlace at hF
  refine lv_aload_n hx hb dX8_topPlace_0 rfl (lv_at hl 0 rfl) ?_
  refine lv_iload_n hx hb dX8_topPlace_1 rfl (lv_at hl 1 rfl) ?_
  obtain ⟨x_46, he, hF⟩ := bd1e hF
  refine mcV hX hK hEv hE0 hH (met_X8_placeOf hE he) (mrecv hK hH) gw_StoneYearModel_255 hd_yX8_placeOf ⟨Nat.le_of_ble_eq_true rfl, Nat.le_of_ble_eq_true rfl⟩ rfl rfl hl (Nat.le_of_ble_eq_true rfl) dX8_topPlace_2 ⟨Nat.le_of_ble_eq_true rfl, Nat.le_of_ble_eq_true rfl⟩ (fun H locs hH => ?_)
  refine lv_istore_n (lv' := [(2, .int x_46), (0, .ref (ad 0)), (1, .int p1)]) hx hb dX8_topPlace_5 rfl hl (by decide) rfl (fun ls hl => ?_)
  refine lv_iload_n hx hb dX8_topPlace_6 rfl (lv_at hl 0 rfl) ?_
  refine lv_iconst (v := (-1)) hx hb dX8_topPlace_7 syi_m1 ?_
  have j32 : FX8_topPlace_j32 = some res → ∀ (H : Heap) (locs : List Loc) (ls : Array Slot), MH D vwA A s.heap (mW ad cA a_all a_hasImage a_tape a_fresh v_taped v_at v_behind v_size v_kind v_number v_wrong v_wrongAt v_depth v_steps v_faultKind v_faultPlace a_on a_many v_moved a_pile v_aside v_judgedBy v_judgedYear a_leastCost a_matched a_order a_lies a_movedThen a_yearTable a_yearMark a_beginTable a_beginMark v_statesTold v_found v_yearFrom v_mark v_beginsMark v_begins a_began v_isSpent a_wants a_rowSort a_rowMany a_numbers) H locs → lv_has ls 3 [] → W p l e rm_X8_topPlace s m args below meth c H locs 0 0 Q (F0 m 32 ls []) := by
    intro hF H locs ls hH hl
    delta FX8_topPlace_j32 at hF
    refine lv_iconst (v := (-1)) hx hb dX8_topPlace_32 syi_m1 ?_
    refine lv_goto (tgt := 37) hx hb dX8_topPlace_33 rfl ?_
    obtain rfl := Option.some.inj hF
    exact hret _ _ _ _ hH dX8_topPlace_37
  refine lv_icmp_eq (tgt := 32) hx hb dX8_topPlace_8 rfl (fun c_47 => ?_) (fun c_47 => ?_)
  · have hF := itp c_47 hF
    exact j32 hF _ _ _ hH (lv_sub hl [] rfl)
  · have hF := itn c_47 hF
    refine lv_iload_n hx hb dX8_topPlace_11 rfl (lv_at hl 0 rfl) ?_
    refine lv_iconst (v := 3) hx hb dX8_topPlace_12 syi_3 ?_
    refine lv_irem hx hb dX8_topPlace_13 (by decide) ?_
    refine lv_iconst (v := 2) hx hb dX8_topPlace_14 syi_2 ?_
    refine lv_icmp_ge (tgt := 36) hx hb dX8_topPlace_15 rfl (fun c_48 => ?_) (fun c_48 => ?_)
    · have hF := itp c_48 hF
      refine lv_iload_n hx hb dX8_topPlace_36 rfl (lv_at hl 0 rfl) ?_
      obtain rfl := Option.some.inj hF
      exact hret _ _ _ _ hH dX8_topPlace_37
    · have hF := itn c_48 hF
      refine lv_aload_n hx hb dX8_topPlace_18 rfl (lv_at hl 1 rfl) ?_
      refine mg_all hX hK hH dX8_topPlace_19 ?_
      refine lv_bipush (v := 80) hx hb dX8_topPlace_22 syb_80 ?_
      refine lv_iload_n hx hb dX8_topPlace_24 rfl (lv_at hl 0 rfl) ?_
      refine lv_iadd hx hb dX8_topPlace_25 ?_
      refine lv_iconst (v := 1) hx hb dX8_topPlace_26 syi_1 ?_
      refine lv_iadd hx hb dX8_topPlace_27 ?_
      obtain ⟨x_49, he, hF⟩ := bd1e hF
      refine ml_all hX hK hH he dX8_topPlace_28 ?_
      refine lv_if_le (tgt := 36) hx hb dX8_topPlace_29 rfl (fun c_50 => ?_) (fun c_50 => ?_)
      · have hF := itp c_50 hF
        refine lv_iload_n hx hb dX8_topPlace_36 rfl (lv_at hl 0 rfl) ?_
        obtain rfl := Option.some.inj hF
        exact hret _ _ _ _ hH dX8_topPlace_37
      · have hF := itn c_50 hF
        exact j32 hF _ _ _ hH (lv_sub hl [] rfl)
abbrev rm_X8_steal : Room := { frames := 2, cells := 0, slots := 0, locals := 46 }
set_option maxHeartbeats 4000000 in
theorem met_X8_steal {l : Launch} {D : va_G} {ad : Nat → Nat} {cA : Nat → ClassId} {a_all : Nat → Int32} {a_hasImage : Nat → Int32} {a_tape : Nat → Int32} {a_fresh : Nat → Int32} {v_taped : Int32} {v_at : Int32} {v_behind : Int32} {v_size : Int32} {v_kind : Int32} {v_number : Int32} {v_wrong : Int32} {v_wrongAt : Int32} {v_depth : Int32} {v_steps : Int32} {v_faultKind : Int32} {v_faultPlace : Int32} {a_on : Nat → Int32} {a_many : Nat → Int32} {v_moved : Int32} {a_pile : Nat → Int32} {v_aside : Int32} {v_judgedBy : Int32} {v_judgedYear : Int32} {a_leastCost : Nat → Int32} {a_matched : Nat → Int32} {a_order : Nat → Int32} {a_lies : Nat → Int64} {a_movedThen : Nat → Int32} {a_yearTable : Nat → Int32} {a_yearMark : Nat → Int32} {a_beginTable : Nat → Int32} {a_beginMark : Nat → Int32} {v_statesTold : Int32} {v_found : Int32} {v_yearFrom : Int32} {v_mark : Int32} {v_beginsMark : Int32} {v_begins : Int32} {a_began : Nat → Int64} {v_isSpent : Int32} {a_wants : Nat → Int32} {a_rowSort : Nat → Int32} {a_rowMany : Nat → Int32} {a_numbers : Nat → Int64}  {p1 : Int32} {res : Int32} {ra_all : Nat → Int32} {ak av fo : Nat} {E : EvT} (hE : EvM E ak av fo) (hF : FX8_steal a_all p1 = some (res, ra_all)) : MM l yX8_steal (ws_ yX8_steal cX8_steal 3 (Option.some Jvm.ClassFile.FieldType.int)) rm_X8_steal D vwA (mT cA) E [.ref (ad 0), .int p1] (mW ad cA a_all a_hasImage a_tape a_fresh v_taped v_at v_behind v_size v_kind v_number v_wrong v_wrongAt v_depth v_steps v_faultKind v_faultPlace a_on a_many v_moved a_pile v_aside v_judgedBy v_judgedYear a_leastCost a_matched a_order a_lies a_movedThen a_yearTable a_yearMark a_beginTable a_beginMark v_statesTold v_found v_yearFrom v_mark v_beginsMark v_begins a_began v_isSpent a_wants a_rowSort a_rowMany a_numbers) (mW ad cA ra_all a_hasImage a_tape a_fresh v_taped v_at v_behind v_size v_kind v_number v_wrong v_wrongAt v_depth v_steps v_faultKind v_faultPlace a_on a_many v_moved a_pile v_aside v_judgedBy v_judgedYear a_leastCost a_matched a_order a_lies a_movedThen a_yearTable a_yearMark a_beginTable a_beginMark v_statesTold v_found v_yearFrom v_mark v_beginsMark v_begins a_began v_isSpent a_wants a_rowSort a_rowMany a_numbers) (some (.int res)) := by
  refine MM.ofI (by decide) (Nat.le_of_ble_eq_true rfl) ?_
  intro p e s m args below meth c Q A hX hK hE0 hret H locs ls hH hl
  have hX : CallFix p m c cX8_steal 3 s args lw_all RX8 := hX
  have hx := hX.1
  have hb := hX.2.1
  have hown := hX.2.2.2.1
  have hts := hX.2.2.2.2
  have hl : lv_has ls 3 [(0, .ref (ad 0)), (1, .int p1)] := hl
  have hEv := hE.1
  delta FX8_steal at hF
  refine lv_aload_n hx hb dX8_steal_0 rfl (lv_at hl 0 rfl) ?_
  refine lv_iconst (v := 0) hx hb dX8_steal_1 syi_0 ?_
  refine mp_thrown hX hK hH dX8_steal_2 (fun H locs hH => ?_)
  refine lv_aload_n hx hb dX8_steal_5 rfl (lv_at hl 0 rfl) ?_
  refine lv_iload_n hx hb dX8_steal_6 rfl (lv_at hl 1 rfl) ?_
  obtain ⟨b_46, he, hF⟩ := bd1e hF
  refine mcV hX hK hEv hE0 hH (met_X8_isStone hE he) (mrecv hK hH) gw_StoneYearModel_250 hd_yX8_isStone ⟨Nat.le_of_ble_eq_true rfl, Nat.le_of_ble_eq_true rfl⟩ rfl rfl hl (Nat.le_of_ble_eq_true rfl) dX8_steal_7 ⟨Nat.le_of_ble_eq_true rfl, Nat.le_of_ble_eq_true rfl⟩ (fun H locs hH => ?_)
  refine lv_if_eq (tgt := 22) hx hb dX8_steal_10 rfl (fun c_47 => ?_) (fun c_47 => ?_)
  · have hF := itp c_47 hF
    refine lv_bipush (v := (-2)) hx hb dX8_steal_22 syb_m2 ?_
    obtain ⟨rfl, rfl⟩ := re2 hF
    exact hret _ _ _ _ hH dX8_steal_24
  · have hF := itn c_47 hF
    refine lv_aload_n hx hb dX8_steal_13 rfl (lv_at hl 0 rfl) ?_
    refine lv_iload_n hx hb dX8_steal_14 rfl (lv_at hl 1 rfl) ?_
    obtain ⟨x_48, he, hF⟩ := bd1e hF
    refine mcV hX hK hEv hE0 hH (met_X8_placeOf hE he) (mrecv hK hH) gw_StoneYearModel_255 hd_yX8_placeOf ⟨Nat.le_of_ble_eq_true rfl, Nat.le_of_ble_eq_true rfl⟩ rfl rfl hl (Nat.le_of_ble_eq_true rfl) dX8_steal_15 ⟨Nat.le_of_ble_eq_true rfl, Nat.le_of_ble_eq_true rfl⟩ (fun H locs hH => ?_)
    refine lv_iconst (v := (-1)) hx hb dX8_steal_18 syi_m1 ?_
    refine lv_icmp_ne (tgt := 25) hx hb dX8_steal_19 rfl (fun c_49 => ?_) (fun c_49 => ?_)
    · have hF := itn c_49 hF
      refine lv_aload_n hx hb dX8_steal_25 rfl (lv_at hl 0 rfl) ?_
      refine lv_iload_n hx hb dX8_steal_26 rfl (lv_at hl 1 rfl) ?_
      obtain ⟨x_50, he, hF⟩ := bd1e hF
      refine mcV hX hK hEv hE0 hH (met_X8_topPlace hE he) (mrecv hK hH) gw_StoneYearModel_285 hd_yX8_topPlace ⟨Nat.le_of_ble_eq_true rfl, Nat.le_of_ble_eq_true rfl⟩ rfl rfl hl (Nat.le_of_ble_eq_true rfl) dX8_steal_27 ⟨Nat.le_of_ble_eq_true rfl, Nat.le_of_ble_eq_true rfl⟩ (fun H locs hH => ?_)
      refine lv_istore_n (lv' := [(2, .int x_50), (0, .ref (ad 0)), (1, .int p1)]) hx hb dX8_steal_30 rfl hl (by decide) rfl (fun ls hl => ?_)
      refine lv_iload_n hx hb dX8_steal_31 rfl (lv_at hl 0 rfl) ?_
      refine lv_iconst (v := (-1)) hx hb dX8_steal_32 syi_m1 ?_
      refine lv_icmp_ne (tgt := 39) hx hb dX8_steal_33 rfl (fun c_51 => ?_) (fun c_51 => ?_)
      · have hF := itn c_51 hF
        refine lv_aload_n hx hb dX8_steal_39 rfl (lv_at hl 1 rfl) ?_
        refine mg_all hX hK hH dX8_steal_40 ?_
        refine lv_bipush (v := 80) hx hb dX8_steal_43 syb_80 ?_
        refine lv_iload_n hx hb dX8_steal_45 rfl (lv_at hl 0 rfl) ?_
        refine lv_iadd hx hb dX8_steal_46 ?_
        refine lv_iconst (v := 0) hx hb dX8_steal_47 syi_0 ?_
        obtain ⟨a_all_52, he, hF⟩ := bd1e hF
        refine ms_all hX hK hH he dX8_steal_48 (fun H locs hH => ?_)
        refine lv_aload_n hx hb dX8_steal_49 rfl (lv_at hl 1 rfl) ?_
        refine mg_all hX hK hH dX8_steal_50 ?_
        refine lv_bipush (v := 95) hx hb dX8_steal_53 syb_95 ?_
        refine lv_dup2_11 hx hb dX8_steal_55 rfl rfl ?_
        obtain ⟨x_53, he, hF⟩ := bd1e hF
        refine ml_all hX hK hH he dX8_steal_56 ?_
        refine lv_iconst (v := 1) hx hb dX8_steal_57 syi_1 ?_
        refine lv_iload_n hx hb dX8_steal_58 rfl (lv_at hl 2 rfl) ?_
        refine lv_ishl hx hb dX8_steal_59 ?_
        refine lv_iconst (v := (-1)) hx hb dX8_steal_60 syi_m1 ?_
        refine lv_ixor hx hb dX8_steal_61 ?_
        refine lv_iand hx hb dX8_steal_62 ?_
        obtain ⟨a_all_54, he, hF⟩ := bd1e hF
        refine ms_all hX hK hH he dX8_steal_63 (fun H locs hH => ?_)
        refine lv_iload_n hx hb dX8_steal_64 rfl (lv_at hl 0 rfl) ?_
        obtain ⟨rfl, rfl⟩ := re2 hF
        exact hret _ _ _ _ hH dX8_steal_65
      · have hF := itp c_51 hF
        refine lv_bipush (v := (-5)) hx hb dX8_steal_36 syb_m5 ?_
        obtain ⟨rfl, rfl⟩ := re2 hF
        exact hret _ _ _ _ hH dX8_steal_38
    · have hF := itp c_49 hF
      refine lv_bipush (v := (-2)) hx hb dX8_steal_22 syb_m2 ?_
      obtain ⟨rfl, rfl⟩ := re2 hF
      exact hret _ _ _ _ hH dX8_steal_24
abbrev rm_X8_isRight : Room := { frames := 0, cells := 0, slots := 0, locals := 0 }
set_option maxHeartbeats 4000000 in
theorem met_X8_isRight {l : Launch} {D : va_G} {ad : Nat → Nat} {cA : Nat → ClassId} {a_all : Nat → Int32} {a_hasImage : Nat → Int32} {a_tape : Nat → Int32} {a_fresh : Nat → Int32} {v_taped : Int32} {v_at : Int32} {v_behind : Int32} {v_size : Int32} {v_kind : Int32} {v_number : Int32} {v_wrong : Int32} {v_wrongAt : Int32} {v_depth : Int32} {v_steps : Int32} {v_faultKind : Int32} {v_faultPlace : Int32} {a_on : Nat → Int32} {a_many : Nat → Int32} {v_moved : Int32} {a_pile : Nat → Int32} {v_aside : Int32} {v_judgedBy : Int32} {v_judgedYear : Int32} {a_leastCost : Nat → Int32} {a_matched : Nat → Int32} {a_order : Nat → Int32} {a_lies : Nat → Int64} {a_movedThen : Nat → Int32} {a_yearTable : Nat → Int32} {a_yearMark : Nat → Int32} {a_beginTable : Nat → Int32} {a_beginMark : Nat → Int32} {v_statesTold : Int32} {v_found : Int32} {v_yearFrom : Int32} {v_mark : Int32} {v_beginsMark : Int32} {v_begins : Int32} {a_began : Nat → Int64} {v_isSpent : Int32} {a_wants : Nat → Int32} {a_rowSort : Nat → Int32} {a_rowMany : Nat → Int32} {a_numbers : Nat → Int64}  {p1 : Int32} {res : Bool} {ak av fo : Nat} {E : EvT} (hE : EvM E ak av fo) (hF : FX8_isRight a_all a_on p1 = some res) : MM l yX8_isRight (ws_ yX8_isRight cX8_isRight 2 (Option.some Jvm.ClassFile.FieldType.boolean)) rm_X8_isRight D vwA (mT cA) E [.ref (ad 0), .int p1] (mW ad cA a_all a_hasImage a_tape a_fresh v_taped v_at v_behind v_size v_kind v_number v_wrong v_wrongAt v_depth v_steps v_faultKind v_faultPlace a_on a_many v_moved a_pile v_aside v_judgedBy v_judgedYear a_leastCost a_matched a_order a_lies a_movedThen a_yearTable a_yearMark a_beginTable a_beginMark v_statesTold v_found v_yearFrom v_mark v_beginsMark v_begins a_began v_isSpent a_wants a_rowSort a_rowMany a_numbers) (mW ad cA a_all a_hasImage a_tape a_fresh v_taped v_at v_behind v_size v_kind v_number v_wrong v_wrongAt v_depth v_steps v_faultKind v_faultPlace a_on a_many v_moved a_pile v_aside v_judgedBy v_judgedYear a_leastCost a_matched a_order a_lies a_movedThen a_yearTable a_yearMark a_beginTable a_beginMark v_statesTold v_found v_yearFrom v_mark v_beginsMark v_begins a_began v_isSpent a_wants a_rowSort a_rowMany a_numbers) (some (.int (b2i res))) := by
  refine MM.ofZ (by decide) (Nat.le_of_ble_eq_true rfl) ?_
  intro p e s m args below meth c Q A hX hK hE0 hret H locs ls hH hl
  have hX : CallFix p m c cX8_isRight 2 s args lw_all RX8 := hX
  have hx := hX.1
  have hb := hX.2.1
  have hown := hX.2.2.2.1
  have hts := hX.2.2.2.2
  have hl : lv_has ls 2 [(0, .ref (ad 0)), (1, .int p1)] := hl
  have hEv := hE.1
  delta FX8_isRight at hF
  refine lv_aload_n hx hb dX8_isRight_0 rfl (lv_at hl 0 rfl) ?_
  refine mg_on hX hK hH dX8_isRight_1 ?_
  refine lv_iload_n hx hb dX8_isRight_4 rfl (lv_at hl 1 rfl) ?_
  obtain ⟨x_46, he, hF⟩ := bd1e hF
  refine ml_on hX hK hH he dX8_isRight_5 ?_
  refine lv_if_le (tgt := 41) hx hb dX8_isRight_6 rfl (fun c_47 => ?_) (fun c_47 => ?_)
  · have hF := itp c_47 hF
    refine lv_iconst (v := 0) hx hb dX8_isRight_41 syi_0 ?_
    obtain rfl := Option.some.inj hF
    exact hret _ _ _ _ hH dX8_isRight_42
  · have hF := itn c_47 hF
    refine lv_aload_n hx hb dX8_isRight_9 rfl (lv_at hl 0 rfl) ?_
    refine mg_all hX hK hH dX8_isRight_10 ?_
    refine lv_bipush (v := 41) hx hb dX8_isRight_13 syb_41 ?_
    refine lv_iload_n hx hb dX8_isRight_15 rfl (lv_at hl 1 rfl) ?_
    refine lv_iadd hx hb dX8_isRight_16 ?_
    obtain ⟨x_48, he, hF⟩ := bd1e hF
    refine ml_all hX hK hH he dX8_isRight_17 ?_
    refine lv_aload_n hx hb dX8_isRight_18 rfl (lv_at hl 0 rfl) ?_
    refine mg_all hX hK hH dX8_isRight_19 ?_
    refine lv_bipush (v := 7) hx hb dX8_isRight_22 syb_7 ?_
    refine lv_aload_n hx hb dX8_isRight_24 rfl (lv_at hl 0 rfl) ?_
    refine mg_on hX hK hH dX8_isRight_25 ?_
    refine lv_iload_n hx hb dX8_isRight_28 rfl (lv_at hl 1 rfl) ?_
    obtain ⟨x_49, he, hF⟩ := bd1e hF
    refine ml_on hX hK hH he dX8_isRight_29 ?_
    refine lv_iadd hx hb dX8_isRight_30 ?_
    refine lv_iconst (v := 1) hx hb dX8_isRight_31 syi_1 ?_
    refine lv_isub hx hb dX8_isRight_32 ?_
    obtain ⟨x_50, he, hF⟩ := bd1e hF
    refine ml_all hX hK hH he dX8_isRight_33 ?_
    refine lv_icmp_ne (tgt := 41) hx hb dX8_isRight_34 rfl (fun c_51 => ?_) (fun c_51 => ?_)
    · have hF := itn c_51 hF
      refine lv_iconst (v := 0) hx hb dX8_isRight_41 syi_0 ?_
      obtain rfl := Option.some.inj hF
      exact hret _ _ _ _ hH dX8_isRight_42
    · have hF := itp c_51 hF
      refine lv_iconst (v := 1) hx hb dX8_isRight_37 syi_1 ?_
      refine lv_goto (tgt := 42) hx hb dX8_isRight_38 rfl ?_
      obtain rfl := Option.some.inj hF
      exact hret _ _ _ _ hH dX8_isRight_42
abbrev rm_X8_isWished : Room := { frames := 0, cells := 0, slots := 0, locals := 0 }
set_option maxHeartbeats 4000000 in
theorem met_X8_isWished {l : Launch} {D : va_G} {ad : Nat → Nat} {cA : Nat → ClassId} {a_all : Nat → Int32} {a_hasImage : Nat → Int32} {a_tape : Nat → Int32} {a_fresh : Nat → Int32} {v_taped : Int32} {v_at : Int32} {v_behind : Int32} {v_size : Int32} {v_kind : Int32} {v_number : Int32} {v_wrong : Int32} {v_wrongAt : Int32} {v_depth : Int32} {v_steps : Int32} {v_faultKind : Int32} {v_faultPlace : Int32} {a_on : Nat → Int32} {a_many : Nat → Int32} {v_moved : Int32} {a_pile : Nat → Int32} {v_aside : Int32} {v_judgedBy : Int32} {v_judgedYear : Int32} {a_leastCost : Nat → Int32} {a_matched : Nat → Int32} {a_order : Nat → Int32} {a_lies : Nat → Int64} {a_movedThen : Nat → Int32} {a_yearTable : Nat → Int32} {a_yearMark : Nat → Int32} {a_beginTable : Nat → Int32} {a_beginMark : Nat → Int32} {v_statesTold : Int32} {v_found : Int32} {v_yearFrom : Int32} {v_mark : Int32} {v_beginsMark : Int32} {v_begins : Int32} {a_began : Nat → Int64} {v_isSpent : Int32} {a_wants : Nat → Int32} {a_rowSort : Nat → Int32} {a_rowMany : Nat → Int32} {a_numbers : Nat → Int64}  {p1 : Int32} {p2 : Int32} {res : Bool} {ak av fo : Nat} {E : EvT} (hE : EvM E ak av fo) (hF : FX8_isWished a_all p1 p2 = some res) : MM l yX8_isWished (ws_ yX8_isWished cX8_isWished 3 (Option.some Jvm.ClassFile.FieldType.boolean)) rm_X8_isWished D vwA (mT cA) E [.ref (ad 0), .int p1, .int p2] (mW ad cA a_all a_hasImage a_tape a_fresh v_taped v_at v_behind v_size v_kind v_number v_wrong v_wrongAt v_depth v_steps v_faultKind v_faultPlace a_on a_many v_moved a_pile v_aside v_judgedBy v_judgedYear a_leastCost a_matched a_order a_lies a_movedThen a_yearTable a_yearMark a_beginTable a_beginMark v_statesTold v_found v_yearFrom v_mark v_beginsMark v_begins a_began v_isSpent a_wants a_rowSort a_rowMany a_numbers) (mW ad cA a_all a_hasImage a_tape a_fresh v_taped v_at v_behind v_size v_kind v_number v_wrong v_wrongAt v_depth v_steps v_faultKind v_faultPlace a_on a_many v_moved a_pile v_aside v_judgedBy v_judgedYear a_leastCost a_matched a_order a_lies a_movedThen a_yearTable a_yearMark a_beginTable a_beginMark v_statesTold v_found v_yearFrom v_mark v_beginsMark v_begins a_began v_isSpent a_wants a_rowSort a_rowMany a_numbers) (some (.int (b2i res))) := by
  refine MM.ofZ (by decide) (Nat.le_of_ble_eq_true rfl) ?_
  intro p e s m args below meth c Q A hX hK hE0 hret H locs ls hH hl
  have hX : CallFix p m c cX8_isWished 3 s args lw_all RX8 := hX
  have hx := hX.1
  have hb := hX.2.1
  have hown := hX.2.2.2.1
  have hts := hX.2.2.2.2
  have hl : lv_has ls 3 [(0, .ref (ad 0)), (1, .int p1), (2, .int p2)] := hl
  have hEv := hE.1
  delta FX8_isWished at hF
  refine lv_aload_n hx hb dX8_isWished_0 rfl (lv_at hl 0 rfl) ?_
  refine mg_all hX hK hH dX8_isWished_1 ?_
  refine lv_bipush (v := 31) hx hb dX8_isWished_4 syb_31 ?_
  refine lv_iload_n hx hb dX8_isWished_6 rfl (lv_at hl 1 rfl) ?_
  refine lv_iadd hx hb dX8_isWished_7 ?_
  obtain ⟨x_47, he, hF⟩ := bd1e hF
  refine ml_all hX hK hH he dX8_isWished_8 ?_
  refine lv_iconst (v := (-1)) hx hb dX8_isWished_9 syi_m1 ?_
  refine lv_icmp_eq (tgt := 35) hx hb dX8_isWished_10 rfl (fun c_48 => ?_) (fun c_48 => ?_)
  · have hF := itp c_48 hF
    refine lv_iconst (v := 0) hx hb dX8_isWished_35 syi_0 ?_
    obtain rfl := Option.some.inj hF
    exact hret _ _ _ _ hH dX8_isWished_36
  · have hF := itn c_48 hF
    refine lv_iload_n hx hb dX8_isWished_13 rfl (lv_at hl 2 rfl) ?_
    refine lv_iconst (v := (-1)) hx hb dX8_isWished_14 syi_m1 ?_
    have j31 : FX8_isWished_j31 = some res → ∀ (H : Heap) (locs : List Loc) (ls : Array Slot), MH D vwA A s.heap (mW ad cA a_all a_hasImage a_tape a_fresh v_taped v_at v_behind v_size v_kind v_number v_wrong v_wrongAt v_depth v_steps v_faultKind v_faultPlace a_on a_many v_moved a_pile v_aside v_judgedBy v_judgedYear a_leastCost a_matched a_order a_lies a_movedThen a_yearTable a_yearMark a_beginTable a_beginMark v_statesTold v_found v_yearFrom v_mark v_beginsMark v_begins a_began v_isSpent a_wants a_rowSort a_rowMany a_numbers) H locs → lv_has ls 3 [] → W p l e rm_X8_isWished s m args below meth c H locs 0 0 Q (F0 m 31 ls []) := by
      intro hF H locs ls hH hl
      delta FX8_isWished_j31 at hF
      refine lv_iconst (v := 1) hx hb dX8_isWished_31 syi_1 ?_
      refine lv_goto (tgt := 36) hx hb dX8_isWished_32 rfl ?_
      obtain rfl := Option.some.inj hF
      exact hret _ _ _ _ hH dX8_isWished_36
    refine lv_icmp_eq (tgt := 31) hx hb dX8_isWished_15 rfl (fun c_49 => ?_) (fun c_49 => ?_)
    · have hF := itp c_49 hF
      exact j31 hF _ _ _ hH (lv_sub hl [] rfl)
    · have hF := itn c_49 hF
      refine lv_aload_n hx hb dX8_isWished_18 rfl (lv_at hl 0 rfl) ?_
      refine mg_all hX hK hH dX8_isWished_19 ?_
      refine lv_bipush (v := 36) hx hb dX8_isWished_22 syb_36 ?_
      refine lv_iload_n hx hb dX8_isWished_24 rfl (lv_at hl 1 rfl) ?_
      refine lv_iadd hx hb dX8_isWished_25 ?_
      obtain ⟨x_50, he, hF⟩ := bd1e hF
      refine ml_all hX hK hH he dX8_isWished_26 ?_
      refine lv_iload_n hx hb dX8_isWished_27 rfl (lv_at hl 2 rfl) ?_
      refine lv_icmp_ne (tgt := 35) hx hb dX8_isWished_28 rfl (fun c_51 => ?_) (fun c_51 => ?_)
      · have hF := itn c_51 hF
        refine lv_iconst (v := 0) hx hb dX8_isWished_35 syi_0 ?_
        obtain rfl := Option.some.inj hF
        exact hret _ _ _ _ hH dX8_isWished_36
      · have hF := itp c_51 hF
        exact j31 hF _ _ _ hH (lv_sub hl [] rfl)
abbrev rm_X8_isDone : Room := { frames := 1, cells := 0, slots := 0, locals := 22 }
set_option maxHeartbeats 4000000 in
theorem met_X8_isDone {l : Launch} {D : va_G} {ad : Nat → Nat} {cA : Nat → ClassId} {a_all : Nat → Int32} {a_hasImage : Nat → Int32} {a_tape : Nat → Int32} {a_fresh : Nat → Int32} {v_taped : Int32} {v_at : Int32} {v_behind : Int32} {v_size : Int32} {v_kind : Int32} {v_number : Int32} {v_wrong : Int32} {v_wrongAt : Int32} {v_depth : Int32} {v_steps : Int32} {v_faultKind : Int32} {v_faultPlace : Int32} {a_on : Nat → Int32} {a_many : Nat → Int32} {v_moved : Int32} {a_pile : Nat → Int32} {v_aside : Int32} {v_judgedBy : Int32} {v_judgedYear : Int32} {a_leastCost : Nat → Int32} {a_matched : Nat → Int32} {a_order : Nat → Int32} {a_lies : Nat → Int64} {a_movedThen : Nat → Int32} {a_yearTable : Nat → Int32} {a_yearMark : Nat → Int32} {a_beginTable : Nat → Int32} {a_beginMark : Nat → Int32} {v_statesTold : Int32} {v_found : Int32} {v_yearFrom : Int32} {v_mark : Int32} {v_beginsMark : Int32} {v_begins : Int32} {a_began : Nat → Int64} {v_isSpent : Int32} {a_wants : Nat → Int32} {a_rowSort : Nat → Int32} {a_rowMany : Nat → Int32} {a_numbers : Nat → Int64}  {p1 : Int32} {res : Bool} {ak av fo : Nat} {E : EvT} (hE : EvM E ak av fo) (hF : FX8_isDone a_all a_on a_many p1 = some res) : MM l yX8_isDone (ws_ yX8_isDone cX8_isDone 4 (Option.some Jvm.ClassFile.FieldType.boolean)) rm_X8_isDone D vwA (mT cA) E [.ref (ad 0), .int p1] (mW ad cA a_all a_hasImage a_tape a_fresh v_taped v_at v_behind v_size v_kind v_number v_wrong v_wrongAt v_depth v_steps v_faultKind v_faultPlace a_on a_many v_moved a_pile v_aside v_judgedBy v_judgedYear a_leastCost a_matched a_order a_lies a_movedThen a_yearTable a_yearMark a_beginTable a_beginMark v_statesTold v_found v_yearFrom v_mark v_beginsMark v_begins a_began v_isSpent a_wants a_rowSort a_rowMany a_numbers) (mW ad cA a_all a_hasImage a_tape a_fresh v_taped v_at v_behind v_size v_kind v_number v_wrong v_wrongAt v_depth v_steps v_faultKind v_faultPlace a_on a_many v_moved a_pile v_aside v_judgedBy v_judgedYear a_leastCost a_matched a_order a_lies a_movedThen a_yearTable a_yearMark a_beginTable a_beginMark v_statesTold v_found v_yearFrom v_mark v_beginsMark v_begins a_began v_isSpent a_wants a_rowSort a_rowMany a_numbers) (some (.int (b2i res))) := by
  refine MM.ofZ (by decide) (Nat.le_of_ble_eq_true rfl) ?_
  intro p e s m args below meth c Q A hX hK hE0 hret H locs ls hH hl
  have hX : CallFix p m c cX8_isDone 4 s args lw_all RX8 := hX
  have hx := hX.1
  have hb := hX.2.1
  have hown := hX.2.2.2.1
  have hts := hX.2.2.2.2
  have hl : lv_has ls 4 [(0, .ref (ad 0)), (1, .int p1)] := hl
  have hEv := hE.1
  delta FX8_isDone at hF
  refine lv_iconst (v := 0) hx hb dX8_isDone_0 syi_0 ?_
  refine lv_istore_n (lv' := [(2, .int 0), (0, .ref (ad 0)), (1, .int p1)]) hx hb dX8_isDone_1 rfl hl (by decide) rfl (fun ls hl => ?_)
  obtain ⟨xx2, ee2, kk2_0, kk2_1, kk2_2⟩ := bdS3e hF
  have k2_0 : xx2 = (.inl ()) → ∀ (H : Heap) (locs : List Loc) (ls : Array Slot), MH D vwA A s.heap (mW ad cA a_all a_hasImage a_tape a_fresh v_taped v_at v_behind v_size v_kind v_number v_wrong v_wrongAt v_depth v_steps v_faultKind v_faultPlace a_on a_many v_moved a_pile v_aside v_judgedBy v_judgedYear a_leastCost a_matched a_order a_lies a_movedThen a_yearTable a_yearMark a_beginTable a_beginMark v_statesTold v_found v_yearFrom v_mark v_beginsMark v_begins a_began v_isSpent a_wants a_rowSort a_rowMany a_numbers) H locs → lv_has ls 4 [] → W p l e rm_X8_isDone s m args below meth c H locs 0 0 Q (F0 m 42 ls []) := by
    intro hxx H locs ls hH hl
    have hF := un0e (kk2_0 () hxx)
    refine lv_iconst (v := 0) hx hb dX8_isDone_42 syi_0 ?_
    obtain rfl := Option.some.inj hF
    exact hret _ _ _ _ hH dX8_isDone_43
  have k2_1 : xx2 = (.inr (.inl ())) → ∀ (H : Heap) (locs : List Loc) (ls : Array Slot), MH D vwA A s.heap (mW ad cA a_all a_hasImage a_tape a_fresh v_taped v_at v_behind v_size v_kind v_number v_wrong v_wrongAt v_depth v_steps v_faultKind v_faultPlace a_on a_many v_moved a_pile v_aside v_judgedBy v_judgedYear a_leastCost a_matched a_order a_lies a_movedThen a_yearTable a_yearMark a_beginTable a_beginMark v_statesTold v_found v_yearFrom v_mark v_beginsMark v_begins a_began v_isSpent a_wants a_rowSort a_rowMany a_numbers) H locs → lv_has ls 4 [] → W p l e rm_X8_isDone s m args below meth c H locs 0 0 Q (F0 m 68 ls []) := by
    intro hxx H locs ls hH hl
    have hF := un0e (kk2_1 () hxx)
    refine lv_iconst (v := 0) hx hb dX8_isDone_68 syi_0 ?_
    obtain rfl := Option.some.inj hF
    exact hret _ _ _ _ hH dX8_isDone_69
  have k2_2 : xx2 = (.inr (.inr ())) → ∀ (H : Heap) (locs : List Loc) (ls : Array Slot), MH D vwA A s.heap (mW ad cA a_all a_hasImage a_tape a_fresh v_taped v_at v_behind v_size v_kind v_number v_wrong v_wrongAt v_depth v_steps v_faultKind v_faultPlace a_on a_many v_moved a_pile v_aside v_judgedBy v_judgedYear a_leastCost a_matched a_order a_lies a_movedThen a_yearTable a_yearMark a_beginTable a_beginMark v_statesTold v_found v_yearFrom v_mark v_beginsMark v_begins a_began v_isSpent a_wants a_rowSort a_rowMany a_numbers) H locs → lv_has ls 4 [] → W p l e rm_X8_isDone s m args below meth c H locs 0 0 Q (F0 m 82 ls []) := by
    intro hxx H locs ls hH hl
    have hF := un0e (kk2_2 () hxx)
    refine lv_iconst (v := 1) hx hb dX8_isDone_82 syi_1 ?_
    obtain rfl := Option.some.inj hF
    exact hret _ _ _ _ hH dX8_isDone_83
  obtain ⟨nn2, en2⟩ := loopC_some ee2
  have l2 : ∀ (n : Nat) (x_62 : Int32), loopN (fun s => FX8_isDone_b2 a_all a_on a_many p1 s) n x_62 = some xx2 → ∀ (H : Heap) (locs : List Loc) (ls : Array Slot), MH D vwA A s.heap (mW ad cA a_all a_hasImage a_tape a_fresh v_taped v_at v_behind v_size v_kind v_number v_wrong v_wrongAt v_depth v_steps v_faultKind v_faultPlace a_on a_many v_moved a_pile v_aside v_judgedBy v_judgedYear a_leastCost a_matched a_order a_lies a_movedThen a_yearTable a_yearMark a_beginTable a_beginMark v_statesTold v_found v_yearFrom v_mark v_beginsMark v_begins a_began v_isSpent a_wants a_rowSort a_rowMany a_numbers) H locs → lv_has ls 4 [(0, .ref (ad 0)), (1, .int p1), (2, .int x_62)] → W p l e rm_X8_isDone s m args below meth c H locs 0 0 Q (F0 m 2 ls []) := by
    intro n
    induction n with
    | zero =>
      intro x_62 hN
      exact absurd hN loopN_zero
    | succ n ih =>
      intro x_62 hN H locs ls hH hl
      obtain ⟨yy2, hB2, hY2⟩ := loopN_succ hN
      have hF : FX8_isDone_b2 a_all a_on a_many p1 x_62 = some yy2 := hB2
      delta FX8_isDone_b2 at hF
      refine lv_iload_n hx hb dX8_isDone_2 rfl (lv_at hl 2 rfl) ?_
      refine lv_aload_n hx hb dX8_isDone_3 rfl (lv_at hl 0 rfl) ?_
      refine mg_all hX hK hH dX8_isDone_4 ?_
      refine lv_iconst (v := 0) hx hb dX8_isDone_7 syi_0 ?_
      obtain ⟨x_63, he, hF⟩ := bd1e hF
      refine ml_all hX hK hH he dX8_isDone_8 ?_
      refine lv_icmp_ge (tgt := 82) hx hb dX8_isDone_9 rfl (fun c_64 => ?_) (fun c_64 => ?_)
      · have hF := itp c_64 hF
        obtain rfl := Option.some.inj hF
        exact k2_2 hY2 _ _ _ hH (lv_sub hl [] rfl)
      · have hF := itn c_64 hF
        refine lv_aload_n hx hb dX8_isDone_12 rfl (lv_at hl 0 rfl) ?_
        refine lv_iload_n hx hb dX8_isDone_13 rfl (lv_at hl 2 rfl) ?_
        refine lv_iload_n hx hb dX8_isDone_14 rfl (lv_at hl 1 rfl) ?_
        obtain ⟨b_65, he, hF⟩ := bd1e hF
        refine mcV hX hK hEv hE0 hH (met_X8_isWished hE he) (mrecv hK hH) gw_StoneYearModel_290 hd_yX8_isWished ⟨Nat.le_of_ble_eq_true rfl, Nat.le_of_ble_eq_true rfl⟩ rfl rfl hl (Nat.le_of_ble_eq_true rfl) dX8_isDone_15 ⟨Nat.le_of_ble_eq_true rfl, Nat.le_of_ble_eq_true rfl⟩ (fun H locs hH => ?_)
        have j76 : FX8_isDone_j76 x_62 = some yy2 → ∀ (H : Heap) (locs : List Loc) (ls : Array Slot), MH D vwA A s.heap (mW ad cA a_all a_hasImage a_tape a_fresh v_taped v_at v_behind v_size v_kind v_number v_wrong v_wrongAt v_depth v_steps v_faultKind v_faultPlace a_on a_many v_moved a_pile v_aside v_judgedBy v_judgedYear a_leastCost a_matched a_order a_lies a_movedThen a_yearTable a_yearMark a_beginTable a_beginMark v_statesTold v_found v_yearFrom v_mark v_beginsMark v_begins a_began v_isSpent a_wants a_rowSort a_rowMany a_numbers) H locs → lv_has ls 4 [(0, .ref (ad 0)), (1, .int p1), (2, .int x_62)] → W p l e rm_X8_isDone s m args below meth c H locs 0 0 Q (F0 m 76 ls []) := by
          intro hF H locs ls hH hl
          delta FX8_isDone_j76 at hF
          refine lv_iinc (v := (x_62 + 1)) (lv' := [(2, .int (x_62 + 1)), (0, .ref (ad 0)), (1, .int p1)]) hx hb dX8_isDone_76 hl (k := 2) rfl (syc syi_1) (by decide) rfl (fun ls hl => ?_)
          refine lv_goto (tgt := 2) hx hb dX8_isDone_79 rfl ?_
          obtain rfl := Option.some.inj hF
          exact ih (x_62 + 1) hY2 _ _ _ hH (lv_sub hl [1, 2, 0] rfl)
        refine lv_if_ne (tgt := 24) hx hb dX8_isDone_18 rfl (fun c_66 => ?_) (fun c_66 => ?_)
        · have hF := itn c_66 hF
          refine lv_aload_n hx hb dX8_isDone_24 rfl (lv_at hl 0 rfl) ?_
          refine mg_many hX hK hH dX8_isDone_25 ?_
          refine lv_iload_n hx hb dX8_isDone_28 rfl (lv_at hl 2 rfl) ?_
          obtain ⟨x_67, he, hF⟩ := bd1e hF
          refine ml_many hX hK hH he dX8_isDone_29 ?_
          refine lv_aload_n hx hb dX8_isDone_30 rfl (lv_at hl 0 rfl) ?_
          refine mg_all hX hK hH dX8_isDone_31 ?_
          refine lv_bipush (v := 31) hx hb dX8_isDone_34 syb_31 ?_
          refine lv_iload_n hx hb dX8_isDone_36 rfl (lv_at hl 2 rfl) ?_
          refine lv_iadd hx hb dX8_isDone_37 ?_
          obtain ⟨x_68, he, hF⟩ := bd1e hF
          refine ml_all hX hK hH he dX8_isDone_38 ?_
          refine lv_icmp_eq (tgt := 44) hx hb dX8_isDone_39 rfl (fun c_69 => ?_) (fun c_69 => ?_)
          · have hF := itp c_69 hF
            refine lv_iconst (v := 0) hx hb dX8_isDone_44 syi_0 ?_
            refine lv_istore_n (lv' := [(3, .int 0), (0, .ref (ad 0)), (1, .int p1), (2, .int x_62)]) hx hb dX8_isDone_45 rfl hl (by decide) rfl (fun ls hl => ?_)
            obtain ⟨xx46, ee46, kk46_0, kk46_1⟩ := bdS2e hF
            have k46_0 : xx46 = (.inl ()) → ∀ (H : Heap) (locs : List Loc) (ls : Array Slot), MH D vwA A s.heap (mW ad cA a_all a_hasImage a_tape a_fresh v_taped v_at v_behind v_size v_kind v_number v_wrong v_wrongAt v_depth v_steps v_faultKind v_faultPlace a_on a_many v_moved a_pile v_aside v_judgedBy v_judgedYear a_leastCost a_matched a_order a_lies a_movedThen a_yearTable a_yearMark a_beginTable a_beginMark v_statesTold v_found v_yearFrom v_mark v_beginsMark v_begins a_began v_isSpent a_wants a_rowSort a_rowMany a_numbers) H locs → lv_has ls 4 [] → W p l e rm_X8_isDone s m args below meth c H locs 0 0 Q (F0 m 68 ls []) := by
              intro hxx H locs ls hH hl
              have hF := un0e (kk46_0 () hxx)
              obtain rfl := Option.some.inj hF
              exact k2_1 hY2 _ _ _ hH (lv_sub hl [] rfl)
            have k46_1 : xx46 = (.inr ()) → ∀ (H : Heap) (locs : List Loc) (ls : Array Slot), MH D vwA A s.heap (mW ad cA a_all a_hasImage a_tape a_fresh v_taped v_at v_behind v_size v_kind v_number v_wrong v_wrongAt v_depth v_steps v_faultKind v_faultPlace a_on a_many v_moved a_pile v_aside v_judgedBy v_judgedYear a_leastCost a_matched a_order a_lies a_movedThen a_yearTable a_yearMark a_beginTable a_beginMark v_statesTold v_found v_yearFrom v_mark v_beginsMark v_begins a_began v_isSpent a_wants a_rowSort a_rowMany a_numbers) H locs → lv_has ls 4 [(0, .ref (ad 0)), (1, .int p1), (2, .int x_62)] → W p l e rm_X8_isDone s m args below meth c H locs 0 0 Q (F0 m 76 ls []) := by
              intro hxx H locs ls hH hl
              have hF := un0e (kk46_1 () hxx)
              exact j76 hF _ _ _ hH (lv_sub hl [0, 1, 2] rfl)
            obtain ⟨nn46, en46⟩ := loopC_some ee46
            have l46 : ∀ (n : Nat) (x_74 : Int32), loopN (fun s => FX8_isDone_b46 a_all a_on a_many x_62 s) n x_74 = some xx46 → ∀ (H : Heap) (locs : List Loc) (ls : Array Slot), MH D vwA A s.heap (mW ad cA a_all a_hasImage a_tape a_fresh v_taped v_at v_behind v_size v_kind v_number v_wrong v_wrongAt v_depth v_steps v_faultKind v_faultPlace a_on a_many v_moved a_pile v_aside v_judgedBy v_judgedYear a_leastCost a_matched a_order a_lies a_movedThen a_yearTable a_yearMark a_beginTable a_beginMark v_statesTold v_found v_yearFrom v_mark v_beginsMark v_begins a_began v_isSpent a_wants a_rowSort a_rowMany a_numbers) H locs → lv_has ls 4 [(0, .ref (ad 0)), (1, .int p1), (2, .int x_62), (3, .int x_74)] → W p l e rm_X8_isDone s m args below meth c H locs 0 0 Q (F0 m 46 ls []) := by
              intro n
              induction n with
              | zero =>
                intro x_74 hN
                exact absurd hN loopN_zero
              | succ n ih =>
                intro x_74 hN H locs ls hH hl
                obtain ⟨yy46, hB46, hY46⟩ := loopN_succ hN
                have hF : FX8_isDone_b46 a_all a_on a_many x_62 x_74 = some yy46 := hB46
                delta FX8_isDone_b46 at hF
                refine lv_iload_n hx hb dX8_isDone_46 rfl (lv_at hl 3 rfl) ?_
                refine lv_aload_n hx hb dX8_isDone_47 rfl (lv_at hl 0 rfl) ?_
                refine mg_many hX hK hH dX8_isDone_48 ?_
                refine lv_iload_n hx hb dX8_isDone_51 rfl (lv_at hl 2 rfl) ?_
                obtain ⟨x_75, he, hF⟩ := bd1e hF
                refine ml_many hX hK hH he dX8_isDone_52 ?_
                refine lv_icmp_ge (tgt := 76) hx hb dX8_isDone_53 rfl (fun c_76 => ?_) (fun c_76 => ?_)
                · have hF := itp c_76 hF
                  obtain rfl := Option.some.inj hF
                  exact k46_1 hY46 _ _ _ hH (lv_sub hl [0, 1, 2] rfl)
                · have hF := itn c_76 hF
                  refine lv_aload_n hx hb dX8_isDone_56 rfl (lv_at hl 0 rfl) ?_
                  refine lv_iconst (v := 3) hx hb dX8_isDone_57 syi_3 ?_
                  refine lv_iload_n hx hb dX8_isDone_58 rfl (lv_at hl 2 rfl) ?_
                  refine lv_imul hx hb dX8_isDone_59 ?_
                  refine lv_iload_n hx hb dX8_isDone_60 rfl (lv_at hl 3 rfl) ?_
                  refine lv_iadd hx hb dX8_isDone_61 ?_
                  obtain ⟨b_77, he, hF⟩ := bd1e hF
                  refine mcV hX hK hEv hE0 hH (met_X8_isRight hE he) (mrecv hK hH) gw_StoneYearModel_293 hd_yX8_isRight ⟨Nat.le_of_ble_eq_true rfl, Nat.le_of_ble_eq_true rfl⟩ rfl rfl hl (Nat.le_of_ble_eq_true rfl) dX8_isDone_62 ⟨Nat.le_of_ble_eq_true rfl, Nat.le_of_ble_eq_true rfl⟩ (fun H locs hH => ?_)
                  refine lv_if_ne (tgt := 70) hx hb dX8_isDone_65 rfl (fun c_78 => ?_) (fun c_78 => ?_)
                  · have hF := itn c_78 hF
                    refine lv_iinc (v := (x_74 + 1)) (lv' := [(3, .int (x_74 + 1)), (0, .ref (ad 0)), (1, .int p1), (2, .int x_62)]) hx hb dX8_isDone_70 hl (k := 3) rfl (syc syi_1) (by decide) rfl (fun ls hl => ?_)
                    refine lv_goto (tgt := 46) hx hb dX8_isDone_73 rfl ?_
                    obtain rfl := Option.some.inj hF
                    exact ih (x_74 + 1) hY46 _ _ _ hH (lv_sub hl [1, 2, 3, 0] rfl)
                  · have hF := itp c_78 hF
                    obtain rfl := Option.some.inj hF
                    exact k46_0 hY46 _ _ _ hH (lv_sub hl [] rfl)
            exact l46 nn46 0 en46 _ _ _ hH (lv_sub hl [1, 2, 3, 0] rfl)
          · have hF := itn c_69 hF
            obtain rfl := Option.some.inj hF
            exact k2_0 hY2 _ _ _ hH (lv_sub hl [] rfl)
        · have hF := itp c_66 hF
          refine lv_goto (tgt := 76) hx hb dX8_isDone_21 rfl ?_
          exact j76 hF _ _ _ hH (lv_sub hl [0, 1, 2] rfl)
  exact l2 nn2 0 en2 _ _ _ hH (lv_sub hl [1, 2, 0] rfl)
abbrev rm_X8_isWho : Room := { frames := 1, cells := 0, slots := 0, locals := 25 }
set_option maxHeartbeats 4000000 in
theorem met_X8_isWho {l : Launch} {D : va_G} {ad : Nat → Nat} {cA : Nat → ClassId} {a_all : Nat → Int32} {a_hasImage : Nat → Int32} {a_tape : Nat → Int32} {a_fresh : Nat → Int32} {v_taped : Int32} {v_at : Int32} {v_behind : Int32} {v_size : Int32} {v_kind : Int32} {v_number : Int32} {v_wrong : Int32} {v_wrongAt : Int32} {v_depth : Int32} {v_steps : Int32} {v_faultKind : Int32} {v_faultPlace : Int32} {a_on : Nat → Int32} {a_many : Nat → Int32} {v_moved : Int32} {a_pile : Nat → Int32} {v_aside : Int32} {v_judgedBy : Int32} {v_judgedYear : Int32} {a_leastCost : Nat → Int32} {a_matched : Nat → Int32} {a_order : Nat → Int32} {a_lies : Nat → Int64} {a_movedThen : Nat → Int32} {a_yearTable : Nat → Int32} {a_yearMark : Nat → Int32} {a_beginTable : Nat → Int32} {a_beginMark : Nat → Int32} {v_statesTold : Int32} {v_found : Int32} {v_yearFrom : Int32} {v_mark : Int32} {v_beginsMark : Int32} {v_begins : Int32} {a_began : Nat → Int64} {v_isSpent : Int32} {a_wants : Nat → Int32} {a_rowSort : Nat → Int32} {a_rowMany : Nat → Int32} {a_numbers : Nat → Int64}  {p0 : Int32} {res : Bool} {ak av fo : Nat} {E : EvT} (hE : EvM E ak av fo) (hF : FX8_isWho p0 = some res) : MM l yX8_isWho (ws_ yX8_isWho cX8_isWho 1 (Option.some Jvm.ClassFile.FieldType.boolean)) rm_X8_isWho D vwA (mT cA) E [.int p0] (mW ad cA a_all a_hasImage a_tape a_fresh v_taped v_at v_behind v_size v_kind v_number v_wrong v_wrongAt v_depth v_steps v_faultKind v_faultPlace a_on a_many v_moved a_pile v_aside v_judgedBy v_judgedYear a_leastCost a_matched a_order a_lies a_movedThen a_yearTable a_yearMark a_beginTable a_beginMark v_statesTold v_found v_yearFrom v_mark v_beginsMark v_begins a_began v_isSpent a_wants a_rowSort a_rowMany a_numbers) (mW ad cA a_all a_hasImage a_tape a_fresh v_taped v_at v_behind v_size v_kind v_number v_wrong v_wrongAt v_depth v_steps v_faultKind v_faultPlace a_on a_many v_moved a_pile v_aside v_judgedBy v_judgedYear a_leastCost a_matched a_order a_lies a_movedThen a_yearTable a_yearMark a_beginTable a_beginMark v_statesTold v_found v_yearFrom v_mark v_beginsMark v_begins a_began v_isSpent a_wants a_rowSort a_rowMany a_numbers) (some (.int (b2i res))) := by
  refine MM.ofZ (by decide) (Nat.le_of_ble_eq_true rfl) ?_
  intro p e s m args below meth c Q A hX hK hE0 hret H locs ls hH hl
  have hX : CallFix p m c cX8_isWho 1 s args lw_all RX8 := hX
  have hx := hX.1
  have hb := hX.2.1
  have hown := hX.2.2.2.1
  have hts := hX.2.2.2.2
  have hl : lv_has ls 1 [(0, .int p0)] := hl
  have hEv := hE.1
  delta FX8_isWho at hF
  refine lv_iload_n hx hb dX8_isWho_0 rfl (lv_at hl 0 rfl) ?_
  refine lv_i2l (v := (Int32.toInt64 p0)) hx hb dX8_isWho_1 rfl ?_
  refine lv_ldc2 (v := (-1)) hx hb hown (hts _ q2003) dX8_isWho_2 ?_
  refine lv_lconst (v := 1) hx hb dX8_isWho_5 rfl ?_
  obtain ⟨b_46, he, hF⟩ := bd1e hF
  refine mcS hX hK hEv hE0 hH (met_X8_within hE he) gw_StoneYearModel_153 hd_yX8_within ⟨Nat.le_of_ble_eq_true rfl, Nat.le_of_ble_eq_true rfl⟩ rfl rfl hl (Nat.le_of_ble_eq_true rfl) dX8_isWho_6 ⟨Nat.le_of_ble_eq_true rfl, Nat.le_of_ble_eq_true rfl⟩ (fun H locs hH => ?_)
  obtain rfl := Option.some.inj hF
  exact hret _ _ _ _ hH dX8_isWho_9
abbrev rm_X8_done : Room := { frames := 2, cells := 0, slots := 0, locals := 45 }
set_option maxHeartbeats 4000000 in
theorem met_X8_done {l : Launch} {D : va_G} {ad : Nat → Nat} {cA : Nat → ClassId} {a_all : Nat → Int32} {a_hasImage : Nat → Int32} {a_tape : Nat → Int32} {a_fresh : Nat → Int32} {v_taped : Int32} {v_at : Int32} {v_behind : Int32} {v_size : Int32} {v_kind : Int32} {v_number : Int32} {v_wrong : Int32} {v_wrongAt : Int32} {v_depth : Int32} {v_steps : Int32} {v_faultKind : Int32} {v_faultPlace : Int32} {a_on : Nat → Int32} {a_many : Nat → Int32} {v_moved : Int32} {a_pile : Nat → Int32} {v_aside : Int32} {v_judgedBy : Int32} {v_judgedYear : Int32} {a_leastCost : Nat → Int32} {a_matched : Nat → Int32} {a_order : Nat → Int32} {a_lies : Nat → Int64} {a_movedThen : Nat → Int32} {a_yearTable : Nat → Int32} {a_yearMark : Nat → Int32} {a_beginTable : Nat → Int32} {a_beginMark : Nat → Int32} {v_statesTold : Int32} {v_found : Int32} {v_yearFrom : Int32} {v_mark : Int32} {v_beginsMark : Int32} {v_begins : Int32} {a_began : Nat → Int64} {v_isSpent : Int32} {a_wants : Nat → Int32} {a_rowSort : Nat → Int32} {a_rowMany : Nat → Int32} {a_numbers : Nat → Int64}  {p1 : Int32} {res : Int32} {ra_on : Nat → Int32} {ra_many : Nat → Int32} {rv_moved : Int32} {ak av fo : Nat} {E : EvT} (hE : EvM E ak av fo) (hF : FX8_done a_all a_on a_many v_moved p1 = some (res, ra_on, ra_many, rv_moved)) : MM l yX8_done (ws_ yX8_done cX8_done 2 (Option.some Jvm.ClassFile.FieldType.int)) rm_X8_done D vwA (mT cA) E [.ref (ad 0), .int p1] (mW ad cA a_all a_hasImage a_tape a_fresh v_taped v_at v_behind v_size v_kind v_number v_wrong v_wrongAt v_depth v_steps v_faultKind v_faultPlace a_on a_many v_moved a_pile v_aside v_judgedBy v_judgedYear a_leastCost a_matched a_order a_lies a_movedThen a_yearTable a_yearMark a_beginTable a_beginMark v_statesTold v_found v_yearFrom v_mark v_beginsMark v_begins a_began v_isSpent a_wants a_rowSort a_rowMany a_numbers) (mW ad cA a_all a_hasImage a_tape a_fresh v_taped v_at v_behind v_size v_kind v_number v_wrong v_wrongAt v_depth v_steps v_faultKind v_faultPlace ra_on ra_many rv_moved a_pile v_aside v_judgedBy v_judgedYear a_leastCost a_matched a_order a_lies a_movedThen a_yearTable a_yearMark a_beginTable a_beginMark v_statesTold v_found v_yearFrom v_mark v_beginsMark v_begins a_began v_isSpent a_wants a_rowSort a_rowMany a_numbers) (some (.int res)) := by
  refine MM.ofI (by decide) (Nat.le_of_ble_eq_true rfl) ?_
  intro p e s m args below meth c Q A hX hK hE0 hret H locs ls hH hl
  have hX : CallFix p m c cX8_done 2 s args lw_all RX8 := hX
  have hx := hX.1
  have hb := hX.2.1
  have hown := hX.2.2.2.1
  have hts := hX.2.2.2.2
  have hl : lv_has ls 2 [(0, .ref (ad 0)), (1, .int p1)] := hl
  have hEv := hE.1
  delta FX8_done at hF
  refine lv_aload_n hx hb dX8_done_0 rfl (lv_at hl 0 rfl) ?_
  refine lv_iconst (v := 0) hx hb dX8_done_1 syi_0 ?_
  refine mp_thrown hX hK hH dX8_done_2 (fun H locs hH => ?_)
  refine lv_iload_n hx hb dX8_done_5 rfl (lv_at hl 1 rfl) ?_
  obtain ⟨b_46, he, hF⟩ := bd1e hF
  refine mcS hX hK hEv hE0 hH (met_X8_isWho hE he) gw_StoneYearModel_296 hd_yX8_isWho ⟨Nat.le_of_ble_eq_true rfl, Nat.le_of_ble_eq_true rfl⟩ rfl rfl hl (Nat.le_of_ble_eq_true rfl) dX8_done_6 ⟨Nat.le_of_ble_eq_true rfl, Nat.le_of_ble_eq_true rfl⟩ (fun H locs hH => ?_)
  refine lv_if_ne (tgt := 15) hx hb dX8_done_9 rfl (fun c_47 => ?_) (fun c_47 => ?_)
  · have hF := itn c_47 hF
    refine lv_aload_n hx hb dX8_done_15 rfl (lv_at hl 0 rfl) ?_
    obtain ⟨a_on_48, a_many_49, v_moved_50, he, hF⟩ := bd3e hF
    refine mcV hX hK hEv hE0 hH (met_X8_looksNow hE he) (mrecv hK hH) gw_StoneYearModel_260 hd_yX8_looksNow ⟨Nat.le_of_ble_eq_true rfl, Nat.le_of_ble_eq_true rfl⟩ rfl rfl hl (Nat.le_of_ble_eq_true rfl) dX8_done_16 ⟨Nat.le_of_ble_eq_true rfl, Nat.le_of_ble_eq_true rfl⟩ (fun H locs hH => ?_)
    refine lv_aload_n hx hb dX8_done_19 rfl (lv_at hl 0 rfl) ?_
    refine lv_iload_n hx hb dX8_done_20 rfl (lv_at hl 1 rfl) ?_
    obtain ⟨b_51, he, hF⟩ := bd1e hF
    refine mcV hX hK hEv hE0 hH (met_X8_isDone hE he) (mrecv hK hH) gw_StoneYearModel_299 hd_yX8_isDone ⟨Nat.le_of_ble_eq_true rfl, Nat.le_of_ble_eq_true rfl⟩ rfl rfl hl (Nat.le_of_ble_eq_true rfl) dX8_done_21 ⟨Nat.le_of_ble_eq_true rfl, Nat.le_of_ble_eq_true rfl⟩ (fun H locs hH => ?_)
    refine lv_if_eq (tgt := 31) hx hb dX8_done_24 rfl (fun c_52 => ?_) (fun c_52 => ?_)
    · have hF := itp c_52 hF
      refine lv_iconst (v := 0) hx hb dX8_done_31 syi_0 ?_
      obtain ⟨rfl, rfl, rfl, rfl⟩ := re4 hF
      exact hret _ _ _ _ hH dX8_done_32
    · have hF := itn c_52 hF
      refine lv_iconst (v := 1) hx hb dX8_done_27 syi_1 ?_
      refine lv_goto (tgt := 32) hx hb dX8_done_28 rfl ?_
      obtain ⟨rfl, rfl, rfl, rfl⟩ := re4 hF
      exact hret _ _ _ _ hH dX8_done_32
  · have hF := itp c_47 hF
    refine lv_bipush (v := (-2)) hx hb dX8_done_12 syb_m2 ?_
    obtain ⟨rfl, rfl, rfl, rfl⟩ := re4 hF
    exact hret _ _ _ _ hH dX8_done_14
abbrev rm_X8_rights : Room := { frames := 1, cells := 0, slots := 0, locals := 22 }
set_option maxHeartbeats 4000000 in
theorem met_X8_rights {l : Launch} {D : va_G} {ad : Nat → Nat} {cA : Nat → ClassId} {a_all : Nat → Int32} {a_hasImage : Nat → Int32} {a_tape : Nat → Int32} {a_fresh : Nat → Int32} {v_taped : Int32} {v_at : Int32} {v_behind : Int32} {v_size : Int32} {v_kind : Int32} {v_number : Int32} {v_wrong : Int32} {v_wrongAt : Int32} {v_depth : Int32} {v_steps : Int32} {v_faultKind : Int32} {v_faultPlace : Int32} {a_on : Nat → Int32} {a_many : Nat → Int32} {v_moved : Int32} {a_pile : Nat → Int32} {v_aside : Int32} {v_judgedBy : Int32} {v_judgedYear : Int32} {a_leastCost : Nat → Int32} {a_matched : Nat → Int32} {a_order : Nat → Int32} {a_lies : Nat → Int64} {a_movedThen : Nat → Int32} {a_yearTable : Nat → Int32} {a_yearMark : Nat → Int32} {a_beginTable : Nat → Int32} {a_beginMark : Nat → Int32} {v_statesTold : Int32} {v_found : Int32} {v_yearFrom : Int32} {v_mark : Int32} {v_beginsMark : Int32} {v_begins : Int32} {a_began : Nat → Int64} {v_isSpent : Int32} {a_wants : Nat → Int32} {a_rowSort : Nat → Int32} {a_rowMany : Nat → Int32} {a_numbers : Nat → Int64}  {p1 : Int32} {res : Int32} {ak av fo : Nat} {E : EvT} (hE : EvM E ak av fo) (hF : FX8_rights a_all a_on p1 = some res) : MM l yX8_rights (ws_ yX8_rights cX8_rights 4 (Option.some Jvm.ClassFile.FieldType.int)) rm_X8_rights D vwA (mT cA) E [.ref (ad 0), .int p1] (mW ad cA a_all a_hasImage a_tape a_fresh v_taped v_at v_behind v_size v_kind v_number v_wrong v_wrongAt v_depth v_steps v_faultKind v_faultPlace a_on a_many v_moved a_pile v_aside v_judgedBy v_judgedYear a_leastCost a_matched a_order a_lies a_movedThen a_yearTable a_yearMark a_beginTable a_beginMark v_statesTold v_found v_yearFrom v_mark v_beginsMark v_begins a_began v_isSpent a_wants a_rowSort a_rowMany a_numbers) (mW ad cA a_all a_hasImage a_tape a_fresh v_taped v_at v_behind v_size v_kind v_number v_wrong v_wrongAt v_depth v_steps v_faultKind v_faultPlace a_on a_many v_moved a_pile v_aside v_judgedBy v_judgedYear a_leastCost a_matched a_order a_lies a_movedThen a_yearTable a_yearMark a_beginTable a_beginMark v_statesTold v_found v_yearFrom v_mark v_beginsMark v_begins a_began v_isSpent a_wants a_rowSort a_rowMany a_numbers) (some (.int res)) := by
  refine MM.ofI (by decide) (Nat.le_of_ble_eq_true rfl) ?_
  intro p e s m args below meth c Q A hX hK hE0 hret H locs ls hH hl
  have hX : CallFix p m c cX8_rights 4 s args lw_all RX8 := hX
  have hx := hX.1
  have hb := hX.2.1
  have hown := hX.2.2.2.1
  have hts := hX.2.2.2.2
  have hl : lv_has ls 4 [(0, .ref (ad 0)), (1, .int p1)] := hl
  have hEv := hE.1
  delta FX8_rights at hF
  refine lv_iconst (v := 0) hx hb dX8_rights_0 syi_0 ?_
  refine lv_istore_n (lv' := [(2, .int 0), (0, .ref (ad 0)), (1, .int p1)]) hx hb dX8_rights_1 rfl hl (by decide) rfl (fun ls hl => ?_)
  refine lv_iconst (v := 0) hx hb dX8_rights_2 syi_0 ?_
  refine lv_istore_n (lv' := [(3, .int 0), (2, .int 0), (0, .ref (ad 0)), (1, .int p1)]) hx hb dX8_rights_3 rfl hl (by decide) rfl (fun ls hl => ?_)
  obtain ⟨xx4, ee4, kk4_0⟩ := bd1L hF
  have k4_0 : ∀ (x_60 : Int32), xx4 = x_60 → ∀ (H : Heap) (locs : List Loc) (ls : Array Slot), MH D vwA A s.heap (mW ad cA a_all a_hasImage a_tape a_fresh v_taped v_at v_behind v_size v_kind v_number v_wrong v_wrongAt v_depth v_steps v_faultKind v_faultPlace a_on a_many v_moved a_pile v_aside v_judgedBy v_judgedYear a_leastCost a_matched a_order a_lies a_movedThen a_yearTable a_yearMark a_beginTable a_beginMark v_statesTold v_found v_yearFrom v_mark v_beginsMark v_begins a_began v_isSpent a_wants a_rowSort a_rowMany a_numbers) H locs → lv_has ls 4 [(2, .int x_60)] → W p l e rm_X8_rights s m args below meth c H locs 0 0 Q (F0 m 43 ls []) := by
    intro x_60 hxx H locs ls hH hl
    have hF := un1e (kk4_0 x_60 hxx)
    refine lv_iload_n hx hb dX8_rights_43 rfl (lv_at hl 0 rfl) ?_
    obtain rfl := Option.some.inj hF
    exact hret _ _ _ _ hH dX8_rights_44
  obtain ⟨nn4, en4⟩ := loopC_some ee4
  have l4 : ∀ (n : Nat) (x_52 : Int32) (x_53 : Int32), loopN (fun s => FX8_rights_b4 a_all a_on p1 s.1 s.2) n (x_52, x_53) = some xx4 → ∀ (H : Heap) (locs : List Loc) (ls : Array Slot), MH D vwA A s.heap (mW ad cA a_all a_hasImage a_tape a_fresh v_taped v_at v_behind v_size v_kind v_number v_wrong v_wrongAt v_depth v_steps v_faultKind v_faultPlace a_on a_many v_moved a_pile v_aside v_judgedBy v_judgedYear a_leastCost a_matched a_order a_lies a_movedThen a_yearTable a_yearMark a_beginTable a_beginMark v_statesTold v_found v_yearFrom v_mark v_beginsMark v_begins a_began v_isSpent a_wants a_rowSort a_rowMany a_numbers) H locs → lv_has ls 4 [(0, .ref (ad 0)), (1, .int p1), (2, .int x_52), (3, .int x_53)] → W p l e rm_X8_rights s m args below meth c H locs 0 0 Q (F0 m 4 ls []) := by
    intro n
    induction n with
    | zero =>
      intro x_52 x_53 hN
      exact absurd hN loopN_zero
    | succ n ih =>
      intro x_52 x_53 hN H locs ls hH hl
      obtain ⟨yy4, hB4, hY4⟩ := loopN_succ hN
      have hF : FX8_rights_b4 a_all a_on p1 x_52 x_53 = some yy4 := hB4
      delta FX8_rights_b4 at hF
      refine lv_iload_n hx hb dX8_rights_4 rfl (lv_at hl 3 rfl) ?_
      refine lv_bipush (v := 15) hx hb dX8_rights_5 syb_15 ?_
      refine lv_icmp_ge (tgt := 43) hx hb dX8_rights_7 rfl (fun c_54 => ?_) (fun c_54 => ?_)
      · have hF := itp c_54 hF
        obtain rfl := Option.some.inj hF
        exact k4_0 x_52 hY4 _ _ _ hH (lv_sub hl [2] rfl)
      · have hF := itn c_54 hF
        refine lv_iload_n hx hb dX8_rights_10 rfl (lv_at hl 2 rfl) ?_
        refine lv_aload_n hx hb dX8_rights_11 rfl (lv_at hl 0 rfl) ?_
        refine lv_iload_n hx hb dX8_rights_12 rfl (lv_at hl 3 rfl) ?_
        refine lv_iconst (v := 3) hx hb dX8_rights_13 syi_3 ?_
        refine lv_idiv hx hb dX8_rights_14 (by decide) ?_
        refine lv_iload_n hx hb dX8_rights_15 rfl (lv_at hl 1 rfl) ?_
        obtain ⟨b_55, he, hF⟩ := bd1e hF
        refine mcV hX hK hEv hE0 hH (met_X8_isWished hE he) (mrecv hK hH) gw_StoneYearModel_290 hd_yX8_isWished ⟨Nat.le_of_ble_eq_true rfl, Nat.le_of_ble_eq_true rfl⟩ rfl rfl hl (Nat.le_of_ble_eq_true rfl) dX8_rights_16 ⟨Nat.le_of_ble_eq_true rfl, Nat.le_of_ble_eq_true rfl⟩ (fun H locs hH => ?_)
        have j35 : ∀ (x_59 : Int32), FX8_rights_j35 x_52 x_53 x_59 = some yy4 → ∀ (H : Heap) (locs : List Loc) (ls : Array Slot), MH D vwA A s.heap (mW ad cA a_all a_hasImage a_tape a_fresh v_taped v_at v_behind v_size v_kind v_number v_wrong v_wrongAt v_depth v_steps v_faultKind v_faultPlace a_on a_many v_moved a_pile v_aside v_judgedBy v_judgedYear a_leastCost a_matched a_order a_lies a_movedThen a_yearTable a_yearMark a_beginTable a_beginMark v_statesTold v_found v_yearFrom v_mark v_beginsMark v_begins a_began v_isSpent a_wants a_rowSort a_rowMany a_numbers) H locs → lv_has ls 4 [(0, .ref (ad 0)), (1, .int p1), (3, .int x_53)] → W p l e rm_X8_rights s m args below meth c H locs 0 0 Q (F0 m 35 ls [.int x_59, .int x_52]) := by
          intro x_59 hF H locs ls hH hl
          delta FX8_rights_j35 at hF
          refine lv_iadd hx hb dX8_rights_35 ?_
          refine lv_istore_n (lv' := [(2, .int (x_52 + x_59)), (0, .ref (ad 0)), (1, .int p1), (3, .int x_53)]) hx hb dX8_rights_36 rfl hl (by decide) rfl (fun ls hl => ?_)
          refine lv_iinc (v := (x_53 + 1)) (lv' := [(3, .int (x_53 + 1)), (2, .int (x_52 + x_59)), (0, .ref (ad 0)), (1, .int p1)]) hx hb dX8_rights_37 hl (k := 3) rfl (syc syi_1) (by decide) rfl (fun ls hl => ?_)
          refine lv_goto (tgt := 4) hx hb dX8_rights_40 rfl ?_
          obtain rfl := Option.some.inj hF
          exact ih (x_52 + x_59) (x_53 + 1) hY4 _ _ _ hH (lv_sub hl [2, 3, 1, 0] rfl)
        have j34 : FX8_rights_j34 x_52 x_53 = some yy4 → ∀ (H : Heap) (locs : List Loc) (ls : Array Slot), MH D vwA A s.heap (mW ad cA a_all a_hasImage a_tape a_fresh v_taped v_at v_behind v_size v_kind v_number v_wrong v_wrongAt v_depth v_steps v_faultKind v_faultPlace a_on a_many v_moved a_pile v_aside v_judgedBy v_judgedYear a_leastCost a_matched a_order a_lies a_movedThen a_yearTable a_yearMark a_beginTable a_beginMark v_statesTold v_found v_yearFrom v_mark v_beginsMark v_begins a_began v_isSpent a_wants a_rowSort a_rowMany a_numbers) H locs → lv_has ls 4 [(0, .ref (ad 0)), (1, .int p1), (3, .int x_53)] → W p l e rm_X8_rights s m args below meth c H locs 0 0 Q (F0 m 34 ls [.int x_52]) := by
          intro hF H locs ls hH hl
          delta FX8_rights_j34 at hF
          refine lv_iconst (v := 0) hx hb dX8_rights_34 syi_0 ?_
          exact j35 0 hF _ _ _ hH (lv_sub hl [0, 1, 2] rfl)
        refine lv_if_eq (tgt := 34) hx hb dX8_rights_19 rfl (fun c_56 => ?_) (fun c_56 => ?_)
        · have hF := itp c_56 hF
          exact j34 hF _ _ _ hH (lv_sub hl [0, 1, 3] rfl)
        · have hF := itn c_56 hF
          refine lv_aload_n hx hb dX8_rights_22 rfl (lv_at hl 0 rfl) ?_
          refine lv_iload_n hx hb dX8_rights_23 rfl (lv_at hl 3 rfl) ?_
          obtain ⟨b_57, he, hF⟩ := bd1e hF
          refine mcV hX hK hEv hE0 hH (met_X8_isRight hE he) (mrecv hK hH) gw_StoneYearModel_293 hd_yX8_isRight ⟨Nat.le_of_ble_eq_true rfl, Nat.le_of_ble_eq_true rfl⟩ rfl rfl hl (Nat.le_of_ble_eq_true rfl) dX8_rights_24 ⟨Nat.le_of_ble_eq_true rfl, Nat.le_of_ble_eq_true rfl⟩ (fun H locs hH => ?_)
          refine lv_if_eq (tgt := 34) hx hb dX8_rights_27 rfl (fun c_58 => ?_) (fun c_58 => ?_)
          · have hF := itp c_58 hF
            exact j34 hF _ _ _ hH (lv_sub hl [0, 1, 3] rfl)
          · have hF := itn c_58 hF
            refine lv_iconst (v := 1) hx hb dX8_rights_30 syi_1 ?_
            refine lv_goto (tgt := 35) hx hb dX8_rights_31 rfl ?_
            exact j35 1 hF _ _ _ hH (lv_sub hl [0, 1, 3] rfl)
  exact l4 nn4 0 0 en4 _ _ _ hH (lv_sub hl [2, 3, 1, 0] rfl)
abbrev rm_X8_right : Room := { frames := 2, cells := 0, slots := 0, locals := 45 }
set_option maxHeartbeats 4000000 in
theorem met_X8_right {l : Launch} {D : va_G} {ad : Nat → Nat} {cA : Nat → ClassId} {a_all : Nat → Int32} {a_hasImage : Nat → Int32} {a_tape : Nat → Int32} {a_fresh : Nat → Int32} {v_taped : Int32} {v_at : Int32} {v_behind : Int32} {v_size : Int32} {v_kind : Int32} {v_number : Int32} {v_wrong : Int32} {v_wrongAt : Int32} {v_depth : Int32} {v_steps : Int32} {v_faultKind : Int32} {v_faultPlace : Int32} {a_on : Nat → Int32} {a_many : Nat → Int32} {v_moved : Int32} {a_pile : Nat → Int32} {v_aside : Int32} {v_judgedBy : Int32} {v_judgedYear : Int32} {a_leastCost : Nat → Int32} {a_matched : Nat → Int32} {a_order : Nat → Int32} {a_lies : Nat → Int64} {a_movedThen : Nat → Int32} {a_yearTable : Nat → Int32} {a_yearMark : Nat → Int32} {a_beginTable : Nat → Int32} {a_beginMark : Nat → Int32} {v_statesTold : Int32} {v_found : Int32} {v_yearFrom : Int32} {v_mark : Int32} {v_beginsMark : Int32} {v_begins : Int32} {a_began : Nat → Int64} {v_isSpent : Int32} {a_wants : Nat → Int32} {a_rowSort : Nat → Int32} {a_rowMany : Nat → Int32} {a_numbers : Nat → Int64}  {p1 : Int32} {res : Int32} {ra_on : Nat → Int32} {ra_many : Nat → Int32} {rv_moved : Int32} {ak av fo : Nat} {E : EvT} (hE : EvM E ak av fo) (hF : FX8_right a_all a_on a_many v_moved p1 = some (res, ra_on, ra_many, rv_moved)) : MM l yX8_right (ws_ yX8_right cX8_right 2 (Option.some Jvm.ClassFile.FieldType.int)) rm_X8_right D vwA (mT cA) E [.ref (ad 0), .int p1] (mW ad cA a_all a_hasImage a_tape a_fresh v_taped v_at v_behind v_size v_kind v_number v_wrong v_wrongAt v_depth v_steps v_faultKind v_faultPlace a_on a_many v_moved a_pile v_aside v_judgedBy v_judgedYear a_leastCost a_matched a_order a_lies a_movedThen a_yearTable a_yearMark a_beginTable a_beginMark v_statesTold v_found v_yearFrom v_mark v_beginsMark v_begins a_began v_isSpent a_wants a_rowSort a_rowMany a_numbers) (mW ad cA a_all a_hasImage a_tape a_fresh v_taped v_at v_behind v_size v_kind v_number v_wrong v_wrongAt v_depth v_steps v_faultKind v_faultPlace ra_on ra_many rv_moved a_pile v_aside v_judgedBy v_judgedYear a_leastCost a_matched a_order a_lies a_movedThen a_yearTable a_yearMark a_beginTable a_beginMark v_statesTold v_found v_yearFrom v_mark v_beginsMark v_begins a_began v_isSpent a_wants a_rowSort a_rowMany a_numbers) (some (.int res)) := by
  refine MM.ofI (by decide) (Nat.le_of_ble_eq_true rfl) ?_
  intro p e s m args below meth c Q A hX hK hE0 hret H locs ls hH hl
  have hX : CallFix p m c cX8_right 2 s args lw_all RX8 := hX
  have hx := hX.1
  have hb := hX.2.1
  have hown := hX.2.2.2.1
  have hts := hX.2.2.2.2
  have hl : lv_has ls 2 [(0, .ref (ad 0)), (1, .int p1)] := hl
  have hEv := hE.1
  delta FX8_right at hF
  refine lv_aload_n hx hb dX8_right_0 rfl (lv_at hl 0 rfl) ?_
  refine lv_iconst (v := 0) hx hb dX8_right_1 syi_0 ?_
  refine mp_thrown hX hK hH dX8_right_2 (fun H locs hH => ?_)
  refine lv_iload_n hx hb dX8_right_5 rfl (lv_at hl 1 rfl) ?_
  obtain ⟨b_46, he, hF⟩ := bd1e hF
  refine mcS hX hK hEv hE0 hH (met_X8_isWho hE he) gw_StoneYearModel_296 hd_yX8_isWho ⟨Nat.le_of_ble_eq_true rfl, Nat.le_of_ble_eq_true rfl⟩ rfl rfl hl (Nat.le_of_ble_eq_true rfl) dX8_right_6 ⟨Nat.le_of_ble_eq_true rfl, Nat.le_of_ble_eq_true rfl⟩ (fun H locs hH => ?_)
  refine lv_if_ne (tgt := 15) hx hb dX8_right_9 rfl (fun c_47 => ?_) (fun c_47 => ?_)
  · have hF := itn c_47 hF
    refine lv_aload_n hx hb dX8_right_15 rfl (lv_at hl 0 rfl) ?_
    obtain ⟨a_on_48, a_many_49, v_moved_50, he, hF⟩ := bd3e hF
    refine mcV hX hK hEv hE0 hH (met_X8_looksNow hE he) (mrecv hK hH) gw_StoneYearModel_260 hd_yX8_looksNow ⟨Nat.le_of_ble_eq_true rfl, Nat.le_of_ble_eq_true rfl⟩ rfl rfl hl (Nat.le_of_ble_eq_true rfl) dX8_right_16 ⟨Nat.le_of_ble_eq_true rfl, Nat.le_of_ble_eq_true rfl⟩ (fun H locs hH => ?_)
    refine lv_aload_n hx hb dX8_right_19 rfl (lv_at hl 0 rfl) ?_
    refine lv_iload_n hx hb dX8_right_20 rfl (lv_at hl 1 rfl) ?_
    obtain ⟨x_51, he, hF⟩ := bd1e hF
    refine mcV hX hK hEv hE0 hH (met_X8_rights hE he) (mrecv hK hH) gw_StoneYearModel_302 hd_yX8_rights ⟨Nat.le_of_ble_eq_true rfl, Nat.le_of_ble_eq_true rfl⟩ rfl rfl hl (Nat.le_of_ble_eq_true rfl) dX8_right_21 ⟨Nat.le_of_ble_eq_true rfl, Nat.le_of_ble_eq_true rfl⟩ (fun H locs hH => ?_)
    obtain ⟨rfl, rfl, rfl, rfl⟩ := re4 hF
    exact hret _ _ _ _ hH dX8_right_24
  · have hF := itp c_47 hF
    refine lv_bipush (v := (-2)) hx hb dX8_right_12 syb_m2 ?_
    obtain ⟨rfl, rfl, rfl, rfl⟩ := re4 hF
    exact hret _ _ _ _ hH dX8_right_14
abbrev rm_X8_does : Room := { frames := 3, cells := 0, slots := 0, locals := 80 }
set_option maxHeartbeats 4000000 in
theorem met_X8_does {l : Launch} {D : va_G} {ad : Nat → Nat} {cA : Nat → ClassId} {a_all : Nat → Int32} {a_hasImage : Nat → Int32} {a_tape : Nat → Int32} {a_fresh : Nat → Int32} {v_taped : Int32} {v_at : Int32} {v_behind : Int32} {v_size : Int32} {v_kind : Int32} {v_number : Int32} {v_wrong : Int32} {v_wrongAt : Int32} {v_depth : Int32} {v_steps : Int32} {v_faultKind : Int32} {v_faultPlace : Int32} {a_on : Nat → Int32} {a_many : Nat → Int32} {v_moved : Int32} {a_pile : Nat → Int32} {v_aside : Int32} {v_judgedBy : Int32} {v_judgedYear : Int32} {a_leastCost : Nat → Int32} {a_matched : Nat → Int32} {a_order : Nat → Int32} {a_lies : Nat → Int64} {a_movedThen : Nat → Int32} {a_yearTable : Nat → Int32} {a_yearMark : Nat → Int32} {a_beginTable : Nat → Int32} {a_beginMark : Nat → Int32} {v_statesTold : Int32} {v_found : Int32} {v_yearFrom : Int32} {v_mark : Int32} {v_beginsMark : Int32} {v_begins : Int32} {a_began : Nat → Int64} {v_isSpent : Int32} {a_wants : Nat → Int32} {a_rowSort : Nat → Int32} {a_rowMany : Nat → Int32} {a_numbers : Nat → Int64}  {p1 : Int64} {res : Int32} {ra_on : Nat → Int32} {ra_many : Nat → Int32} {rv_moved : Int32} {ra_pile : Nat → Int32} {rv_judgedYear : Int32} {ak av fo : Nat} {E : EvT} (hE : EvM E ak av fo) (hF : FX8_does a_all a_on a_many v_moved a_pile v_aside v_judgedYear p1 = some (res, ra_on, ra_many, rv_moved, ra_pile, rv_judgedYear)) : MM l yX8_does (ws_ yX8_does cX8_does 6 (Option.some Jvm.ClassFile.FieldType.int)) rm_X8_does D vwA (mT cA) E [.ref (ad 0), .long p1] (mW ad cA a_all a_hasImage a_tape a_fresh v_taped v_at v_behind v_size v_kind v_number v_wrong v_wrongAt v_depth v_steps v_faultKind v_faultPlace a_on a_many v_moved a_pile v_aside v_judgedBy v_judgedYear a_leastCost a_matched a_order a_lies a_movedThen a_yearTable a_yearMark a_beginTable a_beginMark v_statesTold v_found v_yearFrom v_mark v_beginsMark v_begins a_began v_isSpent a_wants a_rowSort a_rowMany a_numbers) (mW ad cA a_all a_hasImage a_tape a_fresh v_taped v_at v_behind v_size v_kind v_number v_wrong v_wrongAt v_depth v_steps v_faultKind v_faultPlace ra_on ra_many rv_moved ra_pile v_aside v_judgedBy rv_judgedYear a_leastCost a_matched a_order a_lies a_movedThen a_yearTable a_yearMark a_beginTable a_beginMark v_statesTold v_found v_yearFrom v_mark v_beginsMark v_begins a_began v_isSpent a_wants a_rowSort a_rowMany a_numbers) (some (.int res)) := by
  refine MM.ofI (by decide) (Nat.le_of_ble_eq_true rfl) ?_
  intro p e s m args below meth c Q A hX hK hE0 hret H locs ls hH hl
  have hX : CallFix p m c cX8_does 6 s args lw_all RX8 := hX
  have hx := hX.1
  have hb := hX.2.1
  have hown := hX.2.2.2.1
  have hts := hX.2.2.2.2
  have hl : lv_has ls 6 [(0, .ref (ad 0)), (1, .long p1)] := hl
  have hEv := hE.1
  delta FX8_does at hF
  refine lv_lload_n hx hb dX8_does_0 rfl (lv_at hl 1 rfl) ?_
  refine lv_ldc2 (v := (-1)) hx hb hown (hts _ q2003) dX8_does_1 ?_
  refine W.lcmp hx hb dX8_does_4 ?_
  refine lv_if_ne (tgt := 37) hx hb dX8_does_5 rfl (fun c_46 => ?_) (fun c_46 => ?_)
  · have hF := itn c_46 hF
    refine lv_lload_n hx hb dX8_does_37 rfl (lv_at hl 1 rfl) ?_
    refine lv_lconst (v := 0) hx hb dX8_does_38 rfl ?_
    refine lv_ldc2 (v := 199) hx hb hown (hts _ q2037) dX8_does_39 ?_
    obtain ⟨b_48, he, hF⟩ := bd1e hF
    refine mcS hX hK hEv hE0 hH (met_X8_within hE he) gw_StoneYearModel_153 hd_yX8_within ⟨Nat.le_of_ble_eq_true rfl, Nat.le_of_ble_eq_true rfl⟩ rfl rfl hl (Nat.le_of_ble_eq_true rfl) dX8_does_42 ⟨Nat.le_of_ble_eq_true rfl, Nat.le_of_ble_eq_true rfl⟩ (fun H locs hH => ?_)
    refine lv_if_ne (tgt := 50) hx hb dX8_does_45 rfl (fun c_49 => ?_) (fun c_49 => ?_)
    · have hF := itn c_49 hF
      refine lv_lload_n hx hb dX8_does_50 rfl (lv_at hl 1 rfl) ?_
      refine lv_l2i (v := (Int64.toInt32 p1)) hx hb dX8_does_51 rfl ?_
      refine lv_bipush (v := 100) hx hb dX8_does_52 syb_100 ?_
      refine lv_irem hx hb dX8_does_54 (by decide) ?_
      refine lv_bipush (v := 10) hx hb dX8_does_55 syb_10 ?_
      refine lv_idiv hx hb dX8_does_57 (by decide) ?_
      refine lv_istore_n (lv' := [(3, .int (((Int64.toInt32 p1) - (Int64.toInt32 p1) / 100 * 100) / 10)), (0, .ref (ad 0)), (1, .long p1)]) hx hb dX8_does_58 rfl hl (by decide) rfl (fun ls hl => ?_)
      refine lv_lload_n hx hb dX8_does_59 rfl (lv_at hl 2 rfl) ?_
      refine lv_l2i (v := (Int64.toInt32 p1)) hx hb dX8_does_60 rfl ?_
      refine lv_bipush (v := 10) hx hb dX8_does_61 syb_10 ?_
      refine lv_irem hx hb dX8_does_63 (by decide) ?_
      refine lv_istore (lv' := [(4, .int ((Int64.toInt32 p1) - (Int64.toInt32 p1) / 10 * 10)), (3, .int (((Int64.toInt32 p1) - (Int64.toInt32 p1) / 100 * 100) / 10)), (0, .ref (ad 0)), (1, .long p1)]) hx hb dX8_does_64 hl (by decide) rfl (fun ls hl => ?_)
      refine lv_lload_n hx hb dX8_does_66 rfl (lv_at hl 3 rfl) ?_
      refine lv_ldc2 (v := 100) hx hb hown (hts _ q2038) dX8_does_67 ?_
      refine W.lcmp hx hb dX8_does_70 ?_
      have j91 : ∀ (x_56 : Int32) (a_many_57 : Nat → Int32) (a_pile_58 : Nat → Int32), FX8_does_j91 a_on v_moved v_judgedYear p1 x_56 a_many_57 a_pile_58 = some (res, ra_on, ra_many, rv_moved, ra_pile, rv_judgedYear) → ∀ (H : Heap) (locs : List Loc) (ls : Array Slot), MH D vwA A s.heap (mW ad cA a_all a_hasImage a_tape a_fresh v_taped v_at v_behind v_size v_kind v_number v_wrong v_wrongAt v_depth v_steps v_faultKind v_faultPlace a_on a_many_57 v_moved a_pile_58 v_aside v_judgedBy v_judgedYear a_leastCost a_matched a_order a_lies a_movedThen a_yearTable a_yearMark a_beginTable a_beginMark v_statesTold v_found v_yearFrom v_mark v_beginsMark v_begins a_began v_isSpent a_wants a_rowSort a_rowMany a_numbers) H locs → lv_has ls 6 [(0, .ref (ad 0)), (1, .long p1), (3, .int (((Int64.toInt32 p1) - (Int64.toInt32 p1) / 100 * 100) / 10)), (4, .int ((Int64.toInt32 p1) - (Int64.toInt32 p1) / 10 * 10))] → W p l e rm_X8_does s m args below meth c H locs 0 0 Q (F0 m 91 ls [.int x_56]) := by
        intro x_56 a_many_57 a_pile_58 hF H locs ls hH hl
        delta FX8_does_j91 at hF
        refine lv_istore (lv' := [(5, .int x_56), (0, .ref (ad 0)), (1, .long p1), (3, .int (((Int64.toInt32 p1) - (Int64.toInt32 p1) / 100 * 100) / 10)), (4, .int ((Int64.toInt32 p1) - (Int64.toInt32 p1) / 10 * 10))]) hx hb dX8_does_91 hl (by decide) rfl (fun ls hl => ?_)
        refine lv_iload hx hb dX8_does_93 (lv_at hl 0 rfl) ?_
        have j116 : FX8_does_j116 a_on v_moved v_judgedYear p1 x_56 a_many_57 a_pile_58 = some (res, ra_on, ra_many, rv_moved, ra_pile, rv_judgedYear) → ∀ (H : Heap) (locs : List Loc) (ls : Array Slot), MH D vwA A s.heap (mW ad cA a_all a_hasImage a_tape a_fresh v_taped v_at v_behind v_size v_kind v_number v_wrong v_wrongAt v_depth v_steps v_faultKind v_faultPlace a_on a_many_57 v_moved a_pile_58 v_aside v_judgedBy v_judgedYear a_leastCost a_matched a_order a_lies a_movedThen a_yearTable a_yearMark a_beginTable a_beginMark v_statesTold v_found v_yearFrom v_mark v_beginsMark v_begins a_began v_isSpent a_wants a_rowSort a_rowMany a_numbers) H locs → lv_has ls 6 [(0, .ref (ad 0)), (3, .int (((Int64.toInt32 p1) - (Int64.toInt32 p1) / 100 * 100) / 10)), (4, .int ((Int64.toInt32 p1) - (Int64.toInt32 p1) / 10 * 10)), (5, .int x_56)] → W p l e rm_X8_does s m args below meth c H locs 0 0 Q (F0 m 116 ls []) := by
          intro hF H locs ls hH hl
          delta FX8_does_j116 at hF
          refine lv_iload hx hb dX8_does_116 (lv_at hl 3 rfl) ?_
          refine lv_if_ne (tgt := 128) hx hb dX8_does_118 rfl (fun c_64 => ?_) (fun c_64 => ?_)
          · have hF := itn c_64 hF
            refine lv_iload hx hb dX8_does_128 (lv_at hl 3 rfl) ?_
            obtain ⟨rfl, rfl, rfl, rfl, rfl, rfl⟩ := re6 hF
            exact hret _ _ _ _ hH dX8_does_130
          · have hF := itp c_64 hF
            refine lv_aload_n hx hb dX8_does_121 rfl (lv_at hl 0 rfl) ?_
            refine lv_iload_n hx hb dX8_does_122 rfl (lv_at hl 1 rfl) ?_
            refine lv_iload hx hb dX8_does_123 (lv_at hl 2 rfl) ?_
            obtain ⟨a_on_65, v_moved_66, he, hF⟩ := bd2e hF
            refine mcV hX hK hEv hE0 hH (met_X8_turns hE he) (mrecv hK hH) gw_StoneYearModel_281 hd_yX8_turns ⟨Nat.le_of_ble_eq_true rfl, Nat.le_of_ble_eq_true rfl⟩ rfl rfl hl (Nat.le_of_ble_eq_true rfl) dX8_does_125 ⟨Nat.le_of_ble_eq_true rfl, Nat.le_of_ble_eq_true rfl⟩ (fun H locs hH => ?_)
            refine lv_iload hx hb dX8_does_128 (lv_at hl 3 rfl) ?_
            obtain ⟨rfl, rfl, rfl, rfl, rfl, rfl⟩ := re6 hF
            exact hret _ _ _ _ hH dX8_does_130
        refine lv_if_ne (tgt := 116) hx hb dX8_does_95 rfl (fun c_59 => ?_) (fun c_59 => ?_)
        · have hF := itn c_59 hF
          exact j116 hF _ _ _ hH (lv_sub hl [1, 3, 4, 0] rfl)
        · have hF := itp c_59 hF
          refine lv_lload_n hx hb dX8_does_98 rfl (lv_at hl 2 rfl) ?_
          refine lv_ldc2 (v := 100) hx hb hown (hts _ q2038) dX8_does_99 ?_
          refine W.lcmp hx hb dX8_does_102 ?_
          refine lv_if_ge (tgt := 116) hx hb dX8_does_103 rfl (fun c_60 => ?_) (fun c_60 => ?_)
          · have hF := itp c_60 hF
            exact j116 hF _ _ _ hH (lv_sub hl [1, 3, 4, 0] rfl)
          · have hF := itn c_60 hF
            refine lv_aload_n hx hb dX8_does_106 rfl (lv_at hl 1 rfl) ?_
            refine lv_iload_n hx hb dX8_does_107 rfl (lv_at hl 3 rfl) ?_
            refine lv_iload hx hb dX8_does_108 (lv_at hl 4 rfl) ?_
            obtain ⟨a_on_61, a_many_62, v_moved_63, he, hF⟩ := bd3e hF
            refine mcV hX hK hEv hE0 hH (met_X8_carries hE he) (mrecv hK hH) gw_StoneYearModel_272 hd_yX8_carries ⟨Nat.le_of_ble_eq_true rfl, Nat.le_of_ble_eq_true rfl⟩ rfl rfl hl (Nat.le_of_ble_eq_true rfl) dX8_does_110 ⟨Nat.le_of_ble_eq_true rfl, Nat.le_of_ble_eq_true rfl⟩ (fun H locs hH => ?_)
            refine lv_goto (tgt := 128) hx hb dX8_does_113 rfl ?_
            refine lv_iload hx hb dX8_does_128 (lv_at hl 0 rfl) ?_
            obtain ⟨rfl, rfl, rfl, rfl, rfl, rfl⟩ := re6 hF
            exact hret _ _ _ _ hH dX8_does_130
      refine lv_if_ge (tgt := 84) hx hb dX8_does_71 rfl (fun c_50 => ?_) (fun c_50 => ?_)
      · have hF := itp c_50 hF
        refine lv_aload_n hx hb dX8_does_84 rfl (lv_at hl 2 rfl) ?_
        refine lv_iload_n hx hb dX8_does_85 rfl (lv_at hl 1 rfl) ?_
        refine lv_iload hx hb dX8_does_86 (lv_at hl 0 rfl) ?_
        obtain ⟨x_54, a_pile_55, he, hF⟩ := bd2e hF
        refine mcV hX hK hEv hE0 hH (met_X8_mayTurn hE he) (mrecv hK hH) gw_StoneYearModel_269 hd_yX8_mayTurn ⟨Nat.le_of_ble_eq_true rfl, Nat.le_of_ble_eq_true rfl⟩ rfl rfl hl (Nat.le_of_ble_eq_true rfl) dX8_does_88 ⟨Nat.le_of_ble_eq_true rfl, Nat.le_of_ble_eq_true rfl⟩ (fun H locs hH => ?_)
        exact j91 x_54 a_many a_pile_55 hF _ _ _ hH (lv_sub hl [2, 3, 1, 0] rfl)
      · have hF := itn c_50 hF
        refine lv_aload_n hx hb dX8_does_74 rfl (lv_at hl 2 rfl) ?_
        refine lv_iload_n hx hb dX8_does_75 rfl (lv_at hl 1 rfl) ?_
        refine lv_iload hx hb dX8_does_76 (lv_at hl 0 rfl) ?_
        obtain ⟨x_51, a_many_52, a_pile_53, he, hF⟩ := bd3e hF
        refine mcV hX hK hEv hE0 hH (met_X8_mayCarry hE he) (mrecv hK hH) gw_StoneYearModel_266 hd_yX8_mayCarry ⟨Nat.le_of_ble_eq_true rfl, Nat.le_of_ble_eq_true rfl⟩ rfl rfl hl (Nat.le_of_ble_eq_true rfl) dX8_does_78 ⟨Nat.le_of_ble_eq_true rfl, Nat.le_of_ble_eq_true rfl⟩ (fun H locs hH => ?_)
        refine lv_goto (tgt := 91) hx hb dX8_does_81 rfl ?_
        exact j91 x_51 a_many_52 a_pile_53 hF _ _ _ hH (lv_sub hl [2, 3, 1, 0] rfl)
    · have hF := itp c_49 hF
      refine lv_iconst (v := 1) hx hb dX8_does_48 syi_1 ?_
      obtain ⟨rfl, rfl, rfl, rfl, rfl, rfl⟩ := re6 hF
      exact hret _ _ _ _ hH dX8_does_49
  · have hF := itp c_46 hF
    refine lv_aload_n hx hb dX8_does_8 rfl (lv_at hl 0 rfl) ?_
    refine mg_judgedYear hX hK hH dX8_does_9 ?_
    refine lv_sipush (v := 999) hx hb dX8_does_12 sys_999 ?_
    refine lv_icmp_ne (tgt := 20) hx hb dX8_does_15 rfl (fun c_47 => ?_) (fun c_47 => ?_)
    · have hF := itn c_47 hF
      refine lv_aload_n hx hb dX8_does_20 rfl (lv_at hl 0 rfl) ?_
      refine lv_dup hx hb dX8_does_21 rfl ?_
      refine mg_judgedYear hX hK hH dX8_does_22 ?_
      refine lv_iconst (v := 1) hx hb dX8_does_25 syi_1 ?_
      refine lv_iadd hx hb dX8_does_26 ?_
      refine mp_judgedYear hX hK hH dX8_does_27 (fun H locs hH => ?_)
      refine lv_aload_n hx hb dX8_does_30 rfl (lv_at hl 0 rfl) ?_
      refine lv_iconst (v := 0) hx hb dX8_does_31 syi_0 ?_
      refine mp_moved hX hK hH dX8_does_32 (fun H locs hH => ?_)
      refine lv_iconst (v := 0) hx hb dX8_does_35 syi_0 ?_
      obtain ⟨rfl, rfl, rfl, rfl, rfl, rfl⟩ := re6 hF
      exact hret _ _ _ _ hH dX8_does_36
    · have hF := itp c_47 hF
      refine lv_iconst (v := 1) hx hb dX8_does_18 syi_1 ?_
      obtain ⟨rfl, rfl, rfl, rfl, rfl, rfl⟩ := re6 hF
      exact hret _ _ _ _ hH dX8_does_19
abbrev rm_X8_goes : Room := { frames := 4, cells := 0, slots := 0, locals := 105 }
set_option maxHeartbeats 4000000 in
theorem met_X8_goes {l : Launch} {D : va_G} {ad : Nat → Nat} {cA : Nat → ClassId} {a_all : Nat → Int32} {a_hasImage : Nat → Int32} {a_tape : Nat → Int32} {a_fresh : Nat → Int32} {v_taped : Int32} {v_at : Int32} {v_behind : Int32} {v_size : Int32} {v_kind : Int32} {v_number : Int32} {v_wrong : Int32} {v_wrongAt : Int32} {v_depth : Int32} {v_steps : Int32} {v_faultKind : Int32} {v_faultPlace : Int32} {a_on : Nat → Int32} {a_many : Nat → Int32} {v_moved : Int32} {a_pile : Nat → Int32} {v_aside : Int32} {v_judgedBy : Int32} {v_judgedYear : Int32} {a_leastCost : Nat → Int32} {a_matched : Nat → Int32} {a_order : Nat → Int32} {a_lies : Nat → Int64} {a_movedThen : Nat → Int32} {a_yearTable : Nat → Int32} {a_yearMark : Nat → Int32} {a_beginTable : Nat → Int32} {a_beginMark : Nat → Int32} {v_statesTold : Int32} {v_found : Int32} {v_yearFrom : Int32} {v_mark : Int32} {v_beginsMark : Int32} {v_begins : Int32} {a_began : Nat → Int64} {v_isSpent : Int32} {a_wants : Nat → Int32} {a_rowSort : Nat → Int32} {a_rowMany : Nat → Int32} {a_numbers : Nat → Int64}  {p1 : Int32} {res : Int32} {ra_on : Nat → Int32} {ra_many : Nat → Int32} {rv_moved : Int32} {ra_pile : Nat → Int32} {rv_judgedBy : Int32} {rv_judgedYear : Int32} {ak av fo : Nat} {E : EvT} (hE : EvM E ak av fo) (hF : FX8_goes a_all a_on a_many a_pile v_aside a_rowMany a_numbers p1 = some (res, ra_on, ra_many, rv_moved, ra_pile, rv_judgedBy, rv_judgedYear)) : MM l yX8_goes (ws_ yX8_goes cX8_goes 3 (Option.some Jvm.ClassFile.FieldType.int)) rm_X8_goes D vwA (mT cA) E [.ref (ad 0), .int p1] (mW ad cA a_all a_hasImage a_tape a_fresh v_taped v_at v_behind v_size v_kind v_number v_wrong v_wrongAt v_depth v_steps v_faultKind v_faultPlace a_on a_many v_moved a_pile v_aside v_judgedBy v_judgedYear a_leastCost a_matched a_order a_lies a_movedThen a_yearTable a_yearMark a_beginTable a_beginMark v_statesTold v_found v_yearFrom v_mark v_beginsMark v_begins a_began v_isSpent a_wants a_rowSort a_rowMany a_numbers) (mW ad cA a_all a_hasImage a_tape a_fresh v_taped v_at v_behind v_size v_kind v_number v_wrong v_wrongAt v_depth v_steps v_faultKind v_faultPlace ra_on ra_many rv_moved ra_pile v_aside rv_judgedBy rv_judgedYear a_leastCost a_matched a_order a_lies a_movedThen a_yearTable a_yearMark a_beginTable a_beginMark v_statesTold v_found v_yearFrom v_mark v_beginsMark v_begins a_began v_isSpent a_wants a_rowSort a_rowMany a_numbers) (some (.int res)) := by
  refine MM.ofI (by decide) (Nat.le_of_ble_eq_true rfl) ?_
  intro p e s m args below meth c Q A hX hK hE0 hret H locs ls hH hl
  have hX : CallFix p m c cX8_goes 3 s args lw_all RX8 := hX
  have hx := hX.1
  have hb := hX.2.1
  have hown := hX.2.2.2.1
  have hts := hX.2.2.2.2
  have hl : lv_has ls 3 [(0, .ref (ad 0)), (1, .int p1)] := hl
  have hEv := hE.1
  delta FX8_goes at hF
  refine lv_aload_n hx hb dX8_goes_0 rfl (lv_at hl 0 rfl) ?_
  obtain ⟨a_on_46, a_many_47, v_moved_48, he, hF⟩ := bd3e hF
  refine mcV hX hK hEv hE0 hH (met_X8_looksNow hE he) (mrecv hK hH) gw_StoneYearModel_260 hd_yX8_looksNow ⟨Nat.le_of_ble_eq_true rfl, Nat.le_of_ble_eq_true rfl⟩ rfl rfl hl (Nat.le_of_ble_eq_true rfl) dX8_goes_1 ⟨Nat.le_of_ble_eq_true rfl, Nat.le_of_ble_eq_true rfl⟩ (fun H locs hH => ?_)
  refine lv_aload_n hx hb dX8_goes_4 rfl (lv_at hl 0 rfl) ?_
  refine lv_aload_n hx hb dX8_goes_5 rfl (lv_at hl 0 rfl) ?_
  refine mg_all hX hK hH dX8_goes_6 ?_
  refine lv_bipush (v := 112) hx hb dX8_goes_9 syb_112 ?_
  obtain ⟨x_49, he, hF⟩ := bd1e hF
  refine ml_all hX hK hH he dX8_goes_11 ?_
  refine mp_judgedYear hX hK hH dX8_goes_12 (fun H locs hH => ?_)
  refine lv_aload_n hx hb dX8_goes_15 rfl (lv_at hl 0 rfl) ?_
  refine lv_iconst (v := 0) hx hb dX8_goes_16 syi_0 ?_
  refine mp_judgedBy hX hK hH dX8_goes_17 (fun H locs hH => ?_)
  refine lv_iconst (v := 0) hx hb dX8_goes_20 syi_0 ?_
  refine lv_istore_n (lv' := [(2, .int 0), (0, .ref (ad 0)), (1, .int p1)]) hx hb dX8_goes_21 rfl hl (by decide) rfl (fun ls hl => ?_)
  obtain ⟨xx22, ee22, kk22_0, kk22_1⟩ := bdS2e hF
  have k22_0 : ∀ (x_77 : Int32) (a_on_78 : Nat → Int32) (a_many_79 : Nat → Int32) (v_moved_80 : Int32) (a_pile_81 : Nat → Int32) (v_judgedBy_82 : Int32) (v_judgedYear_83 : Int32), xx22 = (.inl (x_77, a_on_78, a_many_79, v_moved_80, a_pile_81, v_judgedBy_82, v_judgedYear_83)) → ∀ (H : Heap) (locs : List Loc) (ls : Array Slot), MH D vwA A s.heap (mW ad cA a_all a_hasImage a_tape a_fresh v_taped v_at v_behind v_size v_kind v_number v_wrong v_wrongAt v_depth v_steps v_faultKind v_faultPlace a_on_78 a_many_79 v_moved_80 a_pile_81 v_aside v_judgedBy_82 v_judgedYear_83 a_leastCost a_matched a_order a_lies a_movedThen a_yearTable a_yearMark a_beginTable a_beginMark v_statesTold v_found v_yearFrom v_mark v_beginsMark v_begins a_began v_isSpent a_wants a_rowSort a_rowMany a_numbers) H locs → lv_has ls 3 [(2, .int x_77)] → W p l e rm_X8_goes s m args below meth c H locs 0 0 Q (F0 m 58 ls []) := by
    intro x_77 a_on_78 a_many_79 v_moved_80 a_pile_81 v_judgedBy_82 v_judgedYear_83 hxx H locs ls hH hl
    have hF := un7e (kk22_0 (x_77, a_on_78, a_many_79, v_moved_80, a_pile_81, v_judgedBy_82, v_judgedYear_83) hxx)
    refine lv_iload_n hx hb dX8_goes_58 rfl (lv_at hl 0 rfl) ?_
    obtain ⟨rfl, rfl, rfl, rfl, rfl, rfl, rfl⟩ := re7 hF
    exact hret _ _ _ _ hH dX8_goes_59
  have k22_1 : ∀ (a_on_84 : Nat → Int32) (a_many_85 : Nat → Int32) (v_moved_86 : Int32) (a_pile_87 : Nat → Int32) (v_judgedBy_88 : Int32) (v_judgedYear_89 : Int32), xx22 = (.inr (a_on_84, a_many_85, v_moved_86, a_pile_87, v_judgedBy_88, v_judgedYear_89)) → ∀ (H : Heap) (locs : List Loc) (ls : Array Slot), MH D vwA A s.heap (mW ad cA a_all a_hasImage a_tape a_fresh v_taped v_at v_behind v_size v_kind v_number v_wrong v_wrongAt v_depth v_steps v_faultKind v_faultPlace a_on_84 a_many_85 v_moved_86 a_pile_87 v_aside v_judgedBy_88 v_judgedYear_89 a_leastCost a_matched a_order a_lies a_movedThen a_yearTable a_yearMark a_beginTable a_beginMark v_statesTold v_found v_yearFrom v_mark v_beginsMark v_begins a_began v_isSpent a_wants a_rowSort a_rowMany a_numbers) H locs → lv_has ls 3 [(0, .ref (ad 0)), (1, .int p1)] → W p l e rm_X8_goes s m args below meth c H locs 0 0 Q (F0 m 66 ls []) := by
    intro a_on_84 a_many_85 v_moved_86 a_pile_87 v_judgedBy_88 v_judgedYear_89 hxx H locs ls hH hl
    have hF := un6e (kk22_1 (a_on_84, a_many_85, v_moved_86, a_pile_87, v_judgedBy_88, v_judgedYear_89) hxx)
    refine lv_aload_n hx hb dX8_goes_66 rfl (lv_at hl 0 rfl) ?_
    refine mg_rowMany hX hK hH dX8_goes_67 ?_
    refine lv_iload_n hx hb dX8_goes_70 rfl (lv_at hl 1 rfl) ?_
    obtain ⟨x_90, he, hF⟩ := bd1e hF
    refine ml_rowMany hX hK hH he dX8_goes_71 ?_
    obtain ⟨rfl, rfl, rfl, rfl, rfl, rfl, rfl⟩ := re7 hF
    exact hret _ _ _ _ hH dX8_goes_72
  obtain ⟨nn22, en22⟩ := loopC_some ee22
  have l22 : ∀ (n : Nat) (x_60 : Int32) (a_on_61 : Nat → Int32) (a_many_62 : Nat → Int32) (v_moved_63 : Int32) (a_pile_64 : Nat → Int32) (v_judgedBy_65 : Int32) (v_judgedYear_66 : Int32), loopN (fun s => FX8_goes_b22 a_all v_aside a_rowMany a_numbers p1 s.1 s.2.1 s.2.2.1 s.2.2.2.1 s.2.2.2.2.1 s.2.2.2.2.2.1 s.2.2.2.2.2.2) n (x_60, a_on_61, a_many_62, v_moved_63, a_pile_64, v_judgedBy_65, v_judgedYear_66) = some xx22 → ∀ (H : Heap) (locs : List Loc) (ls : Array Slot), MH D vwA A s.heap (mW ad cA a_all a_hasImage a_tape a_fresh v_taped v_at v_behind v_size v_kind v_number v_wrong v_wrongAt v_depth v_steps v_faultKind v_faultPlace a_on_61 a_many_62 v_moved_63 a_pile_64 v_aside v_judgedBy_65 v_judgedYear_66 a_leastCost a_matched a_order a_lies a_movedThen a_yearTable a_yearMark a_beginTable a_beginMark v_statesTold v_found v_yearFrom v_mark v_beginsMark v_begins a_began v_isSpent a_wants a_rowSort a_rowMany a_numbers) H locs → lv_has ls 3 [(0, .ref (ad 0)), (1, .int p1), (2, .int x_60)] → W p l e rm_X8_goes s m args below meth c H locs 0 0 Q (F0 m 22 ls []) := by
    intro n
    induction n with
    | zero =>
      intro x_60 a_on_61 a_many_62 v_moved_63 a_pile_64 v_judgedBy_65 v_judgedYear_66 hN
      exact absurd hN loopN_zero
    | succ n ih =>
      intro x_60 a_on_61 a_many_62 v_moved_63 a_pile_64 v_judgedBy_65 v_judgedYear_66 hN H locs ls hH hl
      obtain ⟨yy22, hB22, hY22⟩ := loopN_succ hN
      have hF : FX8_goes_b22 a_all v_aside a_rowMany a_numbers p1 x_60 a_on_61 a_many_62 v_moved_63 a_pile_64 v_judgedBy_65 v_judgedYear_66 = some yy22 := hB22
      delta FX8_goes_b22 at hF
      refine lv_iload_n hx hb dX8_goes_22 rfl (lv_at hl 2 rfl) ?_
      refine lv_aload_n hx hb dX8_goes_23 rfl (lv_at hl 0 rfl) ?_
      refine mg_rowMany hX hK hH dX8_goes_24 ?_
      refine lv_iload_n hx hb dX8_goes_27 rfl (lv_at hl 1 rfl) ?_
      obtain ⟨x_67, he, hF⟩ := bd1e hF
      refine ml_rowMany hX hK hH he dX8_goes_28 ?_
      refine lv_icmp_ge (tgt := 66) hx hb dX8_goes_29 rfl (fun c_68 => ?_) (fun c_68 => ?_)
      · have hF := itp c_68 hF
        obtain rfl := Option.some.inj hF
        exact k22_1 a_on_61 a_many_62 v_moved_63 a_pile_64 v_judgedBy_65 v_judgedYear_66 hY22 _ _ _ hH (lv_sub hl [0, 1] rfl)
      · have hF := itn c_68 hF
        refine lv_aload_n hx hb dX8_goes_32 rfl (lv_at hl 0 rfl) ?_
        refine lv_aload_n hx hb dX8_goes_33 rfl (lv_at hl 0 rfl) ?_
        refine lv_aload_n hx hb dX8_goes_34 rfl (lv_at hl 0 rfl) ?_
        refine mg_numbers hX hK hH dX8_goes_35 ?_
        refine lv_bipush (v := 40) hx hb dX8_goes_38 syb_40 ?_
        refine lv_iload_n hx hb dX8_goes_40 rfl (lv_at hl 1 rfl) ?_
        refine lv_imul hx hb dX8_goes_41 ?_
        refine lv_iload_n hx hb dX8_goes_42 rfl (lv_at hl 2 rfl) ?_
        refine lv_iadd hx hb dX8_goes_43 ?_
        obtain ⟨y_69, he, hF⟩ := bd1e hF
        refine ml_numbers hX hK hH he dX8_goes_44 ?_
        obtain ⟨x_70, a_on_71, a_many_72, v_moved_73, a_pile_74, v_judgedYear_75, he, hF⟩ := bd6e hF
        refine mcV hX hK hEv hE0 hH (met_X8_does hE he) (mrecv hK hH) gw_StoneYearModel_315 hd_yX8_does ⟨Nat.le_of_ble_eq_true rfl, Nat.le_of_ble_eq_true rfl⟩ rfl rfl hl (Nat.le_of_ble_eq_true rfl) dX8_goes_45 ⟨Nat.le_of_ble_eq_true rfl, Nat.le_of_ble_eq_true rfl⟩ (fun H locs hH => ?_)
        refine mp_judgedBy hX hK hH dX8_goes_48 (fun H locs hH => ?_)
        refine lv_aload_n hx hb dX8_goes_51 rfl (lv_at hl 0 rfl) ?_
        refine mg_judgedBy hX hK hH dX8_goes_52 ?_
        refine lv_if_eq (tgt := 60) hx hb dX8_goes_55 rfl (fun c_76 => ?_) (fun c_76 => ?_)
        · have hF := itp c_76 hF
          refine lv_iinc (v := (x_60 + 1)) (lv' := [(2, .int (x_60 + 1)), (0, .ref (ad 0)), (1, .int p1)]) hx hb dX8_goes_60 hl (k := 2) rfl (syc syi_1) (by decide) rfl (fun ls hl => ?_)
          refine lv_goto (tgt := 22) hx hb dX8_goes_63 rfl ?_
          obtain rfl := Option.some.inj hF
          exact ih (x_60 + 1) a_on_71 a_many_72 v_moved_73 a_pile_74 x_70 v_judgedYear_75 hY22 _ _ _ hH (lv_sub hl [1, 2, 0] rfl)
        · have hF := itn c_76 hF
          obtain rfl := Option.some.inj hF
          exact k22_0 x_60 a_on_71 a_many_72 v_moved_73 a_pile_74 x_70 v_judgedYear_75 hY22 _ _ _ hH (lv_sub hl [2] rfl)
  exact l22 nn22 0 a_on_46 a_many_47 v_moved_48 a_pile 0 x_49 en22 _ _ _ hH (lv_sub hl [1, 2, 0] rfl)
abbrev rm_X8_judge : Room := { frames := 5, cells := 0, slots := 0, locals := 127 }
set_option maxHeartbeats 4000000 in
theorem met_X8_judge {l : Launch} {D : va_G} {ad : Nat → Nat} {cA : Nat → ClassId} {a_all : Nat → Int32} {a_hasImage : Nat → Int32} {a_tape : Nat → Int32} {a_fresh : Nat → Int32} {v_taped : Int32} {v_at : Int32} {v_behind : Int32} {v_size : Int32} {v_kind : Int32} {v_number : Int32} {v_wrong : Int32} {v_wrongAt : Int32} {v_depth : Int32} {v_steps : Int32} {v_faultKind : Int32} {v_faultPlace : Int32} {a_on : Nat → Int32} {a_many : Nat → Int32} {v_moved : Int32} {a_pile : Nat → Int32} {v_aside : Int32} {v_judgedBy : Int32} {v_judgedYear : Int32} {a_leastCost : Nat → Int32} {a_matched : Nat → Int32} {a_order : Nat → Int32} {a_lies : Nat → Int64} {a_movedThen : Nat → Int32} {a_yearTable : Nat → Int32} {a_yearMark : Nat → Int32} {a_beginTable : Nat → Int32} {a_beginMark : Nat → Int32} {v_statesTold : Int32} {v_found : Int32} {v_yearFrom : Int32} {v_mark : Int32} {v_beginsMark : Int32} {v_begins : Int32} {a_began : Nat → Int64} {v_isSpent : Int32} {a_wants : Nat → Int32} {a_rowSort : Nat → Int32} {a_rowMany : Nat → Int32} {a_numbers : Nat → Int64}  {p1 : Int32} {p2 : Int32} {res : Int32} {ra_on : Nat → Int32} {ra_many : Nat → Int32} {rv_moved : Int32} {ra_pile : Nat → Int32} {rv_judgedBy : Int32} {rv_judgedYear : Int32} {ak av fo : Nat} {E : EvT} (hE : EvM E ak av fo) (hF : FX8_judge a_all a_on a_many v_moved a_pile v_aside v_judgedBy v_judgedYear a_rowSort a_rowMany a_numbers p1 p2 = some (res, ra_on, ra_many, rv_moved, ra_pile, rv_judgedBy, rv_judgedYear)) : MM l yX8_judge (ws_ yX8_judge cX8_judge 4 (Option.some Jvm.ClassFile.FieldType.int)) rm_X8_judge D vwA (mT cA) E [.ref (ad 0), .int p1, .int p2] (mW ad cA a_all a_hasImage a_tape a_fresh v_taped v_at v_behind v_size v_kind v_number v_wrong v_wrongAt v_depth v_steps v_faultKind v_faultPlace a_on a_many v_moved a_pile v_aside v_judgedBy v_judgedYear a_leastCost a_matched a_order a_lies a_movedThen a_yearTable a_yearMark a_beginTable a_beginMark v_statesTold v_found v_yearFrom v_mark v_beginsMark v_begins a_began v_isSpent a_wants a_rowSort a_rowMany a_numbers) (mW ad cA a_all a_hasImage a_tape a_fresh v_taped v_at v_behind v_size v_kind v_number v_wrong v_wrongAt v_depth v_steps v_faultKind v_faultPlace ra_on ra_many rv_moved ra_pile v_aside rv_judgedBy rv_judgedYear a_leastCost a_matched a_order a_lies a_movedThen a_yearTable a_yearMark a_beginTable a_beginMark v_statesTold v_found v_yearFrom v_mark v_beginsMark v_begins a_began v_isSpent a_wants a_rowSort a_rowMany a_numbers) (some (.int res)) := by
  refine MM.ofI (by decide) (Nat.le_of_ble_eq_true rfl) ?_
  intro p e s m args below meth c Q A hX hK hE0 hret H locs ls hH hl
  have hX : CallFix p m c cX8_judge 4 s args lw_all RX8 := hX
  have hx := hX.1
  have hb := hX.2.1
  have hown := hX.2.2.2.1
  have hts := hX.2.2.2.2
  have hl : lv_has ls 4 [(0, .ref (ad 0)), (1, .int p1), (2, .int p2)] := hl
  have hEv := hE.1
  delta FX8_judge at hF
  refine lv_aload_n hx hb dX8_judge_0 rfl (lv_at hl 0 rfl) ?_
  refine lv_iconst (v := 0) hx hb dX8_judge_1 syi_0 ?_
  refine mp_thrown hX hK hH dX8_judge_2 (fun H locs hH => ?_)
  refine lv_iload_n hx hb dX8_judge_5 rfl (lv_at hl 1 rfl) ?_
  refine lv_i2l (v := (Int32.toInt64 p1)) hx hb dX8_judge_6 rfl ?_
  refine lv_lconst (v := 0) hx hb dX8_judge_7 rfl ?_
  refine lv_ldc2 (v := 3) hx hb hown (hts _ q2028) dX8_judge_8 ?_
  obtain ⟨b_47, he, hF⟩ := bd1e hF
  refine mcS hX hK hEv hE0 hH (met_X8_within hE he) gw_StoneYearModel_153 hd_yX8_within ⟨Nat.le_of_ble_eq_true rfl, Nat.le_of_ble_eq_true rfl⟩ rfl rfl hl (Nat.le_of_ble_eq_true rfl) dX8_judge_11 ⟨Nat.le_of_ble_eq_true rfl, Nat.le_of_ble_eq_true rfl⟩ (fun H locs hH => ?_)
  refine lv_if_eq (tgt := 29) hx hb dX8_judge_14 rfl (fun c_48 => ?_) (fun c_48 => ?_)
  · have hF := itp c_48 hF
    refine lv_bipush (v := (-2)) hx hb dX8_judge_29 syb_m2 ?_
    obtain ⟨rfl, rfl, rfl, rfl, rfl, rfl, rfl⟩ := re7 hF
    exact hret _ _ _ _ hH dX8_judge_31
  · have hF := itn c_48 hF
    refine lv_iload_n hx hb dX8_judge_17 rfl (lv_at hl 2 rfl) ?_
    refine lv_i2l (v := (Int32.toInt64 p2)) hx hb dX8_judge_18 rfl ?_
    refine lv_lconst (v := 0) hx hb dX8_judge_19 rfl ?_
    refine lv_ldc2 (v := 3) hx hb hown (hts _ q2028) dX8_judge_20 ?_
    obtain ⟨b_49, he, hF⟩ := bd1e hF
    refine mcS hX hK hEv hE0 hH (met_X8_within hE he) gw_StoneYearModel_153 hd_yX8_within ⟨Nat.le_of_ble_eq_true rfl, Nat.le_of_ble_eq_true rfl⟩ rfl rfl hl (Nat.le_of_ble_eq_true rfl) dX8_judge_23 ⟨Nat.le_of_ble_eq_true rfl, Nat.le_of_ble_eq_true rfl⟩ (fun H locs hH => ?_)
    refine lv_if_ne (tgt := 32) hx hb dX8_judge_26 rfl (fun c_50 => ?_) (fun c_50 => ?_)
    · have hF := itn c_50 hF
      refine lv_aload_n hx hb dX8_judge_32 rfl (lv_at hl 0 rfl) ?_
      refine mg_rowSort hX hK hH dX8_judge_33 ?_
      refine lv_iload_n hx hb dX8_judge_36 rfl (lv_at hl 1 rfl) ?_
      obtain ⟨x_51, he, hF⟩ := bd1e hF
      refine ml_rowSort hX hK hH he dX8_judge_37 ?_
      refine lv_iconst (v := (-1)) hx hb dX8_judge_38 syi_m1 ?_
      refine lv_icmp_ne (tgt := 45) hx hb dX8_judge_39 rfl (fun c_52 => ?_) (fun c_52 => ?_)
      · have hF := itn c_52 hF
        refine lv_aload_n hx hb dX8_judge_45 rfl (lv_at hl 0 rfl) ?_
        refine lv_iload_n hx hb dX8_judge_46 rfl (lv_at hl 1 rfl) ?_
        obtain ⟨x_53, a_on_54, a_many_55, v_moved_56, a_pile_57, v_judgedBy_58, v_judgedYear_59, he, hF⟩ := bd7e hF
        refine mcV hX hK hEv hE0 hH (met_X8_goes hE he) (mrecv hK hH) gw_StoneYearModel_321 hd_yX8_goes ⟨Nat.le_of_ble_eq_true rfl, Nat.le_of_ble_eq_true rfl⟩ rfl rfl hl (Nat.le_of_ble_eq_true rfl) dX8_judge_47 ⟨Nat.le_of_ble_eq_true rfl, Nat.le_of_ble_eq_true rfl⟩ (fun H locs hH => ?_)
        refine lv_istore_n (lv' := [(3, .int x_53), (0, .ref (ad 0)), (1, .int p1), (2, .int p2)]) hx hb dX8_judge_50 rfl hl (by decide) rfl (fun ls hl => ?_)
        refine lv_iload_n hx hb dX8_judge_51 rfl (lv_at hl 3 rfl) ?_
        refine lv_if_ne (tgt := 70) hx hb dX8_judge_52 rfl (fun c_60 => ?_) (fun c_60 => ?_)
        · have hF := itn c_60 hF
          refine lv_iload_n hx hb dX8_judge_70 rfl (lv_at hl 3 rfl) ?_
          refine lv_iconst (v := 1) hx hb dX8_judge_71 syi_1 ?_
          refine lv_icmp_ne (tgt := 82) hx hb dX8_judge_72 rfl (fun c_62 => ?_) (fun c_62 => ?_)
          · have hF := itn c_62 hF
            refine lv_iload_n hx hb dX8_judge_82 rfl (lv_at hl 3 rfl) ?_
            refine lv_iconst (v := 2) hx hb dX8_judge_83 syi_2 ?_
            refine lv_icmp_ne (tgt := 95) hx hb dX8_judge_84 rfl (fun c_63 => ?_) (fun c_63 => ?_)
            · have hF := itn c_63 hF
              refine lv_aload_n hx hb dX8_judge_95 rfl (lv_at hl 1 rfl) ?_
              refine mg_judgedYear hX hK hH dX8_judge_96 ?_
              refine lv_aload_n hx hb dX8_judge_99 rfl (lv_at hl 1 rfl) ?_
              refine mg_all hX hK hH dX8_judge_100 ?_
              refine lv_bipush (v := 112) hx hb dX8_judge_103 syb_112 ?_
              obtain ⟨x_65, he, hF⟩ := bd1e hF
              refine ml_all hX hK hH he dX8_judge_105 ?_
              refine lv_isub hx hb dX8_judge_106 ?_
              obtain ⟨rfl, rfl, rfl, rfl, rfl, rfl, rfl⟩ := re7 hF
              exact hret _ _ _ _ hH dX8_judge_107
            · have hF := itp c_63 hF
              refine lv_aload_n hx hb dX8_judge_87 rfl (lv_at hl 1 rfl) ?_
              refine lv_iconst (v := (-1)) hx hb dX8_judge_88 syi_m1 ?_
              obtain ⟨x_64, he, hF⟩ := bd1e hF
              refine mcV hX hK hEv hE0 hH (met_X8_rights hE he) (mrecv hK hH) gw_StoneYearModel_302 hd_yX8_rights ⟨Nat.le_of_ble_eq_true rfl, Nat.le_of_ble_eq_true rfl⟩ rfl rfl hl (Nat.le_of_ble_eq_true rfl) dX8_judge_89 ⟨Nat.le_of_ble_eq_true rfl, Nat.le_of_ble_eq_true rfl⟩ (fun H locs hH => ?_)
              refine lv_goto (tgt := 107) hx hb dX8_judge_92 rfl ?_
              obtain ⟨rfl, rfl, rfl, rfl, rfl, rfl, rfl⟩ := re7 hF
              exact hret _ _ _ _ hH dX8_judge_107
          · have hF := itp c_62 hF
            refine lv_aload_n hx hb dX8_judge_75 rfl (lv_at hl 1 rfl) ?_
            refine mg_judgedBy hX hK hH dX8_judge_76 ?_
            refine lv_goto (tgt := 107) hx hb dX8_judge_79 rfl ?_
            obtain ⟨rfl, rfl, rfl, rfl, rfl, rfl, rfl⟩ := re7 hF
            exact hret _ _ _ _ hH dX8_judge_107
        · have hF := itp c_60 hF
          refine lv_aload_n hx hb dX8_judge_55 rfl (lv_at hl 1 rfl) ?_
          refine mg_judgedBy hX hK hH dX8_judge_56 ?_
          refine lv_if_ne (tgt := 66) hx hb dX8_judge_59 rfl (fun c_61 => ?_) (fun c_61 => ?_)
          · have hF := itn c_61 hF
            refine lv_iload_n hx hb dX8_judge_66 rfl (lv_at hl 0 rfl) ?_
            refine lv_goto (tgt := 107) hx hb dX8_judge_67 rfl ?_
            obtain ⟨rfl, rfl, rfl, rfl, rfl, rfl, rfl⟩ := re7 hF
            exact hret _ _ _ _ hH dX8_judge_107
          · have hF := itp c_61 hF
            refine lv_iconst (v := (-1)) hx hb dX8_judge_62 syi_m1 ?_
            refine lv_goto (tgt := 107) hx hb dX8_judge_63 rfl ?_
            obtain ⟨rfl, rfl, rfl, rfl, rfl, rfl, rfl⟩ := re7 hF
            exact hret _ _ _ _ hH dX8_judge_107
      · have hF := itp c_52 hF
        refine lv_bipush (v := (-6)) hx hb dX8_judge_42 syb_m6 ?_
        obtain ⟨rfl, rfl, rfl, rfl, rfl, rfl, rfl⟩ := re7 hF
        exact hret _ _ _ _ hH dX8_judge_44
    · have hF := itp c_50 hF
      refine lv_bipush (v := (-2)) hx hb dX8_judge_29 syb_m2 ?_
      obtain ⟨rfl, rfl, rfl, rfl, rfl, rfl, rfl⟩ := re7 hF
      exact hret _ _ _ _ hH dX8_judge_31