set_option maxRecDepth 100000
abbrev rm_X9_see : Room := { frames := 0, cells := 0, slots := 0, locals := 0 }
set_option maxHeartbeats 4000000 in
theorem met_X9_see {l : Launch} {D : va_G} {cA : Nat → ClassId} {ra x0 tp : Nat} {size : Int32} {tape : Nat → Int32} {fw : va_W} {lo : va_W} {ta ba : Nat → Nat} {v_at v_begin v_token v_value v_open v_fault v_place : Int32} {u : Nat → Int32} {nb : Int32} {bo : Nat → FcT} {p1 : Int32} {res : Int32} {E : EvT} {ks vs : Nat → Nat} {fo mi : Nat} (hE : EvR E ks vs fo mi) (hF : FX9_see size tape p1 = some res) : RX l yX9_see (ws_ yX9_see cX9_see 2 (Option.some Jvm.ClassFile.FieldType.int)) rm_X9_see D cA E [.ref ra, .int p1] (RWP cA ra x0 tp size tape fw lo ta ba v_at v_begin v_token v_value v_open v_fault v_place u nb bo) (RWP cA ra x0 tp size tape fw lo ta ba v_at v_begin v_token v_value v_open v_fault v_place u nb bo) (some (.int res)) := by
  refine RX.ofI (by decide) (Nat.le_of_ble_eq_true rfl) ?_
  intro p e s m args below meth c Q A hX hK hE0 hname hret H locs ls hH hl
  have hX : CallFix p m c cX9_see 2 s args lw_all RX9 := hX
  have hx := hX.1
  have hb := hX.2.1
  have hown := hX.2.2.2.1
  have hts := hX.2.2.2.2
  have hl : lv_has ls 2 [(0, .ref ra), (1, .int p1)] := hl
  have hEv := hE.1.1.1
  have hNW := hE.1.1.2.1 _ _ _ hE0
  delta FX9_see at hF
  refine lv_iload_n hx hb dX9_see_0 rfl (lv_at hl 1 rfl) ?_
  refine lv_aload_n hx hb dX9_see_1 rfl (lv_at hl 0 rfl) ?_
  refine rg_size hX hK hH dX9_see_2 ?_
  refine lv_icmp_ge (tgt := 24) hx hb dX9_see_5 rfl (fun c_19 => ?_) (fun c_19 => ?_)
  · have hF := itp c_19 hF
    refine lv_iconst (v := 0) hx hb dX9_see_24 kyi_0 ?_
    obtain rfl := Option.some.inj hF
    exact hret _ _ _ _ hH dX9_see_25
  · have hF := itn c_19 hF
    refine lv_aload_n hx hb dX9_see_8 rfl (lv_at hl 0 rfl) ?_
    refine rg_this hX hK hH dX9_see_9 ?_
    refine rg_tape hX hK hH hNW dX9_see_12 ?_
    refine lv_iload_n hx hb dX9_see_15 rfl (lv_at hl 1 rfl) ?_
    obtain ⟨x_20, he, hF⟩ := bd1e hF
    refine rl_tape hX hK hH he dX9_see_16 ?_
    refine lv_sipush (v := 255) hx hb dX9_see_17 kys_255 ?_
    refine lv_iand hx hb dX9_see_20 ?_
    refine lv_goto (tgt := 25) hx hb dX9_see_21 rfl ?_
    obtain rfl := Option.some.inj hF
    exact hret _ _ _ _ hH dX9_see_25
abbrev rm_X9_isSmall : Room := { frames := 1, cells := 0, slots := 0, locals := 25 }
set_option maxHeartbeats 4000000 in
theorem met_X9_isSmall {l : Launch} {D : va_G} {cA : Nat → ClassId} {ra x0 tp : Nat} {size : Int32} {tape : Nat → Int32} {fw : va_W} {lo : va_W} {ta ba : Nat → Nat} {v_at v_begin v_token v_value v_open v_fault v_place : Int32} {u : Nat → Int32} {nb : Int32} {bo : Nat → FcT} {p1 : Int32} {res : Bool} {E : EvT} {ks vs : Nat → Nat} {fo mi : Nat} (hE : EvR E ks vs fo mi) (hF : FX9_isSmall size tape p1 = some res) : RX l yX9_isSmall (ws_ yX9_isSmall cX9_isSmall 2 (Option.some Jvm.ClassFile.FieldType.boolean)) rm_X9_isSmall D cA E [.ref ra, .int p1] (RWP cA ra x0 tp size tape fw lo ta ba v_at v_begin v_token v_value v_open v_fault v_place u nb bo) (RWP cA ra x0 tp size tape fw lo ta ba v_at v_begin v_token v_value v_open v_fault v_place u nb bo) (some (.int (b2i res))) := by
  refine RX.ofZ (by decide) (Nat.le_of_ble_eq_true rfl) ?_
  intro p e s m args below meth c Q A hX hK hE0 hname hret H locs ls hH hl
  have hX : CallFix p m c cX9_isSmall 2 s args lw_all RX9 := hX
  have hx := hX.1
  have hb := hX.2.1
  have hown := hX.2.2.2.1
  have hts := hX.2.2.2.2
  have hl : lv_has ls 2 [(0, .ref ra), (1, .int p1)] := hl
  have hEv := hE.1.1.1
  have hNW := hE.1.1.2.1 _ _ _ hE0
  delta FX9_isSmall at hF
  refine lv_aload_n hx hb dX9_isSmall_0 rfl (lv_at hl 0 rfl) ?_
  refine lv_iload_n hx hb dX9_isSmall_1 rfl (lv_at hl 1 rfl) ?_
  obtain ⟨x_19, he, hF⟩ := bd1e hF
  refine rxV hX hK hEv hE0 hH (met_X9_see hE he) gw_StoneYear_Reader_42 hd_yX9_see ⟨Nat.le_of_ble_eq_true rfl, Nat.le_of_ble_eq_true rfl⟩ rfl rfl hl (Nat.le_of_ble_eq_true rfl) dX9_isSmall_2 ⟨Nat.le_of_ble_eq_true rfl, Nat.le_of_ble_eq_true rfl⟩ (fun H locs hH => ?_)
  refine lv_i2l (v := (Int32.toInt64 x_19)) hx hb dX9_isSmall_5 rfl ?_
  refine lv_ldc2 (v := 97) hx hb hown (hts _ q594) dX9_isSmall_6 ?_
  refine lv_ldc2 (v := 122) hx hb hown (hts _ q595) dX9_isSmall_9 ?_
  obtain ⟨b_20, he, hF⟩ := bd1e hF
  obtain ⟨w, hw, hm⟩ := hH
  refine mxSN hX hK hEv hE0 hm (MM.toX (met_X0_in_g (EvG_of hEv) he)) (lw_meth q529) (hNW _ nw_q596) q129 q528 hd_yX0_in ⟨Nat.le_of_ble_eq_true rfl, Nat.le_of_ble_eq_true rfl⟩ rfl rfl hl (Nat.le_of_ble_eq_true rfl) dX9_isSmall_12 ⟨Nat.le_of_ble_eq_true rfl, Nat.le_of_ble_eq_true rfl⟩ (fun w2 H locs hw2 hm => ?_)
  rw [hw2] at hm
  have hH : RHG (RWP cA ra x0 tp size tape fw lo ta ba v_at v_begin v_token v_value v_open v_fault v_place u nb bo) D A s.heap H locs := ⟨_, hw, hm⟩
  obtain rfl := Option.some.inj hF
  exact hret _ _ _ _ hH dX9_isSmall_15
abbrev rm_X9_isDigit : Room := { frames := 1, cells := 0, slots := 0, locals := 25 }
set_option maxHeartbeats 4000000 in
theorem met_X9_isDigit {l : Launch} {D : va_G} {cA : Nat → ClassId} {ra x0 tp : Nat} {size : Int32} {tape : Nat → Int32} {fw : va_W} {lo : va_W} {ta ba : Nat → Nat} {v_at v_begin v_token v_value v_open v_fault v_place : Int32} {u : Nat → Int32} {nb : Int32} {bo : Nat → FcT} {p1 : Int32} {res : Bool} {E : EvT} {ks vs : Nat → Nat} {fo mi : Nat} (hE : EvR E ks vs fo mi) (hF : FX9_isDigit size tape p1 = some res) : RX l yX9_isDigit (ws_ yX9_isDigit cX9_isDigit 2 (Option.some Jvm.ClassFile.FieldType.boolean)) rm_X9_isDigit D cA E [.ref ra, .int p1] (RWP cA ra x0 tp size tape fw lo ta ba v_at v_begin v_token v_value v_open v_fault v_place u nb bo) (RWP cA ra x0 tp size tape fw lo ta ba v_at v_begin v_token v_value v_open v_fault v_place u nb bo) (some (.int (b2i res))) := by
  refine RX.ofZ (by decide) (Nat.le_of_ble_eq_true rfl) ?_
  intro p e s m args below meth c Q A hX hK hE0 hname hret H locs ls hH hl
  have hX : CallFix p m c cX9_isDigit 2 s args lw_all RX9 := hX
  have hx := hX.1
  have hb := hX.2.1
  have hown := hX.2.2.2.1
  have hts := hX.2.2.2.2
  have hl : lv_has ls 2 [(0, .ref ra), (1, .int p1)] := hl
  have hEv := hE.1.1.1
  have hNW := hE.1.1.2.1 _ _ _ hE0
  delta FX9_isDigit at hF
  refine lv_aload_n hx hb dX9_isDigit_0 rfl (lv_at hl 0 rfl) ?_
  refine lv_iload_n hx hb dX9_isDigit_1 rfl (lv_at hl 1 rfl) ?_
  obtain ⟨x_19, he, hF⟩ := bd1e hF
  refine rxV hX hK hEv hE0 hH (met_X9_see hE he) gw_StoneYear_Reader_42 hd_yX9_see ⟨Nat.le_of_ble_eq_true rfl, Nat.le_of_ble_eq_true rfl⟩ rfl rfl hl (Nat.le_of_ble_eq_true rfl) dX9_isDigit_2 ⟨Nat.le_of_ble_eq_true rfl, Nat.le_of_ble_eq_true rfl⟩ (fun H locs hH => ?_)
  refine lv_i2l (v := (Int32.toInt64 x_19)) hx hb dX9_isDigit_5 rfl ?_
  refine lv_ldc2 (v := 48) hx hb hown (hts _ q601) dX9_isDigit_6 ?_
  refine lv_ldc2 (v := 57) hx hb hown (hts _ q602) dX9_isDigit_9 ?_
  obtain ⟨b_20, he, hF⟩ := bd1e hF
  obtain ⟨w, hw, hm⟩ := hH
  refine mxSN hX hK hEv hE0 hm (MM.toX (met_X0_in_g (EvG_of hEv) he)) (lw_meth q529) (hNW _ nw_q596) q129 q528 hd_yX0_in ⟨Nat.le_of_ble_eq_true rfl, Nat.le_of_ble_eq_true rfl⟩ rfl rfl hl (Nat.le_of_ble_eq_true rfl) dX9_isDigit_12 ⟨Nat.le_of_ble_eq_true rfl, Nat.le_of_ble_eq_true rfl⟩ (fun w2 H locs hw2 hm => ?_)
  rw [hw2] at hm
  have hH : RHG (RWP cA ra x0 tp size tape fw lo ta ba v_at v_begin v_token v_value v_open v_fault v_place u nb bo) D A s.heap H locs := ⟨_, hw, hm⟩
  obtain rfl := Option.some.inj hF
  exact hret _ _ _ _ hH dX9_isDigit_15
abbrev rm_X9_next : Room := { frames := 2, cells := 0, slots := 0, locals := 46 }
set_option maxHeartbeats 4000000 in
theorem met_X9_next {l : Launch} {D : va_G} {cA : Nat → ClassId} {ra x0 tp : Nat} {size : Int32} {tape : Nat → Int32} {fw : va_W} {lo : va_W} {ta ba : Nat → Nat} {v_at v_begin v_token v_value v_open v_fault v_place : Int32} {u : Nat → Int32} {nb : Int32} {bo : Nat → FcT}  {rv_at : Int32} {rv_begin : Int32} {rv_token : Int32} {rv_value : Int32} {E : EvT} {ks vs : Nat → Nat} {fo mi : Nat} (hE : EvR E ks vs fo mi) (hF : FX9_next size tape v_at v_value = some (rv_at, rv_begin, rv_token, rv_value)) : RX l yX9_next (ws_ yX9_next cX9_next 2 (Option.none : Option Jvm.ClassFile.FieldType)) rm_X9_next D cA E [.ref ra] (RWP cA ra x0 tp size tape fw lo ta ba v_at v_begin v_token v_value v_open v_fault v_place u nb bo) (RWP cA ra x0 tp size tape fw lo ta ba rv_at rv_begin rv_token rv_value v_open v_fault v_place u nb bo) none := by
  refine RX.ofV (by decide) (Nat.le_of_ble_eq_true rfl) ?_
  intro p e s m args below meth c Q A hX hK hE0 hname hret H locs ls hH hl
  have hX : CallFix p m c cX9_next 2 s args lw_all RX9 := hX
  have hx := hX.1
  have hb := hX.2.1
  have hown := hX.2.2.2.1
  have hts := hX.2.2.2.2
  have hl : lv_has ls 2 [(0, .ref ra)] := hl
  have hEv := hE.1.1.1
  have hNW := hE.1.1.2.1 _ _ _ hE0
  delta FX9_next at hF
  obtain ⟨xx0, ee0, kk0_0⟩ := bd1L hF
  have k0_0 : ∀ (v_at_29 : Int32), xx0 = v_at_29 → ∀ (H : Heap) (locs : List Loc) (ls : Array Slot), RHG (RWP cA ra x0 tp size tape fw lo ta ba v_at_29 v_begin v_token v_value v_open v_fault v_place u nb bo) D A s.heap H locs → lv_has ls 2 [(0, .ref ra)] → W p l e rm_X9_next s m args below meth c H locs 0 0 Q (F0 m 50 ls []) := by
    intro v_at_29 hxx H locs ls hH hl
    have hF := un1e (kk0_0 v_at_29 hxx)
    refine lv_aload_n hx hb dX9_next_50 rfl (lv_at hl 0 rfl) ?_
    refine lv_aload_n hx hb dX9_next_51 rfl (lv_at hl 0 rfl) ?_
    refine rg_at hX hK hH dX9_next_52 ?_
    refine rp_begin hX hK hH dX9_next_55 (fun H locs hH => ?_)
    refine lv_aload_n hx hb dX9_next_58 rfl (lv_at hl 0 rfl) ?_
    refine rg_at hX hK hH dX9_next_59 ?_
    refine lv_aload_n hx hb dX9_next_62 rfl (lv_at hl 0 rfl) ?_
    refine rg_size hX hK hH dX9_next_63 ?_
    refine lv_icmp_lt (tgt := 77) hx hb dX9_next_66 rfl (fun c_30 => ?_) (fun c_30 => ?_)
    · have hF := itp c_30 hF
      refine lv_aload_n hx hb dX9_next_77 rfl (lv_at hl 0 rfl) ?_
      refine lv_aload_n hx hb dX9_next_78 rfl (lv_at hl 0 rfl) ?_
      refine rg_at hX hK hH dX9_next_79 ?_
      obtain ⟨b_31, he, hF⟩ := bd1e hF
      refine rxV hX hK hEv hE0 hH (met_X9_isSmall hE he) gw_StoneYear_Reader_67 hd_yX9_isSmall ⟨Nat.le_of_ble_eq_true rfl, Nat.le_of_ble_eq_true rfl⟩ rfl rfl hl (Nat.le_of_ble_eq_true rfl) dX9_next_82 ⟨Nat.le_of_ble_eq_true rfl, Nat.le_of_ble_eq_true rfl⟩ (fun H locs hH => ?_)
      refine lv_if_eq (tgt := 120) hx hb dX9_next_85 rfl (fun c_32 => ?_) (fun c_32 => ?_)
      · have hF := itp c_32 hF
        refine lv_aload_n hx hb dX9_next_120 rfl (lv_at hl 0 rfl) ?_
        refine lv_aload_n hx hb dX9_next_121 rfl (lv_at hl 0 rfl) ?_
        refine rg_at hX hK hH dX9_next_122 ?_
        obtain ⟨b_39, he, hF⟩ := bd1e hF
        refine rxV hX hK hEv hE0 hH (met_X9_isDigit hE he) gw_StoneYear_Reader_71 hd_yX9_isDigit ⟨Nat.le_of_ble_eq_true rfl, Nat.le_of_ble_eq_true rfl⟩ rfl rfl hl (Nat.le_of_ble_eq_true rfl) dX9_next_125 ⟨Nat.le_of_ble_eq_true rfl, Nat.le_of_ble_eq_true rfl⟩ (fun H locs hH => ?_)
        refine lv_if_eq (tgt := 221) hx hb dX9_next_128 rfl (fun c_40 => ?_) (fun c_40 => ?_)
        · have hF := itp c_40 hF
          refine lv_aload_n hx hb dX9_next_221 rfl (lv_at hl 0 rfl) ?_
          refine lv_aload_n hx hb dX9_next_222 rfl (lv_at hl 0 rfl) ?_
          refine rg_at hX hK hH dX9_next_223 ?_
          obtain ⟨x_57, he, hF⟩ := bd1e hF
          refine rxV hX hK hEv hE0 hH (met_X9_see hE he) gw_StoneYear_Reader_42 hd_yX9_see ⟨Nat.le_of_ble_eq_true rfl, Nat.le_of_ble_eq_true rfl⟩ rfl rfl hl (Nat.le_of_ble_eq_true rfl) dX9_next_226 ⟨Nat.le_of_ble_eq_true rfl, Nat.le_of_ble_eq_true rfl⟩ (fun H locs hH => ?_)
          refine lv_istore_n (lv' := [(1, .int x_57), (0, .ref ra)]) hx hb dX9_next_229 rfl hl (by decide) rfl (fun ls hl => ?_)
          refine lv_aload_n hx hb dX9_next_230 rfl (lv_at hl 1 rfl) ?_
          refine lv_dup hx hb dX9_next_231 rfl ?_
          refine rg_at hX hK hH dX9_next_232 ?_
          refine lv_iconst (v := 1) hx hb dX9_next_235 kyi_1 ?_
          refine lv_iadd hx hb dX9_next_236 ?_
          refine rp_at hX hK hH dX9_next_237 (fun H locs hH => ?_)
          refine lv_aload_n hx hb dX9_next_240 rfl (lv_at hl 1 rfl) ?_
          refine lv_iload_n hx hb dX9_next_241 rfl (lv_at hl 0 rfl) ?_
          refine lv_bipush (v := 59) hx hb dX9_next_242 kyb_59 ?_
          have j264 : ∀ (x_61 : Int32), FX9_next_j264 v_value v_at_29 x_61 = some (rv_at, rv_begin, rv_token, rv_value) → ∀ (H : Heap) (locs : List Loc) (ls : Array Slot), RHG (RWP cA ra x0 tp size tape fw lo ta ba (v_at_29 + 1) v_at_29 v_token v_value v_open v_fault v_place u nb bo) D A s.heap H locs → lv_has ls 2 [] → W p l e rm_X9_next s m args below meth c H locs 0 0 Q (F0 m 264 ls [.int x_61, .ref ra]) := by
            intro x_61 hF H locs ls hH hl
            delta FX9_next_j264 at hF
            refine rp_token hX hK hH dX9_next_264 (fun H locs hH => ?_)
            obtain ⟨rfl, rfl, rfl, rfl⟩ := re4 hF
            exact hret _ _ _ _ hH dX9_next_267
          have j259 : FX9_next_j259 v_value v_at_29 x_57 = some (rv_at, rv_begin, rv_token, rv_value) → ∀ (H : Heap) (locs : List Loc) (ls : Array Slot), RHG (RWP cA ra x0 tp size tape fw lo ta ba (v_at_29 + 1) v_at_29 v_token v_value v_open v_fault v_place u nb bo) D A s.heap H locs → lv_has ls 2 [(1, .int x_57)] → W p l e rm_X9_next s m args below meth c H locs 0 0 Q (F0 m 259 ls [.ref ra]) := by
            intro hF H locs ls hH hl
            delta FX9_next_j259 at hF
            refine lv_iload_n hx hb dX9_next_259 rfl (lv_at hl 0 rfl) ?_
            refine lv_goto (tgt := 264) hx hb dX9_next_260 rfl ?_
            exact j264 x_57 hF _ _ _ hH (lv_sub hl [] rfl)
          refine lv_icmp_eq (tgt := 259) hx hb dX9_next_244 rfl (fun c_58 => ?_) (fun c_58 => ?_)
          · have hF := itp c_58 hF
            exact j259 hF _ _ _ hH (lv_sub hl [0] rfl)
          · have hF := itn c_58 hF
            refine lv_iload_n hx hb dX9_next_247 rfl (lv_at hl 0 rfl) ?_
            refine lv_bipush (v := 40) hx hb dX9_next_248 kyb_40 ?_
            refine lv_icmp_eq (tgt := 259) hx hb dX9_next_250 rfl (fun c_59 => ?_) (fun c_59 => ?_)
            · have hF := itp c_59 hF
              exact j259 hF _ _ _ hH (lv_sub hl [0] rfl)
            · have hF := itn c_59 hF
              refine lv_iload_n hx hb dX9_next_253 rfl (lv_at hl 0 rfl) ?_
              refine lv_bipush (v := 41) hx hb dX9_next_254 kyb_41 ?_
              refine lv_icmp_ne (tgt := 263) hx hb dX9_next_256 rfl (fun c_60 => ?_) (fun c_60 => ?_)
              · have hF := itn c_60 hF
                refine lv_iconst (v := 3) hx hb dX9_next_263 kyi_3 ?_
                exact j264 3 hF _ _ _ hH (lv_sub hl [] rfl)
              · have hF := itp c_60 hF
                exact j259 hF _ _ _ hH (lv_sub hl [0] rfl)
        · have hF := itn c_40 hF
          refine lv_aload_n hx hb dX9_next_131 rfl (lv_at hl 0 rfl) ?_
          refine lv_iconst (v := 0) hx hb dX9_next_132 kyi_0 ?_
          refine rp_value hX hK hH dX9_next_133 (fun H locs hH => ?_)
          obtain ⟨xx136, ee136, kk136_0⟩ := bd2L hF
          have k136_0 : ∀ (v_at_53 : Int32) (v_value_54 : Int32), xx136 = (v_at_53, v_value_54) → ∀ (H : Heap) (locs : List Loc) (ls : Array Slot), RHG (RWP cA ra x0 tp size tape fw lo ta ba v_at_53 v_at_29 v_token v_value_54 v_open v_fault v_place u nb bo) D A s.heap H locs → lv_has ls 2 [(0, .ref ra)] → W p l e rm_X9_next s m args below meth c H locs 0 0 Q (F0 m 196 ls []) := by
            intro v_at_53 v_value_54 hxx H locs ls hH hl
            have hF := un2e (kk136_0 (v_at_53, v_value_54) hxx)
            refine lv_aload_n hx hb dX9_next_196 rfl (lv_at hl 0 rfl) ?_
            refine lv_aload_n hx hb dX9_next_197 rfl (lv_at hl 0 rfl) ?_
            refine rg_at hX hK hH dX9_next_198 ?_
            refine lv_aload_n hx hb dX9_next_201 rfl (lv_at hl 0 rfl) ?_
            refine rg_begin hX hK hH dX9_next_202 ?_
            refine lv_isub hx hb dX9_next_205 ?_
            refine lv_iconst (v := 3) hx hb dX9_next_206 kyi_3 ?_
            have j215 : ∀ (x_56 : Int32), FX9_next_j215 v_at_29 v_at_53 v_value_54 x_56 = some (rv_at, rv_begin, rv_token, rv_value) → ∀ (H : Heap) (locs : List Loc) (ls : Array Slot), RHG (RWP cA ra x0 tp size tape fw lo ta ba v_at_53 v_at_29 v_token v_value_54 v_open v_fault v_place u nb bo) D A s.heap H locs → lv_has ls 2 [] → W p l e rm_X9_next s m args below meth c H locs 0 0 Q (F0 m 215 ls [.int x_56, .ref ra]) := by
              intro x_56 hF H locs ls hH hl
              delta FX9_next_j215 at hF
              refine rp_token hX hK hH dX9_next_215 (fun H locs hH => ?_)
              refine lv_goto (tgt := 267) hx hb dX9_next_218 rfl ?_
              obtain ⟨rfl, rfl, rfl, rfl⟩ := re4 hF
              exact hret _ _ _ _ hH dX9_next_267
            refine lv_icmp_le (tgt := 214) hx hb dX9_next_207 rfl (fun c_55 => ?_) (fun c_55 => ?_)
            · have hF := itp c_55 hF
              refine lv_iconst (v := 2) hx hb dX9_next_214 kyi_2 ?_
              exact j215 2 hF _ _ _ hH (lv_sub hl [] rfl)
            · have hF := itn c_55 hF
              refine lv_iconst (v := 3) hx hb dX9_next_210 kyi_3 ?_
              refine lv_goto (tgt := 215) hx hb dX9_next_211 rfl ?_
              exact j215 3 hF _ _ _ hH (lv_sub hl [] rfl)
          obtain ⟨nn136, en136⟩ := loopC_some ee136
          have l136 : ∀ (n : Nat) (v_at_46 : Int32) (v_value_47 : Int32), loopN (fun s => FX9_next_b136 size tape v_at_29 s.1 s.2) n (v_at_46, v_value_47) = some xx136 → ∀ (H : Heap) (locs : List Loc) (ls : Array Slot), RHG (RWP cA ra x0 tp size tape fw lo ta ba v_at_46 v_at_29 v_token v_value_47 v_open v_fault v_place u nb bo) D A s.heap H locs → lv_has ls 2 [(0, .ref ra)] → W p l e rm_X9_next s m args below meth c H locs 0 0 Q (F0 m 136 ls []) := by
            intro n
            induction n with
            | zero =>
              intro v_at_46 v_value_47 hN
              exact absurd hN loopN_zero
            | succ n ih =>
              intro v_at_46 v_value_47 hN H locs ls hH hl
              obtain ⟨yy136, hB136, hY136⟩ := loopN_succ hN
              have hF : FX9_next_b136 size tape v_at_29 v_at_46 v_value_47 = some yy136 := hB136
              delta FX9_next_b136 at hF
              refine lv_aload_n hx hb dX9_next_136 rfl (lv_at hl 0 rfl) ?_
              refine lv_aload_n hx hb dX9_next_137 rfl (lv_at hl 0 rfl) ?_
              refine rg_at hX hK hH dX9_next_138 ?_
              obtain ⟨b_48, he, hF⟩ := bd1e hF
              refine rxV hX hK hEv hE0 hH (met_X9_isDigit hE he) gw_StoneYear_Reader_71 hd_yX9_isDigit ⟨Nat.le_of_ble_eq_true rfl, Nat.le_of_ble_eq_true rfl⟩ rfl rfl hl (Nat.le_of_ble_eq_true rfl) dX9_next_141 ⟨Nat.le_of_ble_eq_true rfl, Nat.le_of_ble_eq_true rfl⟩ (fun H locs hH => ?_)
              refine lv_if_eq (tgt := 196) hx hb dX9_next_144 rfl (fun c_49 => ?_) (fun c_49 => ?_)
              · have hF := itp c_49 hF
                obtain rfl := Option.some.inj hF
                exact k136_0 v_at_46 v_value_47 hY136 _ _ _ hH (lv_sub hl [0] rfl)
              · have hF := itn c_49 hF
                refine lv_aload_n hx hb dX9_next_147 rfl (lv_at hl 0 rfl) ?_
                refine rg_at hX hK hH dX9_next_148 ?_
                refine lv_aload_n hx hb dX9_next_151 rfl (lv_at hl 0 rfl) ?_
                refine rg_begin hX hK hH dX9_next_152 ?_
                refine lv_isub hx hb dX9_next_155 ?_
                refine lv_iconst (v := 3) hx hb dX9_next_156 kyi_3 ?_
                have j183 : ∀ (v_value_52 : Int32), FX9_next_j183 v_at_46 v_value_52 = some yy136 → ∀ (H : Heap) (locs : List Loc) (ls : Array Slot), RHG (RWP cA ra x0 tp size tape fw lo ta ba v_at_46 v_at_29 v_token v_value_52 v_open v_fault v_place u nb bo) D A s.heap H locs → lv_has ls 2 [(0, .ref ra)] → W p l e rm_X9_next s m args below meth c H locs 0 0 Q (F0 m 183 ls []) := by
                  intro v_value_52 hF H locs ls hH hl
                  delta FX9_next_j183 at hF
                  refine lv_aload_n hx hb dX9_next_183 rfl (lv_at hl 0 rfl) ?_
                  refine lv_dup hx hb dX9_next_184 rfl ?_
                  refine rg_at hX hK hH dX9_next_185 ?_
                  refine lv_iconst (v := 1) hx hb dX9_next_188 kyi_1 ?_
                  refine lv_iadd hx hb dX9_next_189 ?_
                  refine rp_at hX hK hH dX9_next_190 (fun H locs hH => ?_)
                  refine lv_goto (tgt := 136) hx hb dX9_next_193 rfl ?_
                  obtain rfl := Option.some.inj hF
                  exact ih (v_at_46 + 1) v_value_52 hY136 _ _ _ hH (lv_sub hl [0] rfl)
                refine lv_icmp_ge (tgt := 183) hx hb dX9_next_157 rfl (fun c_50 => ?_) (fun c_50 => ?_)
                · have hF := itp c_50 hF
                  exact j183 v_value_47 hF _ _ _ hH (lv_sub hl [0] rfl)
                · have hF := itn c_50 hF
                  refine lv_aload_n hx hb dX9_next_160 rfl (lv_at hl 0 rfl) ?_
                  refine lv_bipush (v := 10) hx hb dX9_next_161 kyb_10 ?_
                  refine lv_aload_n hx hb dX9_next_163 rfl (lv_at hl 0 rfl) ?_
                  refine rg_value hX hK hH dX9_next_164 ?_
                  refine lv_imul hx hb dX9_next_167 ?_
                  refine lv_aload_n hx hb dX9_next_168 rfl (lv_at hl 0 rfl) ?_
                  refine lv_aload_n hx hb dX9_next_169 rfl (lv_at hl 0 rfl) ?_
                  refine rg_at hX hK hH dX9_next_170 ?_
                  obtain ⟨x_51, he, hF⟩ := bd1e hF
                  refine rxV hX hK hEv hE0 hH (met_X9_see hE he) gw_StoneYear_Reader_42 hd_yX9_see ⟨Nat.le_of_ble_eq_true rfl, Nat.le_of_ble_eq_true rfl⟩ rfl rfl hl (Nat.le_of_ble_eq_true rfl) dX9_next_173 ⟨Nat.le_of_ble_eq_true rfl, Nat.le_of_ble_eq_true rfl⟩ (fun H locs hH => ?_)
                  refine lv_iadd hx hb dX9_next_176 ?_
                  refine lv_bipush (v := 48) hx hb dX9_next_177 kyb_48 ?_
                  refine lv_isub hx hb dX9_next_179 ?_
                  refine rp_value hX hK hH dX9_next_180 (fun H locs hH => ?_)
                  exact j183 (((10 * v_value_47) + x_51) - 48) hF _ _ _ hH (lv_sub hl [0] rfl)
          exact l136 nn136 v_at_29 0 en136 _ _ _ hH (lv_sub hl [0] rfl)
      · have hF := itn c_32 hF
        obtain ⟨xx88, ee88, kk88_0⟩ := bd1L hF
        have k88_0 : ∀ (v_at_38 : Int32), xx88 = v_at_38 → ∀ (H : Heap) (locs : List Loc) (ls : Array Slot), RHG (RWP cA ra x0 tp size tape fw lo ta ba v_at_38 v_at_29 v_token v_value v_open v_fault v_place u nb bo) D A s.heap H locs → lv_has ls 2 [(0, .ref ra)] → W p l e rm_X9_next s m args below meth c H locs 0 0 Q (F0 m 112 ls []) := by
          intro v_at_38 hxx H locs ls hH hl
          have hF := un1e (kk88_0 v_at_38 hxx)
          refine lv_aload_n hx hb dX9_next_112 rfl (lv_at hl 0 rfl) ?_
          refine lv_iconst (v := 1) hx hb dX9_next_113 kyi_1 ?_
          refine rp_token hX hK hH dX9_next_114 (fun H locs hH => ?_)
          refine lv_goto (tgt := 267) hx hb dX9_next_117 rfl ?_
          obtain ⟨rfl, rfl, rfl, rfl⟩ := re4 hF
          exact hret _ _ _ _ hH dX9_next_267
        obtain ⟨nn88, en88⟩ := loopC_some ee88
        have l88 : ∀ (n : Nat) (v_at_35 : Int32), loopN (fun s => FX9_next_b88 size tape s) n v_at_35 = some xx88 → ∀ (H : Heap) (locs : List Loc) (ls : Array Slot), RHG (RWP cA ra x0 tp size tape fw lo ta ba v_at_35 v_at_29 v_token v_value v_open v_fault v_place u nb bo) D A s.heap H locs → lv_has ls 2 [(0, .ref ra)] → W p l e rm_X9_next s m args below meth c H locs 0 0 Q (F0 m 88 ls []) := by
          intro n
          induction n with
          | zero =>
            intro v_at_35 hN
            exact absurd hN loopN_zero
          | succ n ih =>
            intro v_at_35 hN H locs ls hH hl
            obtain ⟨yy88, hB88, hY88⟩ := loopN_succ hN
            have hF : FX9_next_b88 size tape v_at_35 = some yy88 := hB88
            delta FX9_next_b88 at hF
            refine lv_aload_n hx hb dX9_next_88 rfl (lv_at hl 0 rfl) ?_
            refine lv_aload_n hx hb dX9_next_89 rfl (lv_at hl 0 rfl) ?_
            refine rg_at hX hK hH dX9_next_90 ?_
            obtain ⟨b_36, he, hF⟩ := bd1e hF
            refine rxV hX hK hEv hE0 hH (met_X9_isSmall hE he) gw_StoneYear_Reader_67 hd_yX9_isSmall ⟨Nat.le_of_ble_eq_true rfl, Nat.le_of_ble_eq_true rfl⟩ rfl rfl hl (Nat.le_of_ble_eq_true rfl) dX9_next_93 ⟨Nat.le_of_ble_eq_true rfl, Nat.le_of_ble_eq_true rfl⟩ (fun H locs hH => ?_)
            refine lv_if_eq (tgt := 112) hx hb dX9_next_96 rfl (fun c_37 => ?_) (fun c_37 => ?_)
            · have hF := itp c_37 hF
              obtain rfl := Option.some.inj hF
              exact k88_0 v_at_35 hY88 _ _ _ hH (lv_sub hl [0] rfl)
            · have hF := itn c_37 hF
              refine lv_aload_n hx hb dX9_next_99 rfl (lv_at hl 0 rfl) ?_
              refine lv_dup hx hb dX9_next_100 rfl ?_
              refine rg_at hX hK hH dX9_next_101 ?_
              refine lv_iconst (v := 1) hx hb dX9_next_104 kyi_1 ?_
              refine lv_iadd hx hb dX9_next_105 ?_
              refine rp_at hX hK hH dX9_next_106 (fun H locs hH => ?_)
              refine lv_goto (tgt := 88) hx hb dX9_next_109 rfl ?_
              obtain rfl := Option.some.inj hF
              exact ih (v_at_35 + 1) hY88 _ _ _ hH (lv_sub hl [0] rfl)
        exact l88 nn88 v_at_29 en88 _ _ _ hH (lv_sub hl [0] rfl)
    · have hF := itn c_30 hF
      refine lv_aload_n hx hb dX9_next_69 rfl (lv_at hl 0 rfl) ?_
      refine lv_iconst (v := 0) hx hb dX9_next_70 kyi_0 ?_
      refine rp_token hX hK hH dX9_next_71 (fun H locs hH => ?_)
      refine lv_goto (tgt := 267) hx hb dX9_next_74 rfl ?_
      obtain ⟨rfl, rfl, rfl, rfl⟩ := re4 hF
      exact hret _ _ _ _ hH dX9_next_267
  obtain ⟨nn0, en0⟩ := loopC_some ee0
  have l0 : ∀ (n : Nat) (v_at_23 : Int32), loopN (fun s => FX9_next_b0 size tape s) n v_at_23 = some xx0 → ∀ (H : Heap) (locs : List Loc) (ls : Array Slot), RHG (RWP cA ra x0 tp size tape fw lo ta ba v_at_23 v_begin v_token v_value v_open v_fault v_place u nb bo) D A s.heap H locs → lv_has ls 2 [(0, .ref ra)] → W p l e rm_X9_next s m args below meth c H locs 0 0 Q (F0 m 0 ls []) := by
    intro n
    induction n with
    | zero =>
      intro v_at_23 hN
      exact absurd hN loopN_zero
    | succ n ih =>
      intro v_at_23 hN H locs ls hH hl
      obtain ⟨yy0, hB0, hY0⟩ := loopN_succ hN
      have hF : FX9_next_b0 size tape v_at_23 = some yy0 := hB0
      delta FX9_next_b0 at hF
      refine lv_aload_n hx hb dX9_next_0 rfl (lv_at hl 0 rfl) ?_
      refine rg_at hX hK hH dX9_next_1 ?_
      refine lv_aload_n hx hb dX9_next_4 rfl (lv_at hl 0 rfl) ?_
      refine rg_size hX hK hH dX9_next_5 ?_
      refine lv_icmp_ge (tgt := 50) hx hb dX9_next_8 rfl (fun c_24 => ?_) (fun c_24 => ?_)
      · have hF := itp c_24 hF
        obtain rfl := Option.some.inj hF
        exact k0_0 v_at_23 hY0 _ _ _ hH (lv_sub hl [0] rfl)
      · have hF := itn c_24 hF
        refine lv_aload_n hx hb dX9_next_11 rfl (lv_at hl 0 rfl) ?_
        refine lv_aload_n hx hb dX9_next_12 rfl (lv_at hl 0 rfl) ?_
        refine rg_at hX hK hH dX9_next_13 ?_
        obtain ⟨x_25, he, hF⟩ := bd1e hF
        refine rxV hX hK hEv hE0 hH (met_X9_see hE he) gw_StoneYear_Reader_42 hd_yX9_see ⟨Nat.le_of_ble_eq_true rfl, Nat.le_of_ble_eq_true rfl⟩ rfl rfl hl (Nat.le_of_ble_eq_true rfl) dX9_next_16 ⟨Nat.le_of_ble_eq_true rfl, Nat.le_of_ble_eq_true rfl⟩ (fun H locs hH => ?_)
        refine lv_bipush (v := 32) hx hb dX9_next_19 kyb_32 ?_
        have j37 : FX9_next_j37 v_at_23 = some yy0 → ∀ (H : Heap) (locs : List Loc) (ls : Array Slot), RHG (RWP cA ra x0 tp size tape fw lo ta ba v_at_23 v_begin v_token v_value v_open v_fault v_place u nb bo) D A s.heap H locs → lv_has ls 2 [(0, .ref ra)] → W p l e rm_X9_next s m args below meth c H locs 0 0 Q (F0 m 37 ls []) := by
          intro hF H locs ls hH hl
          delta FX9_next_j37 at hF
          refine lv_aload_n hx hb dX9_next_37 rfl (lv_at hl 0 rfl) ?_
          refine lv_dup hx hb dX9_next_38 rfl ?_
          refine rg_at hX hK hH dX9_next_39 ?_
          refine lv_iconst (v := 1) hx hb dX9_next_42 kyi_1 ?_
          refine lv_iadd hx hb dX9_next_43 ?_
          refine rp_at hX hK hH dX9_next_44 (fun H locs hH => ?_)
          refine lv_goto (tgt := 0) hx hb dX9_next_47 rfl ?_
          obtain rfl := Option.some.inj hF
          exact ih (v_at_23 + 1) hY0 _ _ _ hH (lv_sub hl [0] rfl)
        refine lv_icmp_eq (tgt := 37) hx hb dX9_next_21 rfl (fun c_26 => ?_) (fun c_26 => ?_)
        · have hF := itp c_26 hF
          exact j37 hF _ _ _ hH (lv_sub hl [0] rfl)
        · have hF := itn c_26 hF
          refine lv_aload_n hx hb dX9_next_24 rfl (lv_at hl 0 rfl) ?_
          refine lv_aload_n hx hb dX9_next_25 rfl (lv_at hl 0 rfl) ?_
          refine rg_at hX hK hH dX9_next_26 ?_
          obtain ⟨x_27, he, hF⟩ := bd1e hF
          refine rxV hX hK hEv hE0 hH (met_X9_see hE he) gw_StoneYear_Reader_42 hd_yX9_see ⟨Nat.le_of_ble_eq_true rfl, Nat.le_of_ble_eq_true rfl⟩ rfl rfl hl (Nat.le_of_ble_eq_true rfl) dX9_next_29 ⟨Nat.le_of_ble_eq_true rfl, Nat.le_of_ble_eq_true rfl⟩ (fun H locs hH => ?_)
          refine lv_bipush (v := 10) hx hb dX9_next_32 kyb_10 ?_
          refine lv_icmp_ne (tgt := 50) hx hb dX9_next_34 rfl (fun c_28 => ?_) (fun c_28 => ?_)
          · have hF := itn c_28 hF
            obtain rfl := Option.some.inj hF
            exact k0_0 v_at_23 hY0 _ _ _ hH (lv_sub hl [0] rfl)
          · have hF := itp c_28 hF
            exact j37 hF _ _ _ hH (lv_sub hl [0] rfl)
  exact l0 nn0 v_at en0 _ _ _ hH (lv_sub hl [0] rfl)
abbrev rm_X9_wrong : Room := { frames := 0, cells := 0, slots := 0, locals := 0 }
set_option maxHeartbeats 4000000 in
theorem met_X9_wrong {l : Launch} {D : va_G} {cA : Nat → ClassId} {ra x0 tp : Nat} {size : Int32} {tape : Nat → Int32} {fw : va_W} {lo : va_W} {ta ba : Nat → Nat} {v_at v_begin v_token v_value v_open v_fault v_place : Int32} {u : Nat → Int32} {nb : Int32} {bo : Nat → FcT} {p1 : Int32} {rv_fault : Int32} {rv_place : Int32} {E : EvT} {ks vs : Nat → Nat} {fo mi : Nat} (hE : EvR E ks vs fo mi) (hF : FX9_wrong v_begin v_token v_fault v_place p1 = some (rv_fault, rv_place)) : RX l yX9_wrong (ws_ yX9_wrong cX9_wrong 2 (Option.none : Option Jvm.ClassFile.FieldType)) rm_X9_wrong D cA E [.ref ra, .int p1] (RWP cA ra x0 tp size tape fw lo ta ba v_at v_begin v_token v_value v_open v_fault v_place u nb bo) (RWP cA ra x0 tp size tape fw lo ta ba v_at v_begin v_token v_value v_open rv_fault rv_place u nb bo) none := by
  refine RX.ofV (by decide) (Nat.le_of_ble_eq_true rfl) ?_
  intro p e s m args below meth c Q A hX hK hE0 hname hret H locs ls hH hl
  have hX : CallFix p m c cX9_wrong 2 s args lw_all RX9 := hX
  have hx := hX.1
  have hb := hX.2.1
  have hown := hX.2.2.2.1
  have hts := hX.2.2.2.2
  have hl : lv_has ls 2 [(0, .ref ra), (1, .int p1)] := hl
  have hEv := hE.1.1.1
  have hNW := hE.1.1.2.1 _ _ _ hE0
  delta FX9_wrong at hF
  refine lv_aload_n hx hb dX9_wrong_0 rfl (lv_at hl 0 rfl) ?_
  refine rg_fault hX hK hH dX9_wrong_1 ?_
  refine lv_if_eq (tgt := 8) hx hb dX9_wrong_4 rfl (fun c_19 => ?_) (fun c_19 => ?_)
  · have hF := itp c_19 hF
    refine lv_aload_n hx hb dX9_wrong_8 rfl (lv_at hl 0 rfl) ?_
    refine lv_aload_n hx hb dX9_wrong_9 rfl (lv_at hl 0 rfl) ?_
    refine rg_token hX hK hH dX9_wrong_10 ?_
    refine lv_iconst (v := 3) hx hb dX9_wrong_13 kyi_3 ?_
    have j22 : ∀ (x_21 : Int32), FX9_wrong_j22 v_begin x_21 = some (rv_fault, rv_place) → ∀ (H : Heap) (locs : List Loc) (ls : Array Slot), RHG (RWP cA ra x0 tp size tape fw lo ta ba v_at v_begin v_token v_value v_open v_fault v_place u nb bo) D A s.heap H locs → lv_has ls 2 [(0, .ref ra)] → W p l e rm_X9_wrong s m args below meth c H locs 0 0 Q (F0 m 22 ls [.int x_21, .ref ra]) := by
      intro x_21 hF H locs ls hH hl
      delta FX9_wrong_j22 at hF
      refine rp_fault hX hK hH dX9_wrong_22 (fun H locs hH => ?_)
      refine lv_aload_n hx hb dX9_wrong_25 rfl (lv_at hl 0 rfl) ?_
      refine lv_aload_n hx hb dX9_wrong_26 rfl (lv_at hl 0 rfl) ?_
      refine rg_begin hX hK hH dX9_wrong_27 ?_
      refine rp_place hX hK hH dX9_wrong_30 (fun H locs hH => ?_)
      obtain ⟨rfl, rfl⟩ := re2 hF
      exact hret _ _ _ _ hH dX9_wrong_33
    refine lv_icmp_ne (tgt := 21) hx hb dX9_wrong_14 rfl (fun c_20 => ?_) (fun c_20 => ?_)
    · have hF := itn c_20 hF
      refine lv_iload_n hx hb dX9_wrong_21 rfl (lv_at hl 1 rfl) ?_
      exact j22 p1 hF _ _ _ hH (lv_sub hl [0] rfl)
    · have hF := itp c_20 hF
      refine lv_iconst (v := 1) hx hb dX9_wrong_17 kyi_1 ?_
      refine lv_goto (tgt := 22) hx hb dX9_wrong_18 rfl ?_
      exact j22 1 hF _ _ _ hH (lv_sub hl [0] rfl)
  · have hF := itn c_19 hF
    obtain ⟨rfl, rfl⟩ := re2 hF
    exact hret _ _ _ _ hH dX9_wrong_7
abbrev rm_X9_is : Room := { frames := 4, cells := 0, slots := 0, locals := 85 }
set_option maxHeartbeats 4000000 in
theorem met_X9_is {l : Launch} {D : va_G} {cA : Nat → ClassId} {ra x0 tp : Nat} {size : Int32} {tape : Nat → Int32} {fw : va_W} {lo : va_W} {ta ba : Nat → Nat} {v_at v_begin v_token v_value v_open v_fault v_place : Int32} {u : Nat → Int32} {nb : Int32} {bo : Nat → FcT}  {res : Bool} {ak av kn : Nat} {kb : Nat → Int32} {E : EvT} {ks vs : Nat → Nat} {fo mi : Nat} (hE : EvR E ks vs fo mi) (hS : EvS E ak av fo kn kb) (hF : FX9_is size tape kn kb v_at v_begin v_token v_fault = some res) : RX l yX9_is (ws_ yX9_is cX9_is 3 (Option.some Jvm.ClassFile.FieldType.boolean)) rm_X9_is D cA E [.ref ra, .ref ak] (RWP cA ra x0 tp size tape fw lo ta ba v_at v_begin v_token v_value v_open v_fault v_place u nb bo) (RWP cA ra x0 tp size tape fw lo ta ba v_at v_begin v_token v_value v_open v_fault v_place u nb bo) (some (.int (b2i res))) := by
  refine RX.ofZ (by decide) (Nat.le_of_ble_eq_true rfl) ?_
  intro p e s m args below meth c Q A hX hK hE0 hname hret H locs ls hH hl
  have hX : CallFix p m c cX9_is 3 s args lw_all RX9 := hX
  have hx := hX.1
  have hb := hX.2.1
  have hown := hX.2.2.2.1
  have hts := hX.2.2.2.2
  have hl : lv_has ls 3 [(0, .ref ra), (1, .ref ak)] := hl
  have hEv := hE.1.1.1
  have hNW := hE.1.1.2.1 _ _ _ hE0
  delta FX9_is at hF
  refine lv_aload_n hx hb dX9_is_0 rfl (lv_at hl 0 rfl) ?_
  refine rg_fault hX hK hH dX9_is_1 ?_
  refine lv_if_ne (tgt := 31) hx hb dX9_is_4 rfl (fun c_18 => ?_) (fun c_18 => ?_)
  · have hF := itn c_18 hF
    refine lv_iconst (v := 0) hx hb dX9_is_31 kyi_0 ?_
    obtain rfl := Option.some.inj hF
    exact hret _ _ _ _ hH dX9_is_32
  · have hF := itp c_18 hF
    refine lv_aload_n hx hb dX9_is_7 rfl (lv_at hl 0 rfl) ?_
    refine rg_token hX hK hH dX9_is_8 ?_
    refine lv_iconst (v := 1) hx hb dX9_is_11 kyi_1 ?_
    refine lv_icmp_ne (tgt := 31) hx hb dX9_is_12 rfl (fun c_19 => ?_) (fun c_19 => ?_)
    · have hF := itn c_19 hF
      refine lv_iconst (v := 0) hx hb dX9_is_31 kyi_0 ?_
      obtain rfl := Option.some.inj hF
      exact hret _ _ _ _ hH dX9_is_32
    · have hF := itp c_19 hF
      refine lv_aload_n hx hb dX9_is_15 rfl (lv_at hl 0 rfl) ?_
      refine rg_at hX hK hH dX9_is_16 ?_
      refine lv_aload_n hx hb dX9_is_19 rfl (lv_at hl 0 rfl) ?_
      refine rg_begin hX hK hH dX9_is_20 ?_
      refine lv_isub hx hb dX9_is_23 ?_
      refine lv_aload_n hx hb dX9_is_24 rfl (lv_at hl 1 rfl) ?_
      obtain ⟨x_20, he, hF⟩ := bd1e hF
      obtain ⟨w, hw, hm⟩ := hH
      refine mxV hX hK hEv hE0 hm (MM.toX (met_J5_length hS he)) (srecv (hS.2 _ _ _ hE0) hm) gw_StoneYear_Reader_80 hd_yJ5_length ⟨Nat.le_of_ble_eq_true rfl, Nat.le_of_ble_eq_true rfl⟩ rfl rfl hl (Nat.le_of_ble_eq_true rfl) dX9_is_25 ⟨Nat.le_of_ble_eq_true rfl, Nat.le_of_ble_eq_true rfl⟩ (fun w2 H locs hw2 hm => ?_)
      rw [hw2] at hm
      have hH : RHG (RWP cA ra x0 tp size tape fw lo ta ba v_at v_begin v_token v_value v_open v_fault v_place u nb bo) D A s.heap H locs := ⟨_, hw, hm⟩
      refine lv_icmp_eq (tgt := 33) hx hb dX9_is_28 rfl (fun c_21 => ?_) (fun c_21 => ?_)
      · have hF := itp c_21 hF
        refine lv_iconst (v := 0) hx hb dX9_is_33 kyi_0 ?_
        refine lv_istore_n (lv' := [(2, .int 0), (0, .ref ra), (1, .ref ak)]) hx hb dX9_is_34 rfl hl (by decide) rfl (fun ls hl => ?_)
        obtain ⟨xx35, ee35, kk35_0, kk35_1⟩ := bdS2e hF
        have k35_0 : xx35 = (.inl ()) → ∀ (H : Heap) (locs : List Loc) (ls : Array Slot), RHG (RWP cA ra x0 tp size tape fw lo ta ba v_at v_begin v_token v_value v_open v_fault v_place u nb bo) D A s.heap H locs → lv_has ls 3 [] → W p l e rm_X9_is s m args below meth c H locs 0 0 Q (F0 m 61 ls []) := by
          intro hxx H locs ls hH hl
          have hF := un0e (kk35_0 () hxx)
          refine lv_iconst (v := 0) hx hb dX9_is_61 kyi_0 ?_
          obtain rfl := Option.some.inj hF
          exact hret _ _ _ _ hH dX9_is_62
        have k35_1 : xx35 = (.inr ()) → ∀ (H : Heap) (locs : List Loc) (ls : Array Slot), RHG (RWP cA ra x0 tp size tape fw lo ta ba v_at v_begin v_token v_value v_open v_fault v_place u nb bo) D A s.heap H locs → lv_has ls 3 [] → W p l e rm_X9_is s m args below meth c H locs 0 0 Q (F0 m 69 ls []) := by
          intro hxx H locs ls hH hl
          have hF := un0e (kk35_1 () hxx)
          refine lv_iconst (v := 1) hx hb dX9_is_69 kyi_1 ?_
          obtain rfl := Option.some.inj hF
          exact hret _ _ _ _ hH dX9_is_70
        obtain ⟨nn35, en35⟩ := loopC_some ee35
        have l35 : ∀ (n : Nat) (x_27 : Int32), loopN (fun s => FX9_is_b35 v_begin size tape kn kb s) n x_27 = some xx35 → ∀ (H : Heap) (locs : List Loc) (ls : Array Slot), RHG (RWP cA ra x0 tp size tape fw lo ta ba v_at v_begin v_token v_value v_open v_fault v_place u nb bo) D A s.heap H locs → lv_has ls 3 [(0, .ref ra), (1, .ref ak), (2, .int x_27)] → W p l e rm_X9_is s m args below meth c H locs 0 0 Q (F0 m 35 ls []) := by
          intro n
          induction n with
          | zero =>
            intro x_27 hN
            exact absurd hN loopN_zero
          | succ n ih =>
            intro x_27 hN H locs ls hH hl
            obtain ⟨yy35, hB35, hY35⟩ := loopN_succ hN
            have hF : FX9_is_b35 v_begin size tape kn kb x_27 = some yy35 := hB35
            delta FX9_is_b35 at hF
            refine lv_iload_n hx hb dX9_is_35 rfl (lv_at hl 2 rfl) ?_
            refine lv_aload_n hx hb dX9_is_36 rfl (lv_at hl 1 rfl) ?_
            obtain ⟨x_28, he, hF⟩ := bd1e hF
            obtain ⟨w, hw, hm⟩ := hH
            refine mxV hX hK hEv hE0 hm (MM.toX (met_J5_length hS he)) (srecv (hS.2 _ _ _ hE0) hm) gw_StoneYear_Reader_80 hd_yJ5_length ⟨Nat.le_of_ble_eq_true rfl, Nat.le_of_ble_eq_true rfl⟩ rfl rfl hl (Nat.le_of_ble_eq_true rfl) dX9_is_37 ⟨Nat.le_of_ble_eq_true rfl, Nat.le_of_ble_eq_true rfl⟩ (fun w2 H locs hw2 hm => ?_)
            rw [hw2] at hm
            have hH : RHG (RWP cA ra x0 tp size tape fw lo ta ba v_at v_begin v_token v_value v_open v_fault v_place u nb bo) D A s.heap H locs := ⟨_, hw, hm⟩
            refine lv_icmp_ge (tgt := 69) hx hb dX9_is_40 rfl (fun c_29 => ?_) (fun c_29 => ?_)
            · have hF := itp c_29 hF
              obtain rfl := Option.some.inj hF
              exact k35_1 hY35 _ _ _ hH (lv_sub hl [] rfl)
            · have hF := itn c_29 hF
              refine lv_aload_n hx hb dX9_is_43 rfl (lv_at hl 0 rfl) ?_
              refine lv_aload_n hx hb dX9_is_44 rfl (lv_at hl 0 rfl) ?_
              refine rg_begin hX hK hH dX9_is_45 ?_
              refine lv_iload_n hx hb dX9_is_48 rfl (lv_at hl 2 rfl) ?_
              refine lv_iadd hx hb dX9_is_49 ?_
              obtain ⟨x_30, he, hF⟩ := bd1e hF
              refine rxV hX hK hEv hE0 hH (met_X9_see hE he) gw_StoneYear_Reader_42 hd_yX9_see ⟨Nat.le_of_ble_eq_true rfl, Nat.le_of_ble_eq_true rfl⟩ rfl rfl hl (Nat.le_of_ble_eq_true rfl) dX9_is_50 ⟨Nat.le_of_ble_eq_true rfl, Nat.le_of_ble_eq_true rfl⟩ (fun H locs hH => ?_)
              refine lv_aload_n hx hb dX9_is_53 rfl (lv_at hl 1 rfl) ?_
              refine lv_iload_n hx hb dX9_is_54 rfl (lv_at hl 2 rfl) ?_
              obtain ⟨x_31, he, hF⟩ := bd1e hF
              obtain ⟨w, hw, hm⟩ := hH
              refine mxV hX hK hEv hE0 hm (MM.toX (met_J5_charAt (nar_J5_charAt he) hS he)) (srecv (hS.2 _ _ _ hE0) hm) gw_StoneYear_Reader_86 hd_yJ5_charAt ⟨Nat.le_of_ble_eq_true rfl, Nat.le_of_ble_eq_true rfl⟩ rfl rfl hl (Nat.le_of_ble_eq_true rfl) dX9_is_55 ⟨Nat.le_of_ble_eq_true rfl, Nat.le_of_ble_eq_true rfl⟩ (fun w2 H locs hw2 hm => ?_)
              rw [hw2] at hm
              have hH : RHG (RWP cA ra x0 tp size tape fw lo ta ba v_at v_begin v_token v_value v_open v_fault v_place u nb bo) D A s.heap H locs := ⟨_, hw, hm⟩
              refine lv_icmp_eq (tgt := 63) hx hb dX9_is_58 rfl (fun c_32 => ?_) (fun c_32 => ?_)
              · have hF := itp c_32 hF
                refine lv_iinc (v := (x_27 + 1)) (lv' := [(2, .int (x_27 + 1)), (0, .ref ra), (1, .ref ak)]) hx hb dX9_is_63 hl (k := 2) rfl (syc kyi_1) (by decide) rfl (fun ls hl => ?_)
                refine lv_goto (tgt := 35) hx hb dX9_is_66 rfl ?_
                obtain rfl := Option.some.inj hF
                exact ih (x_27 + 1) hY35 _ _ _ hH (lv_sub hl [1, 2, 0] rfl)
              · have hF := itn c_32 hF
                obtain rfl := Option.some.inj hF
                exact k35_0 hY35 _ _ _ hH (lv_sub hl [] rfl)
        exact l35 nn35 0 en35 _ _ _ hH (lv_sub hl [1, 2, 0] rfl)
      · have hF := itn c_21 hF
        refine lv_iconst (v := 0) hx hb dX9_is_31 kyi_0 ?_
        obtain rfl := Option.some.inj hF
        exact hret _ _ _ _ hH dX9_is_32
abbrev rm_X9_takes : Room := { frames := 5, cells := 0, slots := 0, locals := 107 }
set_option maxHeartbeats 4000000 in
theorem met_X9_takes {l : Launch} {D : va_G} {cA : Nat → ClassId} {ra x0 tp : Nat} {size : Int32} {tape : Nat → Int32} {fw : va_W} {lo : va_W} {ta ba : Nat → Nat} {v_at v_begin v_token v_value v_open v_fault v_place : Int32} {u : Nat → Int32} {nb : Int32} {bo : Nat → FcT}  {res : Bool} {rv_at : Int32} {rv_begin : Int32} {rv_token : Int32} {rv_value : Int32} {ak av kn : Nat} {kb : Nat → Int32} {E : EvT} {ks vs : Nat → Nat} {fo mi : Nat} (hE : EvR E ks vs fo mi) (hS : EvS E ak av fo kn kb) (hF : FX9_takes size tape kn kb v_at v_begin v_token v_value v_fault = some (res, rv_at, rv_begin, rv_token, rv_value)) : RX l yX9_takes (ws_ yX9_takes cX9_takes 2 (Option.some Jvm.ClassFile.FieldType.boolean)) rm_X9_takes D cA E [.ref ra, .ref ak] (RWP cA ra x0 tp size tape fw lo ta ba v_at v_begin v_token v_value v_open v_fault v_place u nb bo) (RWP cA ra x0 tp size tape fw lo ta ba rv_at rv_begin rv_token rv_value v_open v_fault v_place u nb bo) (some (.int (b2i res))) := by
  refine RX.ofZ (by decide) (Nat.le_of_ble_eq_true rfl) ?_
  intro p e s m args below meth c Q A hX hK hE0 hname hret H locs ls hH hl
  have hX : CallFix p m c cX9_takes 2 s args lw_all RX9 := hX
  have hx := hX.1
  have hb := hX.2.1
  have hown := hX.2.2.2.1
  have hts := hX.2.2.2.2
  have hl : lv_has ls 2 [(0, .ref ra), (1, .ref ak)] := hl
  have hEv := hE.1.1.1
  have hNW := hE.1.1.2.1 _ _ _ hE0
  delta FX9_takes at hF
  refine lv_aload_n hx hb dX9_takes_0 rfl (lv_at hl 0 rfl) ?_
  refine lv_aload_n hx hb dX9_takes_1 rfl (lv_at hl 1 rfl) ?_
  obtain ⟨b_18, he, hF⟩ := bd1e hF
  refine rxV hX hK hEv hE0 hH (met_X9_is hE hS he) gw_StoneYear_Reader_90 hd_yX9_is ⟨Nat.le_of_ble_eq_true rfl, Nat.le_of_ble_eq_true rfl⟩ rfl rfl hl (Nat.le_of_ble_eq_true rfl) dX9_takes_2 ⟨Nat.le_of_ble_eq_true rfl, Nat.le_of_ble_eq_true rfl⟩ (fun H locs hH => ?_)
  refine lv_if_ne (tgt := 10) hx hb dX9_takes_5 rfl (fun c_19 => ?_) (fun c_19 => ?_)
  · have hF := itn c_19 hF
    refine lv_aload_n hx hb dX9_takes_10 rfl (lv_at hl 0 rfl) ?_
    obtain ⟨v_at_20, v_begin_21, v_token_22, v_value_23, he, hF⟩ := bd4e hF
    refine rxV hX hK hEv hE0 hH (met_X9_next hE he) gw_StoneYear_Reader_94 hd_yX9_next ⟨Nat.le_of_ble_eq_true rfl, Nat.le_of_ble_eq_true rfl⟩ rfl rfl hl (Nat.le_of_ble_eq_true rfl) dX9_takes_11 ⟨Nat.le_of_ble_eq_true rfl, Nat.le_of_ble_eq_true rfl⟩ (fun H locs hH => ?_)
    refine lv_iconst (v := 1) hx hb dX9_takes_14 kyi_1 ?_
    obtain ⟨rfl, rfl, rfl, rfl, rfl⟩ := re5 hF
    exact hret _ _ _ _ hH dX9_takes_15
  · have hF := itp c_19 hF
    refine lv_iconst (v := 0) hx hb dX9_takes_8 kyi_0 ?_
    obtain ⟨rfl, rfl, rfl, rfl, rfl⟩ := re5 hF
    exact hret _ _ _ _ hH dX9_takes_9
abbrev rm_X9_need : Room := { frames := 6, cells := 0, slots := 0, locals := 128 }
set_option maxHeartbeats 4000000 in
theorem met_X9_need {l : Launch} {D : va_G} {cA : Nat → ClassId} {ra x0 tp : Nat} {size : Int32} {tape : Nat → Int32} {fw : va_W} {lo : va_W} {ta ba : Nat → Nat} {v_at v_begin v_token v_value v_open v_fault v_place : Int32} {u : Nat → Int32} {nb : Int32} {bo : Nat → FcT}  {rv_at : Int32} {rv_begin : Int32} {rv_token : Int32} {rv_value : Int32} {rv_fault : Int32} {rv_place : Int32} {ak av kn : Nat} {kb : Nat → Int32} {E : EvT} {ks vs : Nat → Nat} {fo mi : Nat} (hE : EvR E ks vs fo mi) (hS : EvS E ak av fo kn kb) (hF : FX9_need size tape kn kb v_at v_begin v_token v_value v_fault v_place = some (rv_at, rv_begin, rv_token, rv_value, rv_fault, rv_place)) : RX l yX9_need (ws_ yX9_need cX9_need 2 (Option.none : Option Jvm.ClassFile.FieldType)) rm_X9_need D cA E [.ref ra, .ref ak] (RWP cA ra x0 tp size tape fw lo ta ba v_at v_begin v_token v_value v_open v_fault v_place u nb bo) (RWP cA ra x0 tp size tape fw lo ta ba rv_at rv_begin rv_token rv_value v_open rv_fault rv_place u nb bo) none := by
  refine RX.ofV (by decide) (Nat.le_of_ble_eq_true rfl) ?_
  intro p e s m args below meth c Q A hX hK hE0 hname hret H locs ls hH hl
  have hX : CallFix p m c cX9_need 2 s args lw_all RX9 := hX
  have hx := hX.1
  have hb := hX.2.1
  have hown := hX.2.2.2.1
  have hts := hX.2.2.2.2
  have hl : lv_has ls 2 [(0, .ref ra), (1, .ref ak)] := hl
  have hEv := hE.1.1.1
  have hNW := hE.1.1.2.1 _ _ _ hE0
  delta FX9_need at hF
  refine lv_aload_n hx hb dX9_need_0 rfl (lv_at hl 0 rfl) ?_
  refine lv_aload_n hx hb dX9_need_1 rfl (lv_at hl 1 rfl) ?_
  obtain ⟨b_18, v_at_19, v_begin_20, v_token_21, v_value_22, he, hF⟩ := bd5e hF
  refine rxV hX hK hEv hE0 hH (met_X9_takes hE hS he) gw_StoneYear_Reader_97 hd_yX9_takes ⟨Nat.le_of_ble_eq_true rfl, Nat.le_of_ble_eq_true rfl⟩ rfl rfl hl (Nat.le_of_ble_eq_true rfl) dX9_need_2 ⟨Nat.le_of_ble_eq_true rfl, Nat.le_of_ble_eq_true rfl⟩ (fun H locs hH => ?_)
  refine lv_if_ne (tgt := 13) hx hb dX9_need_5 rfl (fun c_23 => ?_) (fun c_23 => ?_)
  · have hF := itn c_23 hF
    obtain ⟨rfl, rfl, rfl, rfl, rfl, rfl⟩ := re6 hF
    exact hret _ _ _ _ hH dX9_need_13
  · have hF := itp c_23 hF
    refine lv_aload_n hx hb dX9_need_8 rfl (lv_at hl 0 rfl) ?_
    refine lv_iconst (v := 2) hx hb dX9_need_9 kyi_2 ?_
    obtain ⟨v_fault_24, v_place_25, he, hF⟩ := bd2e hF
    refine rxV hX hK hEv hE0 hH (met_X9_wrong hE he) gw_StoneYear_Reader_100 hd_yX9_wrong ⟨Nat.le_of_ble_eq_true rfl, Nat.le_of_ble_eq_true rfl⟩ rfl rfl hl (Nat.le_of_ble_eq_true rfl) dX9_need_10 ⟨Nat.le_of_ble_eq_true rfl, Nat.le_of_ble_eq_true rfl⟩ (fun H locs hH => ?_)
    obtain ⟨rfl, rfl, rfl, rfl, rfl, rfl⟩ := re6 hF
    exact hret _ _ _ _ hH dX9_need_13
abbrev rm_X9_seen : Room := { frames := 1, cells := 0, slots := 0, locals := 25 }
set_option maxHeartbeats 4000000 in
theorem met_X9_seen {l : Launch} {D : va_G} {cA : Nat → ClassId} {ra x0 tp : Nat} {size : Int32} {tape : Nat → Int32} {fw : va_W} {lo : va_W} {ta ba : Nat → Nat} {v_at v_begin v_token v_value v_open v_fault v_place : Int32} {u : Nat → Int32} {nb : Int32} {bo : Nat → FcT} {p1 : Int32} {p2 : Int32} {res : Bool} {rv_fault : Int32} {rv_place : Int32} {E : EvT} {ks vs : Nat → Nat} {fo mi : Nat} (hE : EvR E ks vs fo mi) (hF : FX9_seen v_begin v_token v_value v_fault v_place p1 p2 = some (res, rv_fault, rv_place)) : RX l yX9_seen (ws_ yX9_seen cX9_seen 3 (Option.some Jvm.ClassFile.FieldType.boolean)) rm_X9_seen D cA E [.ref ra, .int p1, .int p2] (RWP cA ra x0 tp size tape fw lo ta ba v_at v_begin v_token v_value v_open v_fault v_place u nb bo) (RWP cA ra x0 tp size tape fw lo ta ba v_at v_begin v_token v_value v_open rv_fault rv_place u nb bo) (some (.int (b2i res))) := by
  refine RX.ofZ (by decide) (Nat.le_of_ble_eq_true rfl) ?_
  intro p e s m args below meth c Q A hX hK hE0 hname hret H locs ls hH hl
  have hX : CallFix p m c cX9_seen 3 s args lw_all RX9 := hX
  have hx := hX.1
  have hb := hX.2.1
  have hown := hX.2.2.2.1
  have hts := hX.2.2.2.2
  have hl : lv_has ls 3 [(0, .ref ra), (1, .int p1), (2, .int p2)] := hl
  have hEv := hE.1.1.1
  have hNW := hE.1.1.2.1 _ _ _ hE0
  delta FX9_seen at hF
  refine lv_aload_n hx hb dX9_seen_0 rfl (lv_at hl 0 rfl) ?_
  refine rg_fault hX hK hH dX9_seen_1 ?_
  have j20 : ∀ (v_fault_24 : Int32) (v_place_25 : Int32), FX9_seen_j20 v_begin v_token v_value p1 p2 v_fault_24 v_place_25 = some (res, rv_fault, rv_place) → ∀ (H : Heap) (locs : List Loc) (ls : Array Slot), RHG (RWP cA ra x0 tp size tape fw lo ta ba v_at v_begin v_token v_value v_open v_fault_24 v_place_25 u nb bo) D A s.heap H locs → lv_has ls 3 [(0, .ref ra), (1, .int p1), (2, .int p2)] → W p l e rm_X9_seen s m args below meth c H locs 0 0 Q (F0 m 20 ls []) := by
    intro v_fault_24 v_place_25 hF H locs ls hH hl
    delta FX9_seen_j20 at hF
    refine lv_aload_n hx hb dX9_seen_20 rfl (lv_at hl 0 rfl) ?_
    refine rg_fault hX hK hH dX9_seen_21 ?_
    have j47 : ∀ (v_fault_31 : Int32) (v_place_32 : Int32), FX9_seen_j47 v_fault_31 v_place_32 = some (res, rv_fault, rv_place) → ∀ (H : Heap) (locs : List Loc) (ls : Array Slot), RHG (RWP cA ra x0 tp size tape fw lo ta ba v_at v_begin v_token v_value v_open v_fault_31 v_place_32 u nb bo) D A s.heap H locs → lv_has ls 3 [(0, .ref ra)] → W p l e rm_X9_seen s m args below meth c H locs 0 0 Q (F0 m 47 ls []) := by
      intro v_fault_31 v_place_32 hF H locs ls hH hl
      delta FX9_seen_j47 at hF
      refine lv_aload_n hx hb dX9_seen_47 rfl (lv_at hl 0 rfl) ?_
      refine rg_fault hX hK hH dX9_seen_48 ?_
      refine lv_if_ne (tgt := 58) hx hb dX9_seen_51 rfl (fun c_33 => ?_) (fun c_33 => ?_)
      · have hF := itn c_33 hF
        refine lv_iconst (v := 0) hx hb dX9_seen_58 kyi_0 ?_
        obtain ⟨rfl, rfl, rfl⟩ := re3 hF
        exact hret _ _ _ _ hH dX9_seen_59
      · have hF := itp c_33 hF
        refine lv_iconst (v := 1) hx hb dX9_seen_54 kyi_1 ?_
        refine lv_goto (tgt := 59) hx hb dX9_seen_55 rfl ?_
        obtain ⟨rfl, rfl, rfl⟩ := re3 hF
        exact hret _ _ _ _ hH dX9_seen_59
    refine lv_if_ne (tgt := 47) hx hb dX9_seen_24 rfl (fun c_26 => ?_) (fun c_26 => ?_)
    · have hF := itn c_26 hF
      exact j47 v_fault_24 v_place_25 hF _ _ _ hH (lv_sub hl [0] rfl)
    · have hF := itp c_26 hF
      refine lv_aload_n hx hb dX9_seen_27 rfl (lv_at hl 0 rfl) ?_
      refine rg_value hX hK hH dX9_seen_28 ?_
      refine lv_i2l (v := (Int32.toInt64 v_value)) hx hb dX9_seen_31 rfl ?_
      refine lv_iload_n hx hb dX9_seen_32 rfl (lv_at hl 1 rfl) ?_
      refine lv_i2l (v := (Int32.toInt64 p1)) hx hb dX9_seen_33 rfl ?_
      refine lv_iload_n hx hb dX9_seen_34 rfl (lv_at hl 2 rfl) ?_
      refine lv_i2l (v := (Int32.toInt64 p2)) hx hb dX9_seen_35 rfl ?_
      obtain ⟨b_27, he, hF⟩ := bd1e hF
      obtain ⟨w, hw, hm⟩ := hH
      refine mxSN hX hK hEv hE0 hm (MM.toX (met_X0_in_g (EvG_of hEv) he)) (lw_meth q529) (hNW _ nw_q596) q129 q528 hd_yX0_in ⟨Nat.le_of_ble_eq_true rfl, Nat.le_of_ble_eq_true rfl⟩ rfl rfl hl (Nat.le_of_ble_eq_true rfl) dX9_seen_36 ⟨Nat.le_of_ble_eq_true rfl, Nat.le_of_ble_eq_true rfl⟩ (fun w2 H locs hw2 hm => ?_)
      rw [hw2] at hm
      have hH : RHG (RWP cA ra x0 tp size tape fw lo ta ba v_at v_begin v_token v_value v_open v_fault_24 v_place_25 u nb bo) D A s.heap H locs := ⟨_, hw, hm⟩
      refine lv_if_ne (tgt := 47) hx hb dX9_seen_39 rfl (fun c_28 => ?_) (fun c_28 => ?_)
      · have hF := itn c_28 hF
        exact j47 v_fault_24 v_place_25 hF _ _ _ hH (lv_sub hl [0] rfl)
      · have hF := itp c_28 hF
        refine lv_aload_n hx hb dX9_seen_42 rfl (lv_at hl 0 rfl) ?_
        refine lv_iconst (v := 3) hx hb dX9_seen_43 kyi_3 ?_
        obtain ⟨v_fault_29, v_place_30, he, hF⟩ := bd2e hF
        refine rxV hX hK hEv hE0 hH (met_X9_wrong hE he) gw_StoneYear_Reader_100 hd_yX9_wrong ⟨Nat.le_of_ble_eq_true rfl, Nat.le_of_ble_eq_true rfl⟩ rfl rfl hl (Nat.le_of_ble_eq_true rfl) dX9_seen_44 ⟨Nat.le_of_ble_eq_true rfl, Nat.le_of_ble_eq_true rfl⟩ (fun H locs hH => ?_)
        exact j47 v_fault_29 v_place_30 hF _ _ _ hH (lv_sub hl [0] rfl)
  refine lv_if_ne (tgt := 20) hx hb dX9_seen_4 rfl (fun c_20 => ?_) (fun c_20 => ?_)
  · have hF := itn c_20 hF
    exact j20 v_fault v_place hF _ _ _ hH (lv_sub hl [0, 1, 2] rfl)
  · have hF := itp c_20 hF
    refine lv_aload_n hx hb dX9_seen_7 rfl (lv_at hl 0 rfl) ?_
    refine rg_token hX hK hH dX9_seen_8 ?_
    refine lv_iconst (v := 2) hx hb dX9_seen_11 kyi_2 ?_
    refine lv_icmp_eq (tgt := 20) hx hb dX9_seen_12 rfl (fun c_21 => ?_) (fun c_21 => ?_)
    · have hF := itp c_21 hF
      exact j20 v_fault v_place hF _ _ _ hH (lv_sub hl [0, 1, 2] rfl)
    · have hF := itn c_21 hF
      refine lv_aload_n hx hb dX9_seen_15 rfl (lv_at hl 0 rfl) ?_
      refine lv_iconst (v := 2) hx hb dX9_seen_16 kyi_2 ?_
      obtain ⟨v_fault_22, v_place_23, he, hF⟩ := bd2e hF
      refine rxV hX hK hEv hE0 hH (met_X9_wrong hE he) gw_StoneYear_Reader_100 hd_yX9_wrong ⟨Nat.le_of_ble_eq_true rfl, Nat.le_of_ble_eq_true rfl⟩ rfl rfl hl (Nat.le_of_ble_eq_true rfl) dX9_seen_17 ⟨Nat.le_of_ble_eq_true rfl, Nat.le_of_ble_eq_true rfl⟩ (fun H locs hH => ?_)
      exact j20 v_fault_22 v_place_23 hF _ _ _ hH (lv_sub hl [0, 1, 2] rfl)
abbrev rm_X9_number : Room := { frames := 3, cells := 0, slots := 0, locals := 67 }
set_option maxHeartbeats 4000000 in
theorem met_X9_number {l : Launch} {D : va_G} {cA : Nat → ClassId} {ra x0 tp : Nat} {size : Int32} {tape : Nat → Int32} {fw : va_W} {lo : va_W} {ta ba : Nat → Nat} {v_at v_begin v_token v_value v_open v_fault v_place : Int32} {u : Nat → Int32} {nb : Int32} {bo : Nat → FcT} {p1 : Int32} {p2 : Int32} {res : Int32} {rv_at : Int32} {rv_begin : Int32} {rv_token : Int32} {rv_value : Int32} {rv_fault : Int32} {rv_place : Int32} {E : EvT} {ks vs : Nat → Nat} {fo mi : Nat} (hE : EvR E ks vs fo mi) (hF : FX9_number size tape v_at v_begin v_token v_value v_fault v_place p1 p2 = some (res, rv_at, rv_begin, rv_token, rv_value, rv_fault, rv_place)) : RX l yX9_number (ws_ yX9_number cX9_number 4 (Option.some Jvm.ClassFile.FieldType.int)) rm_X9_number D cA E [.ref ra, .int p1, .int p2] (RWP cA ra x0 tp size tape fw lo ta ba v_at v_begin v_token v_value v_open v_fault v_place u nb bo) (RWP cA ra x0 tp size tape fw lo ta ba rv_at rv_begin rv_token rv_value v_open rv_fault rv_place u nb bo) (some (.int res)) := by
  refine RX.ofI (by decide) (Nat.le_of_ble_eq_true rfl) ?_
  intro p e s m args below meth c Q A hX hK hE0 hname hret H locs ls hH hl
  have hX : CallFix p m c cX9_number 4 s args lw_all RX9 := hX
  have hx := hX.1
  have hb := hX.2.1
  have hown := hX.2.2.2.1
  have hts := hX.2.2.2.2
  have hl : lv_has ls 4 [(0, .ref ra), (1, .int p1), (2, .int p2)] := hl
  have hEv := hE.1.1.1
  have hNW := hE.1.1.2.1 _ _ _ hE0
  delta FX9_number at hF
  refine lv_aload_n hx hb dX9_number_0 rfl (lv_at hl 0 rfl) ?_
  refine lv_iload_n hx hb dX9_number_1 rfl (lv_at hl 1 rfl) ?_
  refine lv_iload_n hx hb dX9_number_2 rfl (lv_at hl 2 rfl) ?_
  obtain ⟨b_20, v_fault_21, v_place_22, he, hF⟩ := bd3e hF
  refine rxV hX hK hEv hE0 hH (met_X9_seen hE he) gw_StoneYear_Reader_103 hd_yX9_seen ⟨Nat.le_of_ble_eq_true rfl, Nat.le_of_ble_eq_true rfl⟩ rfl rfl hl (Nat.le_of_ble_eq_true rfl) dX9_number_3 ⟨Nat.le_of_ble_eq_true rfl, Nat.le_of_ble_eq_true rfl⟩ (fun H locs hH => ?_)
  refine lv_if_ne (tgt := 11) hx hb dX9_number_6 rfl (fun c_23 => ?_) (fun c_23 => ?_)
  · have hF := itn c_23 hF
    refine lv_aload_n hx hb dX9_number_11 rfl (lv_at hl 0 rfl) ?_
    refine rg_value hX hK hH dX9_number_12 ?_
    refine lv_istore_n (lv' := [(3, .int v_value), (0, .ref ra), (1, .int p1), (2, .int p2)]) hx hb dX9_number_15 rfl hl (by decide) rfl (fun ls hl => ?_)
    refine lv_aload_n hx hb dX9_number_16 rfl (lv_at hl 1 rfl) ?_
    obtain ⟨v_at_24, v_begin_25, v_token_26, v_value_27, he, hF⟩ := bd4e hF
    refine rxV hX hK hEv hE0 hH (met_X9_next hE he) gw_StoneYear_Reader_94 hd_yX9_next ⟨Nat.le_of_ble_eq_true rfl, Nat.le_of_ble_eq_true rfl⟩ rfl rfl hl (Nat.le_of_ble_eq_true rfl) dX9_number_17 ⟨Nat.le_of_ble_eq_true rfl, Nat.le_of_ble_eq_true rfl⟩ (fun H locs hH => ?_)
    refine lv_iload_n hx hb dX9_number_20 rfl (lv_at hl 0 rfl) ?_
    obtain ⟨rfl, rfl, rfl, rfl, rfl, rfl, rfl⟩ := re7 hF
    exact hret _ _ _ _ hH dX9_number_21
  · have hF := itp c_23 hF
    refine lv_iconst (v := 0) hx hb dX9_number_9 kyi_0 ?_
    obtain ⟨rfl, rfl, rfl, rfl, rfl, rfl, rfl⟩ := re7 hF
    exact hret _ _ _ _ hH dX9_number_10
abbrev rm_X9_over : Room := { frames := 3, cells := 0, slots := 0, locals := 67 }
set_option maxHeartbeats 4000000 in
theorem met_X9_over {l : Launch} {D : va_G} {cA : Nat → ClassId} {ra x0 tp : Nat} {size : Int32} {tape : Nat → Int32} {fw : va_W} {lo : va_W} {ta ba : Nat → Nat} {v_at v_begin v_token v_value v_open v_fault v_place : Int32} {u : Nat → Int32} {nb : Int32} {bo : Nat → FcT}  {rv_at : Int32} {rv_begin : Int32} {rv_token : Int32} {rv_value : Int32} {rv_fault : Int32} {rv_place : Int32} {E : EvT} {ks vs : Nat → Nat} {fo mi : Nat} (hE : EvR E ks vs fo mi) (hF : FX9_over size tape v_at v_begin v_token v_value v_fault v_place = some (rv_at, rv_begin, rv_token, rv_value, rv_fault, rv_place)) : RX l yX9_over (ws_ yX9_over cX9_over 1 (Option.none : Option Jvm.ClassFile.FieldType)) rm_X9_over D cA E [.ref ra] (RWP cA ra x0 tp size tape fw lo ta ba v_at v_begin v_token v_value v_open v_fault v_place u nb bo) (RWP cA ra x0 tp size tape fw lo ta ba rv_at rv_begin rv_token rv_value v_open rv_fault rv_place u nb bo) none := by
  refine RX.ofV (by decide) (Nat.le_of_ble_eq_true rfl) ?_
  intro p e s m args below meth c Q A hX hK hE0 hname hret H locs ls hH hl
  have hX : CallFix p m c cX9_over 1 s args lw_all RX9 := hX
  have hx := hX.1
  have hb := hX.2.1
  have hown := hX.2.2.2.1
  have hts := hX.2.2.2.2
  have hl : lv_has ls 1 [(0, .ref ra)] := hl
  have hEv := hE.1.1.1
  have hNW := hE.1.1.2.1 _ _ _ hE0
  delta FX9_over at hF
  refine lv_aload_n hx hb dX9_over_0 rfl (lv_at hl 0 rfl) ?_
  refine rg_fault hX hK hH dX9_over_1 ?_
  have j21 : ∀ (v_fault_22 : Int32) (v_place_23 : Int32), FX9_over_j21 v_at v_begin v_token v_value size tape v_fault_22 v_place_23 = some (rv_at, rv_begin, rv_token, rv_value, rv_fault, rv_place) → ∀ (H : Heap) (locs : List Loc) (ls : Array Slot), RHG (RWP cA ra x0 tp size tape fw lo ta ba v_at v_begin v_token v_value v_open v_fault_22 v_place_23 u nb bo) D A s.heap H locs → lv_has ls 1 [(0, .ref ra)] → W p l e rm_X9_over s m args below meth c H locs 0 0 Q (F0 m 21 ls []) := by
    intro v_fault_22 v_place_23 hF H locs ls hH hl
    delta FX9_over_j21 at hF
    refine lv_aload_n hx hb dX9_over_21 rfl (lv_at hl 0 rfl) ?_
    refine rg_fault hX hK hH dX9_over_22 ?_
    refine lv_if_ne (tgt := 32) hx hb dX9_over_25 rfl (fun c_24 => ?_) (fun c_24 => ?_)
    · have hF := itn c_24 hF
      obtain ⟨rfl, rfl, rfl, rfl, rfl, rfl⟩ := re6 hF
      exact hret _ _ _ _ hH dX9_over_32
    · have hF := itp c_24 hF
      refine lv_aload_n hx hb dX9_over_28 rfl (lv_at hl 0 rfl) ?_
      obtain ⟨v_at_25, v_begin_26, v_token_27, v_value_28, he, hF⟩ := bd4e hF
      refine rxV hX hK hEv hE0 hH (met_X9_next hE he) gw_StoneYear_Reader_94 hd_yX9_next ⟨Nat.le_of_ble_eq_true rfl, Nat.le_of_ble_eq_true rfl⟩ rfl rfl hl (Nat.le_of_ble_eq_true rfl) dX9_over_29 ⟨Nat.le_of_ble_eq_true rfl, Nat.le_of_ble_eq_true rfl⟩ (fun H locs hH => ?_)
      obtain ⟨rfl, rfl, rfl, rfl, rfl, rfl⟩ := re6 hF
      exact hret _ _ _ _ hH dX9_over_32
  refine lv_if_ne (tgt := 21) hx hb dX9_over_4 rfl (fun c_18 => ?_) (fun c_18 => ?_)
  · have hF := itn c_18 hF
    exact j21 v_fault v_place hF _ _ _ hH (lv_sub hl [0] rfl)
  · have hF := itp c_18 hF
    refine lv_aload_n hx hb dX9_over_7 rfl (lv_at hl 0 rfl) ?_
    refine rg_token hX hK hH dX9_over_8 ?_
    refine lv_bipush (v := 59) hx hb dX9_over_11 kyb_59 ?_
    refine lv_icmp_eq (tgt := 21) hx hb dX9_over_13 rfl (fun c_19 => ?_) (fun c_19 => ?_)
    · have hF := itp c_19 hF
      exact j21 v_fault v_place hF _ _ _ hH (lv_sub hl [0] rfl)
    · have hF := itn c_19 hF
      refine lv_aload_n hx hb dX9_over_16 rfl (lv_at hl 0 rfl) ?_
      refine lv_iconst (v := 2) hx hb dX9_over_17 kyi_2 ?_
      obtain ⟨v_fault_20, v_place_21, he, hF⟩ := bd2e hF
      refine rxV hX hK hEv hE0 hH (met_X9_wrong hE he) gw_StoneYear_Reader_100 hd_yX9_wrong ⟨Nat.le_of_ble_eq_true rfl, Nat.le_of_ble_eq_true rfl⟩ rfl rfl hl (Nat.le_of_ble_eq_true rfl) dX9_over_18 ⟨Nat.le_of_ble_eq_true rfl, Nat.le_of_ble_eq_true rfl⟩ (fun H locs hH => ?_)
      exact j21 v_fault_20 v_place_21 hF _ _ _ hH (lv_sub hl [0] rfl)
abbrev rm_X9_space : Room := { frames := 3, cells := 0, slots := 0, locals := 67 }
set_option maxHeartbeats 4000000 in
theorem met_X9_space {l : Launch} {D : va_G} {cA : Nat → ClassId} {ra x0 tp : Nat} {size : Int32} {tape : Nat → Int32} {fw : va_W} {lo : va_W} {ta ba : Nat → Nat} {v_at v_begin v_token v_value v_open v_fault v_place : Int32} {u : Nat → Int32} {nb : Int32} {bo : Nat → FcT} {p1 : Int32} {rv_at : Int32} {rv_begin : Int32} {rv_token : Int32} {rv_value : Int32} {rv_fault : Int32} {rv_place : Int32} {E : EvT} {ks vs : Nat → Nat} {fo mi : Nat} (hE : EvR E ks vs fo mi) (hF : FX9_space size tape v_at v_begin v_token v_value v_fault v_place p1 = some (rv_at, rv_begin, rv_token, rv_value, rv_fault, rv_place)) : RX l yX9_space (ws_ yX9_space cX9_space 2 (Option.none : Option Jvm.ClassFile.FieldType)) rm_X9_space D cA E [.ref ra, .int p1] (RWP cA ra x0 tp size tape fw lo ta ba v_at v_begin v_token v_value v_open v_fault v_place u nb bo) (RWP cA ra x0 tp size tape fw lo ta ba rv_at rv_begin rv_token rv_value v_open rv_fault rv_place u nb bo) none := by
  refine RX.ofV (by decide) (Nat.le_of_ble_eq_true rfl) ?_
  intro p e s m args below meth c Q A hX hK hE0 hname hret H locs ls hH hl
  have hX : CallFix p m c cX9_space 2 s args lw_all RX9 := hX
  have hx := hX.1
  have hb := hX.2.1
  have hown := hX.2.2.2.1
  have hts := hX.2.2.2.2
  have hl : lv_has ls 2 [(0, .ref ra), (1, .int p1)] := hl
  have hEv := hE.1.1.1
  have hNW := hE.1.1.2.1 _ _ _ hE0
  delta FX9_space at hF
  refine lv_iload_n hx hb dX9_space_0 rfl (lv_at hl 1 rfl) ?_
  have j9 : ∀ (v_fault_22 : Int32) (v_place_23 : Int32), FX9_space_j9 v_at v_begin v_token v_value size tape v_fault_22 v_place_23 = some (rv_at, rv_begin, rv_token, rv_value, rv_fault, rv_place) → ∀ (H : Heap) (locs : List Loc) (ls : Array Slot), RHG (RWP cA ra x0 tp size tape fw lo ta ba v_at v_begin v_token v_value v_open v_fault_22 v_place_23 u nb bo) D A s.heap H locs → lv_has ls 2 [(0, .ref ra)] → W p l e rm_X9_space s m args below meth c H locs 0 0 Q (F0 m 9 ls []) := by
    intro v_fault_22 v_place_23 hF H locs ls hH hl
    delta FX9_space_j9 at hF
    refine lv_aload_n hx hb dX9_space_9 rfl (lv_at hl 0 rfl) ?_
    refine rg_fault hX hK hH dX9_space_10 ?_
    refine lv_if_ne (tgt := 20) hx hb dX9_space_13 rfl (fun c_24 => ?_) (fun c_24 => ?_)
    · have hF := itn c_24 hF
      obtain ⟨rfl, rfl, rfl, rfl, rfl, rfl⟩ := re6 hF
      exact hret _ _ _ _ hH dX9_space_20
    · have hF := itp c_24 hF
      refine lv_aload_n hx hb dX9_space_16 rfl (lv_at hl 0 rfl) ?_
      obtain ⟨v_at_25, v_begin_26, v_token_27, v_value_28, he, hF⟩ := bd4e hF
      refine rxV hX hK hEv hE0 hH (met_X9_next hE he) gw_StoneYear_Reader_94 hd_yX9_next ⟨Nat.le_of_ble_eq_true rfl, Nat.le_of_ble_eq_true rfl⟩ rfl rfl hl (Nat.le_of_ble_eq_true rfl) dX9_space_17 ⟨Nat.le_of_ble_eq_true rfl, Nat.le_of_ble_eq_true rfl⟩ (fun H locs hH => ?_)
      obtain ⟨rfl, rfl, rfl, rfl, rfl, rfl⟩ := re6 hF
      exact hret _ _ _ _ hH dX9_space_20
  refine lv_if_eq (tgt := 9) hx hb dX9_space_1 rfl (fun c_19 => ?_) (fun c_19 => ?_)
  · have hF := itp c_19 hF
    exact j9 v_fault v_place hF _ _ _ hH (lv_sub hl [0] rfl)
  · have hF := itn c_19 hF
    refine lv_aload_n hx hb dX9_space_4 rfl (lv_at hl 0 rfl) ?_
    refine lv_iconst (v := 4) hx hb dX9_space_5 kyi_4 ?_
    obtain ⟨v_fault_20, v_place_21, he, hF⟩ := bd2e hF
    refine rxV hX hK hEv hE0 hH (met_X9_wrong hE he) gw_StoneYear_Reader_100 hd_yX9_wrong ⟨Nat.le_of_ble_eq_true rfl, Nat.le_of_ble_eq_true rfl⟩ rfl rfl hl (Nat.le_of_ble_eq_true rfl) dX9_space_6 ⟨Nat.le_of_ble_eq_true rfl, Nat.le_of_ble_eq_true rfl⟩ (fun H locs hH => ?_)
    exact j9 v_fault_20 v_place_21 hF _ _ _ hH (lv_sub hl [0] rfl)
abbrev rm_X9_opens : Room := { frames := 3, cells := 0, slots := 0, locals := 67 }
set_option maxHeartbeats 4000000 in
theorem met_X9_opens {l : Launch} {D : va_G} {cA : Nat → ClassId} {ra x0 tp : Nat} {size : Int32} {tape : Nat → Int32} {fw : va_W} {lo : va_W} {ta ba : Nat → Nat} {v_at v_begin v_token v_value v_open v_fault v_place : Int32} {u : Nat → Int32} {nb : Int32} {bo : Nat → FcT}  {rv_at : Int32} {rv_begin : Int32} {rv_token : Int32} {rv_value : Int32} {rv_open : Int32} {rv_fault : Int32} {rv_place : Int32} {E : EvT} {ks vs : Nat → Nat} {fo mi : Nat} (hE : EvR E ks vs fo mi) (hF : FX9_opens size tape v_at v_begin v_token v_value v_open v_fault v_place = some (rv_at, rv_begin, rv_token, rv_value, rv_open, rv_fault, rv_place)) : RX l yX9_opens (ws_ yX9_opens cX9_opens 1 (Option.none : Option Jvm.ClassFile.FieldType)) rm_X9_opens D cA E [.ref ra] (RWP cA ra x0 tp size tape fw lo ta ba v_at v_begin v_token v_value v_open v_fault v_place u nb bo) (RWP cA ra x0 tp size tape fw lo ta ba rv_at rv_begin rv_token rv_value rv_open rv_fault rv_place u nb bo) none := by
  refine RX.ofV (by decide) (Nat.le_of_ble_eq_true rfl) ?_
  intro p e s m args below meth c Q A hX hK hE0 hname hret H locs ls hH hl
  have hX : CallFix p m c cX9_opens 1 s args lw_all RX9 := hX
  have hx := hX.1
  have hb := hX.2.1
  have hown := hX.2.2.2.1
  have hts := hX.2.2.2.2
  have hl : lv_has ls 1 [(0, .ref ra)] := hl
  have hEv := hE.1.1.1
  have hNW := hE.1.1.2.1 _ _ _ hE0
  delta FX9_opens at hF
  refine lv_aload_n hx hb dX9_opens_0 rfl (lv_at hl 0 rfl) ?_
  refine rg_open hX hK hH dX9_opens_1 ?_
  refine lv_bipush (v := 8) hx hb dX9_opens_4 kyb_8 ?_
  have j14 : ∀ (v_fault_21 : Int32) (v_place_22 : Int32), FX9_opens_j14 v_at v_begin v_token v_value v_open size tape v_fault_21 v_place_22 = some (rv_at, rv_begin, rv_token, rv_value, rv_open, rv_fault, rv_place) → ∀ (H : Heap) (locs : List Loc) (ls : Array Slot), RHG (RWP cA ra x0 tp size tape fw lo ta ba v_at v_begin v_token v_value v_open v_fault_21 v_place_22 u nb bo) D A s.heap H locs → lv_has ls 1 [(0, .ref ra)] → W p l e rm_X9_opens s m args below meth c H locs 0 0 Q (F0 m 14 ls []) := by
    intro v_fault_21 v_place_22 hF H locs ls hH hl
    delta FX9_opens_j14 at hF
    refine lv_aload_n hx hb dX9_opens_14 rfl (lv_at hl 0 rfl) ?_
    refine lv_dup hx hb dX9_opens_15 rfl ?_
    refine rg_open hX hK hH dX9_opens_16 ?_
    refine lv_iconst (v := 1) hx hb dX9_opens_19 kyi_1 ?_
    refine lv_iadd hx hb dX9_opens_20 ?_
    refine rp_open hX hK hH dX9_opens_21 (fun H locs hH => ?_)
    refine lv_aload_n hx hb dX9_opens_24 rfl (lv_at hl 0 rfl) ?_
    refine rg_fault hX hK hH dX9_opens_25 ?_
    refine lv_if_ne (tgt := 35) hx hb dX9_opens_28 rfl (fun c_23 => ?_) (fun c_23 => ?_)
    · have hF := itn c_23 hF
      obtain ⟨rfl, rfl, rfl, rfl, rfl, rfl, rfl⟩ := re7 hF
      exact hret _ _ _ _ hH dX9_opens_35
    · have hF := itp c_23 hF
      refine lv_aload_n hx hb dX9_opens_31 rfl (lv_at hl 0 rfl) ?_
      obtain ⟨v_at_24, v_begin_25, v_token_26, v_value_27, he, hF⟩ := bd4e hF
      refine rxV hX hK hEv hE0 hH (met_X9_next hE he) gw_StoneYear_Reader_94 hd_yX9_next ⟨Nat.le_of_ble_eq_true rfl, Nat.le_of_ble_eq_true rfl⟩ rfl rfl hl (Nat.le_of_ble_eq_true rfl) dX9_opens_32 ⟨Nat.le_of_ble_eq_true rfl, Nat.le_of_ble_eq_true rfl⟩ (fun H locs hH => ?_)
      obtain ⟨rfl, rfl, rfl, rfl, rfl, rfl, rfl⟩ := re7 hF
      exact hret _ _ _ _ hH dX9_opens_35
  refine lv_icmp_ne (tgt := 14) hx hb dX9_opens_6 rfl (fun c_18 => ?_) (fun c_18 => ?_)
  · have hF := itn c_18 hF
    exact j14 v_fault v_place hF _ _ _ hH (lv_sub hl [0] rfl)
  · have hF := itp c_18 hF
    refine lv_aload_n hx hb dX9_opens_9 rfl (lv_at hl 0 rfl) ?_
    refine lv_iconst (v := 5) hx hb dX9_opens_10 kyi_5 ?_
    obtain ⟨v_fault_19, v_place_20, he, hF⟩ := bd2e hF
    refine rxV hX hK hEv hE0 hH (met_X9_wrong hE he) gw_StoneYear_Reader_100 hd_yX9_wrong ⟨Nat.le_of_ble_eq_true rfl, Nat.le_of_ble_eq_true rfl⟩ rfl rfl hl (Nat.le_of_ble_eq_true rfl) dX9_opens_11 ⟨Nat.le_of_ble_eq_true rfl, Nat.le_of_ble_eq_true rfl⟩ (fun H locs hH => ?_)
    exact j14 v_fault_19 v_place_20 hF _ _ _ hH (lv_sub hl [0] rfl)
abbrev rm_X9_more : Room := { frames := 6, cells := 0, slots := 0, locals := 128 }
set_option maxHeartbeats 4000000 in
theorem met_X9_more {l : Launch} {D : va_G} {cA : Nat → ClassId} {ra x0 tp : Nat} {size : Int32} {tape : Nat → Int32} {fw : va_W} {lo : va_W} {ta ba : Nat → Nat} {v_at v_begin v_token v_value v_open v_fault v_place : Int32} {u : Nat → Int32} {nb : Int32} {bo : Nat → FcT}  {rv_at : Int32} {rv_begin : Int32} {rv_token : Int32} {rv_value : Int32} {rv_fault : Int32} {rv_place : Int32} {ru : Nat → Int32} {E : EvT} {ks vs : Nat → Nat} {fo mi : Nat} (hE : EvR E ks vs fo mi) (hF : FX9_more size tape v_at v_begin v_token v_value v_fault v_place u = some (rv_at, rv_begin, rv_token, rv_value, rv_fault, rv_place, ru)) : RX l yX9_more (ws_ yX9_more cX9_more 1 (Option.none : Option Jvm.ClassFile.FieldType)) rm_X9_more D cA E [.ref ra] (RWP cA ra x0 tp size tape fw lo ta ba v_at v_begin v_token v_value v_open v_fault v_place u nb bo) (RWP cA ra x0 tp size tape fw lo ta ba rv_at rv_begin rv_token rv_value v_open rv_fault rv_place ru nb bo) none := by
  refine RX.ofV (by decide) (Nat.le_of_ble_eq_true rfl) ?_
  intro p e s m args below meth c Q A hX hK hE0 hname hret H locs ls hH hl
  have hX : CallFix p m c cX9_more 1 s args lw_all RX9 := hX
  have hx := hX.1
  have hb := hX.2.1
  have hown := hX.2.2.2.1
  have hts := hX.2.2.2.2
  have hl : lv_has ls 1 [(0, .ref ra)] := hl
  have hEv := hE.1.1.1
  have hNW := hE.1.1.2.1 _ _ _ hE0
  delta FX9_more at hF
  refine lv_aload_n hx hb dX9_more_0 rfl (lv_at hl 0 rfl) ?_
  refine va_ldcS (tx := "over") hx hb hown (hE.r138 _ _ _ hE0) dX9_more_1 ?_
  obtain ⟨b_18, v_at_19, v_begin_20, v_token_21, v_value_22, he, hF⟩ := bd5e hF
  refine rxV hX hK hEv hE0 hH (met_X9_takes hE hE.s138 he) gw_StoneYear_Reader_97 hd_yX9_takes ⟨Nat.le_of_ble_eq_true rfl, Nat.le_of_ble_eq_true rfl⟩ rfl rfl hl (Nat.le_of_ble_eq_true rfl) dX9_more_3 ⟨Nat.le_of_ble_eq_true rfl, Nat.le_of_ble_eq_true rfl⟩ (fun H locs hH => ?_)
  refine lv_if_eq (tgt := 25) hx hb dX9_more_6 rfl (fun c_23 => ?_) (fun c_23 => ?_)
  · have hF := itp c_23 hF
    refine lv_aload_n hx hb dX9_more_25 rfl (lv_at hl 0 rfl) ?_
    refine va_ldcS (tx := "most") hx hb hown (hE.r145 _ _ _ hE0) dX9_more_26 ?_
    obtain ⟨b_31, v_at_32, v_begin_33, v_token_34, v_value_35, he, hF⟩ := bd5e hF
    refine rxV hX hK hEv hE0 hH (met_X9_takes hE hE.s145 he) gw_StoneYear_Reader_97 hd_yX9_takes ⟨Nat.le_of_ble_eq_true rfl, Nat.le_of_ble_eq_true rfl⟩ rfl rfl hl (Nat.le_of_ble_eq_true rfl) dX9_more_28 ⟨Nat.le_of_ble_eq_true rfl, Nat.le_of_ble_eq_true rfl⟩ (fun H locs hH => ?_)
    refine lv_if_eq (tgt := 51) hx hb dX9_more_31 rfl (fun c_36 => ?_) (fun c_36 => ?_)
    · have hF := itp c_36 hF
      refine lv_aload_n hx hb dX9_more_51 rfl (lv_at hl 0 rfl) ?_
      refine va_ldcS (tx := "ring") hx hb hown (hE.r149 _ _ _ hE0) dX9_more_52 ?_
      obtain ⟨b_44, v_at_45, v_begin_46, v_token_47, v_value_48, he, hF⟩ := bd5e hF
      refine rxV hX hK hEv hE0 hH (met_X9_takes hE hE.s149 he) gw_StoneYear_Reader_97 hd_yX9_takes ⟨Nat.le_of_ble_eq_true rfl, Nat.le_of_ble_eq_true rfl⟩ rfl rfl hl (Nat.le_of_ble_eq_true rfl) dX9_more_54 ⟨Nat.le_of_ble_eq_true rfl, Nat.le_of_ble_eq_true rfl⟩ (fun H locs hH => ?_)
      refine lv_if_eq (tgt := 71) hx hb dX9_more_57 rfl (fun c_49 => ?_) (fun c_49 => ?_)
      · have hF := itp c_49 hF
        refine lv_aload_n hx hb dX9_more_71 rfl (lv_at hl 0 rfl) ?_
        refine va_ldcS (tx := "flood") hx hb hown (hE.r155 _ _ _ hE0) dX9_more_72 ?_
        obtain ⟨b_50, v_at_51, v_begin_52, v_token_53, v_value_54, he, hF⟩ := bd5e hF
        refine rxV hX hK hEv hE0 hH (met_X9_takes hE hE.s155 he) gw_StoneYear_Reader_97 hd_yX9_takes ⟨Nat.le_of_ble_eq_true rfl, Nat.le_of_ble_eq_true rfl⟩ rfl rfl hl (Nat.le_of_ble_eq_true rfl) dX9_more_74 ⟨Nat.le_of_ble_eq_true rfl, Nat.le_of_ble_eq_true rfl⟩ (fun H locs hH => ?_)
        refine lv_if_eq (tgt := 91) hx hb dX9_more_77 rfl (fun c_55 => ?_) (fun c_55 => ?_)
        · have hF := itp c_55 hF
          refine lv_aload_n hx hb dX9_more_91 rfl (lv_at hl 0 rfl) ?_
          refine lv_iconst (v := 2) hx hb dX9_more_92 kyi_2 ?_
          obtain ⟨v_fault_56, v_place_57, he, hF⟩ := bd2e hF
          refine rxV hX hK hEv hE0 hH (met_X9_wrong hE he) gw_StoneYear_Reader_100 hd_yX9_wrong ⟨Nat.le_of_ble_eq_true rfl, Nat.le_of_ble_eq_true rfl⟩ rfl rfl hl (Nat.le_of_ble_eq_true rfl) dX9_more_93 ⟨Nat.le_of_ble_eq_true rfl, Nat.le_of_ble_eq_true rfl⟩ (fun H locs hH => ?_)
          obtain ⟨rfl, rfl, rfl, rfl, rfl, rfl, rfl⟩ := re7 hF
          exact hret _ _ _ _ hH dX9_more_96
        · have hF := itn c_55 hF
          refine lv_aload_n hx hb dX9_more_80 rfl (lv_at hl 0 rfl) ?_
          refine rg_town hX hK hH dX9_more_81 ?_
          refine lv_iconst (v := 1) hx hb dX9_more_84 kyi_1 ?_
          refine rp_floods ⟨by decide, by decide⟩ hX hK hH hNW dX9_more_85 (fun H locs hH => ?_)
          refine lv_goto (tgt := 96) hx hb dX9_more_88 rfl ?_
          obtain ⟨rfl, rfl, rfl, rfl, rfl, rfl, rfl⟩ := re7 hF
          exact hret _ _ _ _ hH dX9_more_96
      · have hF := itn c_49 hF
        refine lv_aload_n hx hb dX9_more_60 rfl (lv_at hl 0 rfl) ?_
        refine rg_town hX hK hH dX9_more_61 ?_
        refine lv_iconst (v := 1) hx hb dX9_more_64 kyi_1 ?_
        refine rp_rings ⟨by decide, by decide⟩ hX hK hH hNW dX9_more_65 (fun H locs hH => ?_)
        refine lv_goto (tgt := 96) hx hb dX9_more_68 rfl ?_
        obtain ⟨rfl, rfl, rfl, rfl, rfl, rfl, rfl⟩ := re7 hF
        exact hret _ _ _ _ hH dX9_more_96
    · have hF := itn c_36 hF
      refine lv_aload_n hx hb dX9_more_34 rfl (lv_at hl 0 rfl) ?_
      refine rg_town hX hK hH dX9_more_35 ?_
      refine lv_aload_n hx hb dX9_more_38 rfl (lv_at hl 0 rfl) ?_
      refine lv_iconst (v := 1) hx hb dX9_more_39 kyi_1 ?_
      refine lv_bipush (v := 8) hx hb dX9_more_40 kyb_8 ?_
      obtain ⟨x_37, v_at_38, v_begin_39, v_token_40, v_value_41, v_fault_42, v_place_43, he, hF⟩ := bd7e hF
      refine rxV hX hK hEv hE0 hH (met_X9_number hE he) gw_StoneYear_Reader_139 hd_yX9_number ⟨Nat.le_of_ble_eq_true rfl, Nat.le_of_ble_eq_true rfl⟩ rfl rfl hl (Nat.le_of_ble_eq_true rfl) dX9_more_42 ⟨Nat.le_of_ble_eq_true rfl, Nat.le_of_ble_eq_true rfl⟩ (fun H locs hH => ?_)
      refine rp_most hX hK hH hNW dX9_more_45 (fun H locs hH => ?_)
      refine lv_goto (tgt := 96) hx hb dX9_more_48 rfl ?_
      obtain ⟨rfl, rfl, rfl, rfl, rfl, rfl, rfl⟩ := re7 hF
      exact hret _ _ _ _ hH dX9_more_96
  · have hF := itn c_23 hF
    refine lv_aload_n hx hb dX9_more_9 rfl (lv_at hl 0 rfl) ?_
    refine rg_town hX hK hH dX9_more_10 ?_
    refine lv_aload_n hx hb dX9_more_13 rfl (lv_at hl 0 rfl) ?_
    refine lv_iconst (v := 1) hx hb dX9_more_14 kyi_1 ?_
    refine lv_iconst (v := 3) hx hb dX9_more_15 kyi_3 ?_
    obtain ⟨x_24, v_at_25, v_begin_26, v_token_27, v_value_28, v_fault_29, v_place_30, he, hF⟩ := bd7e hF
    refine rxV hX hK hEv hE0 hH (met_X9_number hE he) gw_StoneYear_Reader_139 hd_yX9_number ⟨Nat.le_of_ble_eq_true rfl, Nat.le_of_ble_eq_true rfl⟩ rfl rfl hl (Nat.le_of_ble_eq_true rfl) dX9_more_16 ⟨Nat.le_of_ble_eq_true rfl, Nat.le_of_ble_eq_true rfl⟩ (fun H locs hH => ?_)
    refine rp_over hX hK hH hNW dX9_more_19 (fun H locs hH => ?_)
    refine lv_goto (tgt := 96) hx hb dX9_more_22 rfl ?_
    obtain ⟨rfl, rfl, rfl, rfl, rfl, rfl, rfl⟩ := re7 hF
    exact hret _ _ _ _ hH dX9_more_96
abbrev rm_X9_row : Room := { frames := 14, cells := 3, slots := 28, locals := 520 }
set_option maxHeartbeats 4000000 in
theorem met_X9_row {l : Launch} {D : va_G} {cA : Nat → ClassId} {ra x0 tp : Nat} {size : Int32} {tape : Nat → Int32} {fw : va_W} {lo : va_W} {ta ba : Nat → Nat} {v_at v_begin v_token v_value v_open v_fault v_place : Int32} {u : Nat → Int32} {nb : Int32} {bo : Nat → FcT}  {rv_at : Int32} {rv_begin : Int32} {rv_token : Int32} {rv_value : Int32} {rv_fault : Int32} {rv_place : Int32} {ru : Nat → Int32} {E : EvT} {ks vs : Nat → Nat} {fo mi : Nat} (hE : EvR E ks vs fo mi) (hF : FX9_row size tape v_at v_begin v_token v_value v_fault v_place u = some (rv_at, rv_begin, rv_token, rv_value, rv_fault, rv_place, ru)) : RX l yX9_row (ws_ yX9_row cX9_row 2 (Option.none : Option Jvm.ClassFile.FieldType)) rm_X9_row D cA E [.ref ra] (RWP cA ra x0 tp size tape fw lo ta ba v_at v_begin v_token v_value v_open v_fault v_place u nb bo) (fun z => ∃ (lo' : va_W) (ta' : Nat → Nat), (∀ q ∈ lo, q ∈ lo') ∧ (RWP cA ra x0 tp size tape fw lo' ta' ba rv_at rv_begin rv_token rv_value v_open rv_fault rv_place ru nb bo) z) none := by
  refine RX.ofV (by decide) (Nat.le_of_ble_eq_true rfl) ?_
  intro p e s m args below meth c Q A hX hK hE0 hname hret H locs ls hH hl
  have hX : CallFix p m c cX9_row 2 s args lw_all RX9 := hX
  have hx := hX.1
  have hb := hX.2.1
  have hown := hX.2.2.2.1
  have hts := hX.2.2.2.2
  have hl : lv_has ls 2 [(0, .ref ra)] := hl
  have hEv := hE.1.1.1
  have hNW := hE.1.1.2.1 _ _ _ hE0
  delta FX9_row at hF
  refine lv_aload_n hx hb dX9_row_0 rfl (lv_at hl 0 rfl) ?_
  refine lv_aload_n hx hb dX9_row_1 rfl (lv_at hl 0 rfl) ?_
  refine rg_town hX hK hH dX9_row_2 ?_
  obtain ⟨w, hw, hm⟩ := hH
  refine cg_Y_Reader_town_rows hw.town (plin w) hX hK hNW hm dX9_row_5 ?_
  have hH : RHG (RWP cA ra x0 tp size tape fw lo ta ba v_at v_begin v_token v_value v_open v_fault v_place u nb bo) D A s.heap H locs := ⟨_, hw, hm⟩
  obtain ⟨w, hw, hm⟩ := hH
  refine mxV hX hK hEv hE0 hm (met_J2_size hEv hw.town.rows (plin w)) (precv (plin w) hK hm 17 rfl hw.town.rows.obj) gw_StoneYear_Reader_163 hd_yJ2_size ⟨Nat.le_of_ble_eq_true rfl, Nat.le_of_ble_eq_true rfl⟩ rfl rfl hl (Nat.le_of_ble_eq_true rfl) dX9_row_8 ⟨Nat.le_of_ble_eq_true rfl, Nat.le_of_ble_eq_true rfl⟩ (fun w2 H locs hw2 hm => ?_)
  rw [hw2] at hm
  have hH : RHG (RWP cA ra x0 tp size tape fw lo ta ba v_at v_begin v_token v_value v_open v_fault v_place u nb bo) D A s.heap H locs := ⟨_, hw, hm⟩
  refine lv_iconst (v := 5) hx hb dX9_row_11 kyi_5 ?_
  have j20 : ∀ (x_19 : Int32), FX9_row_j20 v_at v_begin v_token v_value v_fault v_place u size tape x_19 = some (rv_at, rv_begin, rv_token, rv_value, rv_fault, rv_place, ru) → ∀ (H : Heap) (locs : List Loc) (ls : Array Slot), RHG (RWP cA ra x0 tp size tape fw lo ta ba v_at v_begin v_token v_value v_open v_fault v_place u nb bo) D A s.heap H locs → lv_has ls 2 [(0, .ref ra)] → W p l e rm_X9_row s m args below meth c H locs 0 0 Q (F0 m 20 ls [.int x_19, .ref ra]) := by
    intro x_19 hF H locs ls hH hl
    delta FX9_row_j20 at hF
    obtain ⟨v_at_20, v_begin_21, v_token_22, v_value_23, v_fault_24, v_place_25, he, hF⟩ := bd6e hF
    refine rxV hX hK hEv hE0 hH (met_X9_space hE he) gw_StoneYear_Reader_165 hd_yX9_space ⟨Nat.le_of_ble_eq_true rfl, Nat.le_of_ble_eq_true rfl⟩ rfl rfl hl (Nat.le_of_ble_eq_true rfl) dX9_row_20 ⟨Nat.le_of_ble_eq_true rfl, Nat.le_of_ble_eq_true rfl⟩ (fun H locs hH => ?_)
    refine lv_aload_n hx hb dX9_row_23 rfl (lv_at hl 0 rfl) ?_
    refine lv_iconst (v := 1) hx hb dX9_row_24 kyi_1 ?_
    refine lv_iconst (v := 3) hx hb dX9_row_25 kyi_3 ?_
    obtain ⟨x_26, v_at_27, v_begin_28, v_token_29, v_value_30, v_fault_31, v_place_32, he, hF⟩ := bd7e hF
    refine rxV hX hK hEv hE0 hH (met_X9_number hE he) gw_StoneYear_Reader_139 hd_yX9_number ⟨Nat.le_of_ble_eq_true rfl, Nat.le_of_ble_eq_true rfl⟩ rfl rfl hl (Nat.le_of_ble_eq_true rfl) dX9_row_26 ⟨Nat.le_of_ble_eq_true rfl, Nat.le_of_ble_eq_true rfl⟩ (fun H locs hH => ?_)
    refine lv_istore_n (lv' := [(1, .int x_26), (0, .ref ra)]) hx hb dX9_row_29 rfl hl (by decide) rfl (fun ls hl => ?_)
    refine lv_aload_n hx hb dX9_row_30 rfl (lv_at hl 1 rfl) ?_
    refine rg_fault hX hK hH dX9_row_31 ?_
    refine lv_if_ne (tgt := 56) hx hb dX9_row_34 rfl (fun c_33 => ?_) (fun c_33 => ?_)
    · have hF := itn c_33 hF
      obtain ⟨rfl, rfl, rfl, rfl, rfl, rfl, rfl⟩ := re7 hF
      refine W.widen (k := 3) (n := 28) (Nat.le_of_ble_eq_true rfl) (Nat.le_of_ble_eq_true rfl) ?_
      obtain ⟨w, hw, hm⟩ := hH
      exact hret _ _ _ _ ⟨w, ⟨_, _, fun _ h => h, hw⟩, hm⟩ dX9_row_56
    · have hF := itp c_33 hF
      refine lv_aload_n hx hb dX9_row_37 rfl (lv_at hl 1 rfl) ?_
      obtain ⟨hg_34, hF⟩ := bd0e hF
      refine rs_addRow hX hK hE hE0 hH hg_34 hl (lv_at hl 1 rfl) (lv_at hl 0 rfl) ⟨Nat.le_of_ble_eq_true rfl, Nat.le_of_ble_eq_true rfl⟩ ⟨Nat.le_of_ble_eq_true rfl, Nat.le_of_ble_eq_true rfl⟩ (fun lo_35 ta_35 H locs hlo_35 hH => ?_)
      obtain ⟨rfl, rfl, rfl, rfl, rfl, rfl, rfl⟩ := re7 hF
      obtain ⟨w, hw, hm⟩ := hH
      exact hret _ _ _ _ ⟨w, ⟨_, _, fun _ h => hlo_35 _ h, hw⟩, hm⟩ dX9_row_56
  refine lv_icmp_ne (tgt := 19) hx hb dX9_row_12 rfl (fun c_18 => ?_) (fun c_18 => ?_)
  · have hF := itn c_18 hF
    refine lv_iconst (v := 0) hx hb dX9_row_19 kyi_0 ?_
    exact j20 0 hF _ _ _ hH (lv_sub hl [0] rfl)
  · have hF := itp c_18 hF
    refine lv_iconst (v := 1) hx hb dX9_row_15 kyi_1 ?_
    refine lv_goto (tgt := 20) hx hb dX9_row_16 rfl ?_
    exact j20 1 hF _ _ _ hH (lv_sub hl [0] rfl)
abbrev rm_X9_stone : Room := { frames := 14, cells := 2, slots := 24, locals := 520 }
set_option maxHeartbeats 4000000 in
theorem met_X9_stone {l : Launch} {D : va_G} {cA : Nat → ClassId} {ra x0 tp : Nat} {size : Int32} {tape : Nat → Int32} {fw : va_W} {lo : va_W} {ta ba : Nat → Nat} {v_at v_begin v_token v_value v_open v_fault v_place : Int32} {u : Nat → Int32} {nb : Int32} {bo : Nat → FcT}  {rv_at : Int32} {rv_begin : Int32} {rv_token : Int32} {rv_value : Int32} {rv_fault : Int32} {rv_place : Int32} {ru : Nat → Int32} {E : EvT} {ks vs : Nat → Nat} {fo mi : Nat} (hE : EvR E ks vs fo mi) (hF : FX9_stone size tape v_at v_begin v_token v_value v_fault v_place u = some (rv_at, rv_begin, rv_token, rv_value, rv_fault, rv_place, ru)) : RX l yX9_stone (ws_ yX9_stone cX9_stone 5 (Option.none : Option Jvm.ClassFile.FieldType)) rm_X9_stone D cA E [.ref ra] (RWP cA ra x0 tp size tape fw lo ta ba v_at v_begin v_token v_value v_open v_fault v_place u nb bo) (fun z => ∃ (lo' : va_W) (ta' : Nat → Nat), (∀ q ∈ lo, q ∈ lo') ∧ (RWP cA ra x0 tp size tape fw lo' ta' ba rv_at rv_begin rv_token rv_value v_open rv_fault rv_place ru nb bo) z) none := by
  refine RX.ofV (by decide) (Nat.le_of_ble_eq_true rfl) ?_
  intro p e s m args below meth c Q A hX hK hE0 hname hret H locs ls hH hl
  have hX : CallFix p m c cX9_stone 5 s args lw_all RX9 := hX
  have hx := hX.1
  have hb := hX.2.1
  have hown := hX.2.2.2.1
  have hts := hX.2.2.2.2
  have hl : lv_has ls 5 [(0, .ref ra)] := hl
  have hEv := hE.1.1.1
  have hNW := hE.1.1.2.1 _ _ _ hE0
  delta FX9_stone at hF
  refine lv_aload_n hx hb dX9_stone_0 rfl (lv_at hl 0 rfl) ?_
  refine lv_aload_n hx hb dX9_stone_1 rfl (lv_at hl 0 rfl) ?_
  refine rg_town hX hK hH dX9_stone_2 ?_
  obtain ⟨w, hw, hm⟩ := hH
  refine cg_Y_Reader_town_stones hw.town (plin w) hX hK hNW hm dX9_stone_5 ?_
  have hH : RHG (RWP cA ra x0 tp size tape fw lo ta ba v_at v_begin v_token v_value v_open v_fault v_place u nb bo) D A s.heap H locs := ⟨_, hw, hm⟩
  obtain ⟨w, hw, hm⟩ := hH
  refine mxV hX hK hEv hE0 hm (met_J2_size hEv hw.town.stones (plin w)) (precv (plin w) hK hm 17 rfl hw.town.stones.obj) gw_StoneYear_Reader_163 hd_yJ2_size ⟨Nat.le_of_ble_eq_true rfl, Nat.le_of_ble_eq_true rfl⟩ rfl rfl hl (Nat.le_of_ble_eq_true rfl) dX9_stone_8 ⟨Nat.le_of_ble_eq_true rfl, Nat.le_of_ble_eq_true rfl⟩ (fun w2 H locs hw2 hm => ?_)
  rw [hw2] at hm
  have hH : RHG (RWP cA ra x0 tp size tape fw lo ta ba v_at v_begin v_token v_value v_open v_fault v_place u nb bo) D A s.heap H locs := ⟨_, hw, hm⟩
  refine lv_bipush (v := 8) hx hb dX9_stone_11 kyb_8 ?_
  have j21 : ∀ (x_19 : Int32), FX9_stone_j21 v_at v_begin v_token v_value v_fault v_place u size tape x_19 = some (rv_at, rv_begin, rv_token, rv_value, rv_fault, rv_place, ru) → ∀ (H : Heap) (locs : List Loc) (ls : Array Slot), RHG (RWP cA ra x0 tp size tape fw lo ta ba v_at v_begin v_token v_value v_open v_fault v_place u nb bo) D A s.heap H locs → lv_has ls 5 [(0, .ref ra)] → W p l e rm_X9_stone s m args below meth c H locs 0 0 Q (F0 m 21 ls [.int x_19, .ref ra]) := by
    intro x_19 hF H locs ls hH hl
    delta FX9_stone_j21 at hF
    obtain ⟨v_at_20, v_begin_21, v_token_22, v_value_23, v_fault_24, v_place_25, he, hF⟩ := bd6e hF
    refine rxV hX hK hEv hE0 hH (met_X9_space hE he) gw_StoneYear_Reader_165 hd_yX9_space ⟨Nat.le_of_ble_eq_true rfl, Nat.le_of_ble_eq_true rfl⟩ rfl rfl hl (Nat.le_of_ble_eq_true rfl) dX9_stone_21 ⟨Nat.le_of_ble_eq_true rfl, Nat.le_of_ble_eq_true rfl⟩ (fun H locs hH => ?_)
    refine lv_aload_n hx hb dX9_stone_24 rfl (lv_at hl 0 rfl) ?_
    refine lv_iconst (v := 0) hx hb dX9_stone_25 kyi_0 ?_
    refine lv_bipush (v := 7) hx hb dX9_stone_26 kyb_7 ?_
    obtain ⟨x_26, v_at_27, v_begin_28, v_token_29, v_value_30, v_fault_31, v_place_32, he, hF⟩ := bd7e hF
    refine rxV hX hK hEv hE0 hH (met_X9_number hE he) gw_StoneYear_Reader_139 hd_yX9_number ⟨Nat.le_of_ble_eq_true rfl, Nat.le_of_ble_eq_true rfl⟩ rfl rfl hl (Nat.le_of_ble_eq_true rfl) dX9_stone_28 ⟨Nat.le_of_ble_eq_true rfl, Nat.le_of_ble_eq_true rfl⟩ (fun H locs hH => ?_)
    refine lv_istore_n (lv' := [(1, .int x_26), (0, .ref ra)]) hx hb dX9_stone_31 rfl hl (by decide) rfl (fun ls hl => ?_)
    refine lv_aload_n hx hb dX9_stone_32 rfl (lv_at hl 1 rfl) ?_
    refine va_ldcS (tx := "size") hx hb hown (hE.r179 _ _ _ hE0) dX9_stone_33 ?_
    obtain ⟨v_at_33, v_begin_34, v_token_35, v_value_36, v_fault_37, v_place_38, he, hF⟩ := bd6e hF
    refine rxV hX hK hEv hE0 hH (met_X9_need hE hE.s179 he) gw_StoneYear_Reader_180 hd_yX9_need ⟨Nat.le_of_ble_eq_true rfl, Nat.le_of_ble_eq_true rfl⟩ rfl rfl hl (Nat.le_of_ble_eq_true rfl) dX9_stone_35 ⟨Nat.le_of_ble_eq_true rfl, Nat.le_of_ble_eq_true rfl⟩ (fun H locs hH => ?_)
    refine lv_aload_n hx hb dX9_stone_38 rfl (lv_at hl 1 rfl) ?_
    refine lv_iconst (v := 1) hx hb dX9_stone_39 kyi_1 ?_
    refine lv_bipush (v := 9) hx hb dX9_stone_40 kyb_9 ?_
    obtain ⟨x_39, v_at_40, v_begin_41, v_token_42, v_value_43, v_fault_44, v_place_45, he, hF⟩ := bd7e hF
    refine rxV hX hK hEv hE0 hH (met_X9_number hE he) gw_StoneYear_Reader_139 hd_yX9_number ⟨Nat.le_of_ble_eq_true rfl, Nat.le_of_ble_eq_true rfl⟩ rfl rfl hl (Nat.le_of_ble_eq_true rfl) dX9_stone_42 ⟨Nat.le_of_ble_eq_true rfl, Nat.le_of_ble_eq_true rfl⟩ (fun H locs hH => ?_)
    refine lv_istore_n (lv' := [(2, .int x_39), (1, .int x_26), (0, .ref ra)]) hx hb dX9_stone_45 rfl hl (by decide) rfl (fun ls hl => ?_)
    refine lv_aload_n hx hb dX9_stone_46 rfl (lv_at hl 2 rfl) ?_
    refine va_ldcS (tx := "at") hx hb hown (hE.r184 _ _ _ hE0) dX9_stone_47 ?_
    obtain ⟨v_at_46, v_begin_47, v_token_48, v_value_49, v_fault_50, v_place_51, he, hF⟩ := bd6e hF
    refine rxV hX hK hEv hE0 hH (met_X9_need hE hE.s184 he) gw_StoneYear_Reader_180 hd_yX9_need ⟨Nat.le_of_ble_eq_true rfl, Nat.le_of_ble_eq_true rfl⟩ rfl rfl hl (Nat.le_of_ble_eq_true rfl) dX9_stone_49 ⟨Nat.le_of_ble_eq_true rfl, Nat.le_of_ble_eq_true rfl⟩ (fun H locs hH => ?_)
    refine lv_aload_n hx hb dX9_stone_52 rfl (lv_at hl 2 rfl) ?_
    refine lv_iconst (v := 0) hx hb dX9_stone_53 kyi_0 ?_
    refine lv_aload_n hx hb dX9_stone_54 rfl (lv_at hl 2 rfl) ?_
    refine rg_town hX hK hH dX9_stone_55 ?_
    obtain ⟨w, hw, hm⟩ := hH
    refine cg_Y_Reader_town_rows hw.town (plin w) hX hK hNW hm dX9_stone_58 ?_
    have hH : RHG (RWP cA ra x0 tp size tape fw lo ta ba v_at_46 v_begin_47 v_token_48 v_value_49 v_open v_fault_50 v_place_51 u nb bo) D A s.heap H locs := ⟨_, hw, hm⟩
    obtain ⟨w, hw, hm⟩ := hH
    refine mxV hX hK hEv hE0 hm (met_J2_size hEv hw.town.rows (plin w)) (precv (plin w) hK hm 17 rfl hw.town.rows.obj) gw_StoneYear_Reader_163 hd_yJ2_size ⟨Nat.le_of_ble_eq_true rfl, Nat.le_of_ble_eq_true rfl⟩ rfl rfl hl (Nat.le_of_ble_eq_true rfl) dX9_stone_61 ⟨Nat.le_of_ble_eq_true rfl, Nat.le_of_ble_eq_true rfl⟩ (fun w2 H locs hw2 hm => ?_)
    rw [hw2] at hm
    have hH : RHG (RWP cA ra x0 tp size tape fw lo ta ba v_at_46 v_begin_47 v_token_48 v_value_49 v_open v_fault_50 v_place_51 u nb bo) D A s.heap H locs := ⟨_, hw, hm⟩
    refine lv_iconst (v := 1) hx hb dX9_stone_64 kyi_1 ?_
    refine lv_isub hx hb dX9_stone_65 ?_
    obtain ⟨b_52, v_fault_53, v_place_54, he, hF⟩ := bd3e hF
    refine rxV hX hK hEv hE0 hH (met_X9_seen hE he) gw_StoneYear_Reader_103 hd_yX9_seen ⟨Nat.le_of_ble_eq_true rfl, Nat.le_of_ble_eq_true rfl⟩ rfl rfl hl (Nat.le_of_ble_eq_true rfl) dX9_stone_66 ⟨Nat.le_of_ble_eq_true rfl, Nat.le_of_ble_eq_true rfl⟩ (fun H locs hH => ?_)
    have j120 : ∀ (v_fault_65 : Int32) (v_place_66 : Int32), FX9_stone_j120 u size tape x_26 x_39 v_at_46 v_begin_47 v_token_48 v_value_49 v_fault_65 v_place_66 = some (rv_at, rv_begin, rv_token, rv_value, rv_fault, rv_place, ru) → ∀ (H : Heap) (locs : List Loc) (ls : Array Slot), RHG (RWP cA ra x0 tp size tape fw lo ta ba v_at_46 v_begin_47 v_token_48 v_value_49 v_open v_fault_65 v_place_66 u nb bo) D A s.heap H locs → lv_has ls 5 [(0, .ref ra), (1, .int x_26), (2, .int x_39)] → W p l e rm_X9_stone s m args below meth c H locs 0 0 Q (F0 m 120 ls []) := by
      intro v_fault_65 v_place_66 hF H locs ls hH hl
      delta FX9_stone_j120 at hF
      refine lv_aload_n hx hb dX9_stone_120 rfl (lv_at hl 0 rfl) ?_
      refine lv_iconst (v := 0) hx hb dX9_stone_121 kyi_0 ?_
      refine lv_aload_n hx hb dX9_stone_122 rfl (lv_at hl 0 rfl) ?_
      refine rg_town hX hK hH dX9_stone_123 ?_
      obtain ⟨w, hw, hm⟩ := hH
      refine cg_Y_Reader_town_rows hw.town (plin w) hX hK hNW hm dX9_stone_126 ?_
      have hH : RHG (RWP cA ra x0 tp size tape fw lo ta ba v_at_46 v_begin_47 v_token_48 v_value_49 v_open v_fault_65 v_place_66 u nb bo) D A s.heap H locs := ⟨_, hw, hm⟩
      obtain ⟨w, hw, hm⟩ := hH
      refine mxV hX hK hEv hE0 hm (met_J2_size hEv hw.town.rows (plin w)) (precv (plin w) hK hm 17 rfl hw.town.rows.obj) gw_StoneYear_Reader_163 hd_yJ2_size ⟨Nat.le_of_ble_eq_true rfl, Nat.le_of_ble_eq_true rfl⟩ rfl rfl hl (Nat.le_of_ble_eq_true rfl) dX9_stone_129 ⟨Nat.le_of_ble_eq_true rfl, Nat.le_of_ble_eq_true rfl⟩ (fun w2 H locs hw2 hm => ?_)
      rw [hw2] at hm
      have hH : RHG (RWP cA ra x0 tp size tape fw lo ta ba v_at_46 v_begin_47 v_token_48 v_value_49 v_open v_fault_65 v_place_66 u nb bo) D A s.heap H locs := ⟨_, hw, hm⟩
      refine lv_iconst (v := 1) hx hb dX9_stone_132 kyi_1 ?_
      refine lv_isub hx hb dX9_stone_133 ?_
      obtain ⟨x_67, v_at_68, v_begin_69, v_token_70, v_value_71, v_fault_72, v_place_73, he, hF⟩ := bd7e hF
      refine rxV hX hK hEv hE0 hH (met_X9_number hE he) gw_StoneYear_Reader_139 hd_yX9_number ⟨Nat.le_of_ble_eq_true rfl, Nat.le_of_ble_eq_true rfl⟩ rfl rfl hl (Nat.le_of_ble_eq_true rfl) dX9_stone_134 ⟨Nat.le_of_ble_eq_true rfl, Nat.le_of_ble_eq_true rfl⟩ (fun H locs hH => ?_)
      refine lv_istore_n (lv' := [(3, .int x_67), (0, .ref ra), (1, .int x_26), (2, .int x_39)]) hx hb dX9_stone_137 rfl hl (by decide) rfl (fun ls hl => ?_)
      refine lv_aload_n hx hb dX9_stone_138 rfl (lv_at hl 1 rfl) ?_
      refine va_ldcS (tx := "bears") hx hb hown (hE.r195 _ _ _ hE0) dX9_stone_139 ?_
      obtain ⟨b_74, v_at_75, v_begin_76, v_token_77, v_value_78, he, hF⟩ := bd5e hF
      refine rxV hX hK hEv hE0 hH (met_X9_takes hE hE.s195 he) gw_StoneYear_Reader_97 hd_yX9_takes ⟨Nat.le_of_ble_eq_true rfl, Nat.le_of_ble_eq_true rfl⟩ rfl rfl hl (Nat.le_of_ble_eq_true rfl) dX9_stone_141 ⟨Nat.le_of_ble_eq_true rfl, Nat.le_of_ble_eq_true rfl⟩ (fun H locs hH => ?_)
      have j159 : ∀ (x_87 : Int32) (v_at_88 : Int32) (v_begin_89 : Int32) (v_token_90 : Int32) (v_value_91 : Int32) (v_fault_92 : Int32) (v_place_93 : Int32), FX9_stone_j159 u x_26 x_39 x_67 x_87 v_at_88 v_begin_89 v_token_90 v_value_91 v_fault_92 v_place_93 = some (rv_at, rv_begin, rv_token, rv_value, rv_fault, rv_place, ru) → ∀ (H : Heap) (locs : List Loc) (ls : Array Slot), RHG (RWP cA ra x0 tp size tape fw lo ta ba v_at_88 v_begin_89 v_token_90 v_value_91 v_open v_fault_92 v_place_93 u nb bo) D A s.heap H locs → lv_has ls 5 [(0, .ref ra), (1, .int x_26), (2, .int x_39), (3, .int x_67)] → W p l e rm_X9_stone s m args below meth c H locs 0 0 Q (F0 m 159 ls [.int x_87]) := by
        intro x_87 v_at_88 v_begin_89 v_token_90 v_value_91 v_fault_92 v_place_93 hF H locs ls hH hl
        delta FX9_stone_j159 at hF
        refine lv_istore (lv' := [(4, .int x_87), (0, .ref ra), (1, .int x_26), (2, .int x_39), (3, .int x_67)]) hx hb dX9_stone_159 hl (by decide) rfl (fun ls hl => ?_)
        refine lv_aload_n hx hb dX9_stone_161 rfl (lv_at hl 1 rfl) ?_
        refine rg_fault hX hK hH dX9_stone_162 ?_
        refine lv_if_eq (tgt := 169) hx hb dX9_stone_165 rfl (fun c_94 => ?_) (fun c_94 => ?_)
        · have hF := itp c_94 hF
          refine lv_aload_n hx hb dX9_stone_169 rfl (lv_at hl 1 rfl) ?_
          refine rg_town hX hK hH dX9_stone_170 ?_
          obtain ⟨w, hw, hm⟩ := hH
          refine cg_Y_Reader_town_rows hw.town (plin w) hX hK hNW hm dX9_stone_173 ?_
          have hH : RHG (RWP cA ra x0 tp size tape fw lo ta ba v_at_88 v_begin_89 v_token_90 v_value_91 v_open v_fault_92 v_place_93 u nb bo) D A s.heap H locs := ⟨_, hw, hm⟩
          refine lv_iload_n hx hb dX9_stone_176 rfl (lv_at hl 4 rfl) ?_
          obtain ⟨hg_95, hF⟩ := bd0e hF
          obtain ⟨w, hw, hm⟩ := hH
          refine mxV hX hK hEv hE0 hm (met_J2_get hEv rfl hw.town.rows hg_95 (plin w)) (precv (plin w) hK hm 17 rfl hw.town.rows.obj) gw_StoneYear_Reader_185 hd_yJ2_get ⟨Nat.le_of_ble_eq_true rfl, Nat.le_of_ble_eq_true rfl⟩ rfl rfl hl (Nat.le_of_ble_eq_true rfl) dX9_stone_177 ⟨Nat.le_of_ble_eq_true rfl, Nat.le_of_ble_eq_true rfl⟩ (fun w2 H locs hw2 hm => ?_)
          rw [hw2] at hm
          have hH : RHG (RWP cA ra x0 tp size tape fw lo ta ba v_at_88 v_begin_89 v_token_90 v_value_91 v_open v_fault_92 v_place_93 u nb bo) D A s.heap H locs := ⟨_, hw, hm⟩
          obtain ⟨hg_96, hF⟩ := bd0e hF
          obtain ⟨w, hw, hm⟩ := hH
          refine va_castE hx hb hown (hts _ q679) (precv (plin w) hK hm 10 rfl ⟨_, hw.town.row (alg_lt hg_96)⟩) dX9_stone_180 ?_
          have hH : RHG (RWP cA ra x0 tp size tape fw lo ta ba v_at_88 v_begin_89 v_token_90 v_value_91 v_open v_fault_92 v_place_93 u nb bo) D A s.heap H locs := ⟨_, hw, hm⟩
          refine lv_dup hx hb dX9_stone_183 rfl ?_
          obtain ⟨hg_97, hF⟩ := bd0e hF
          obtain ⟨w, hw, hm⟩ := hH
          refine cg_Y_Reader_row_lay hw.town (alg_lt hg_97) (plin w) hX hK hNW hm dX9_stone_184 ?_
          have hH : RHG (RWP cA ra x0 tp size tape fw lo ta ba v_at_88 v_begin_89 v_token_90 v_value_91 v_open v_fault_92 v_place_93 u nb bo) D A s.heap H locs := ⟨_, hw, hm⟩
          refine lv_iconst (v := 1) hx hb dX9_stone_187 kyi_1 ?_
          refine lv_iadd hx hb dX9_stone_188 ?_
          obtain ⟨hg_98, hF⟩ := bd0e hF
          refine rp_lay hg_98 hX hK hH hNW dX9_stone_189 (fun H locs hH => ?_)
          refine lv_aload_n hx hb dX9_stone_192 rfl (lv_at hl 1 rfl) ?_
          obtain ⟨hg_99, hF⟩ := bd0e hF
          refine rs_addStone hX hK hE hE0 hH hg_99 hl (lv_at hl 1 rfl) (lv_at hl 2 rfl) (lv_at hl 3 rfl) (lv_at hl 4 rfl) (lv_at hl 0 rfl) ⟨Nat.le_of_ble_eq_true rfl, Nat.le_of_ble_eq_true rfl⟩ ⟨Nat.le_of_ble_eq_true rfl, Nat.le_of_ble_eq_true rfl⟩ (fun lo_100 ta_100 H locs hlo_100 hH => ?_)
          obtain ⟨rfl, rfl, rfl, rfl, rfl, rfl, rfl⟩ := re7 hF
          obtain ⟨w, hw, hm⟩ := hH
          exact hret _ _ _ _ ⟨w, ⟨_, _, fun _ h => hlo_100 _ h, hw⟩, hm⟩ dX9_stone_215
        · have hF := itn c_94 hF
          obtain ⟨rfl, rfl, rfl, rfl, rfl, rfl, rfl⟩ := re7 hF
          refine W.widen (k := 2) (n := 24) (Nat.le_of_ble_eq_true rfl) (Nat.le_of_ble_eq_true rfl) ?_
          obtain ⟨w, hw, hm⟩ := hH
          exact hret _ _ _ _ ⟨w, ⟨_, _, fun _ h => h, hw⟩, hm⟩ dX9_stone_168
      refine lv_if_eq (tgt := 157) hx hb dX9_stone_144 rfl (fun c_79 => ?_) (fun c_79 => ?_)
      · have hF := itp c_79 hF
        refine lv_bipush (v := 99) hx hb dX9_stone_157 kyb_99 ?_
        exact j159 99 v_at_75 v_begin_76 v_token_77 v_value_78 v_fault_72 v_place_73 hF _ _ _ hH (lv_sub hl [1, 2, 3, 0] rfl)
      · have hF := itn c_79 hF
        refine lv_aload_n hx hb dX9_stone_147 rfl (lv_at hl 1 rfl) ?_
        refine lv_iconst (v := 0) hx hb dX9_stone_148 kyi_0 ?_
        refine lv_bipush (v := 99) hx hb dX9_stone_149 kyb_99 ?_
        obtain ⟨x_80, v_at_81, v_begin_82, v_token_83, v_value_84, v_fault_85, v_place_86, he, hF⟩ := bd7e hF
        refine rxV hX hK hEv hE0 hH (met_X9_number hE he) gw_StoneYear_Reader_139 hd_yX9_number ⟨Nat.le_of_ble_eq_true rfl, Nat.le_of_ble_eq_true rfl⟩ rfl rfl hl (Nat.le_of_ble_eq_true rfl) dX9_stone_151 ⟨Nat.le_of_ble_eq_true rfl, Nat.le_of_ble_eq_true rfl⟩ (fun H locs hH => ?_)
        refine lv_goto (tgt := 159) hx hb dX9_stone_154 rfl ?_
        exact j159 x_80 v_at_81 v_begin_82 v_token_83 v_value_84 v_fault_85 v_place_86 hF _ _ _ hH (lv_sub hl [1, 2, 3, 0] rfl)
    refine lv_if_eq (tgt := 120) hx hb dX9_stone_69 rfl (fun c_55 => ?_) (fun c_55 => ?_)
    · have hF := itp c_55 hF
      exact j120 v_fault_53 v_place_54 hF _ _ _ hH (lv_sub hl [2, 1, 0] rfl)
    · have hF := itn c_55 hF
      refine lv_aload_n hx hb dX9_stone_72 rfl (lv_at hl 2 rfl) ?_
      refine rg_town hX hK hH dX9_stone_73 ?_
      obtain ⟨w, hw, hm⟩ := hH
      refine cg_Y_Reader_town_rows hw.town (plin w) hX hK hNW hm dX9_stone_76 ?_
      have hH : RHG (RWP cA ra x0 tp size tape fw lo ta ba v_at_46 v_begin_47 v_token_48 v_value_49 v_open v_fault_53 v_place_54 u nb bo) D A s.heap H locs := ⟨_, hw, hm⟩
      refine lv_aload_n hx hb dX9_stone_79 rfl (lv_at hl 2 rfl) ?_
      refine rg_value hX hK hH dX9_stone_80 ?_
      obtain ⟨hg_56, hF⟩ := bd0e hF
      obtain ⟨w, hw, hm⟩ := hH
      refine mxV hX hK hEv hE0 hm (met_J2_get hEv rfl hw.town.rows hg_56 (plin w)) (precv (plin w) hK hm 17 rfl hw.town.rows.obj) gw_StoneYear_Reader_185 hd_yJ2_get ⟨Nat.le_of_ble_eq_true rfl, Nat.le_of_ble_eq_true rfl⟩ rfl rfl hl (Nat.le_of_ble_eq_true rfl) dX9_stone_83 ⟨Nat.le_of_ble_eq_true rfl, Nat.le_of_ble_eq_true rfl⟩ (fun w2 H locs hw2 hm => ?_)
      rw [hw2] at hm
      have hH : RHG (RWP cA ra x0 tp size tape fw lo ta ba v_at_46 v_begin_47 v_token_48 v_value_49 v_open v_fault_53 v_place_54 u nb bo) D A s.heap H locs := ⟨_, hw, hm⟩
      obtain ⟨hg_57, hF⟩ := bd0e hF
      obtain ⟨w, hw, hm⟩ := hH
      refine va_castE hx hb hown (hts _ q679) (precv (plin w) hK hm 10 rfl ⟨_, hw.town.row (alg_lt hg_57)⟩) dX9_stone_86 ?_
      have hH : RHG (RWP cA ra x0 tp size tape fw lo ta ba v_at_46 v_begin_47 v_token_48 v_value_49 v_open v_fault_53 v_place_54 u nb bo) D A s.heap H locs := ⟨_, hw, hm⟩
      obtain ⟨hg_58, hF⟩ := bd0e hF
      obtain ⟨w, hw, hm⟩ := hH
      refine cg_Y_Reader_row_lay hw.town (alg_lt hg_58) (plin w) hX hK hNW hm dX9_stone_89 ?_
      have hH : RHG (RWP cA ra x0 tp size tape fw lo ta ba v_at_46 v_begin_47 v_token_48 v_value_49 v_open v_fault_53 v_place_54 u nb bo) D A s.heap H locs := ⟨_, hw, hm⟩
      refine lv_aload_n hx hb dX9_stone_92 rfl (lv_at hl 2 rfl) ?_
      refine rg_town hX hK hH dX9_stone_93 ?_
      obtain ⟨w, hw, hm⟩ := hH
      refine cg_Y_Reader_town_rows hw.town (plin w) hX hK hNW hm dX9_stone_96 ?_
      have hH : RHG (RWP cA ra x0 tp size tape fw lo ta ba v_at_46 v_begin_47 v_token_48 v_value_49 v_open v_fault_53 v_place_54 u nb bo) D A s.heap H locs := ⟨_, hw, hm⟩
      refine lv_aload_n hx hb dX9_stone_99 rfl (lv_at hl 2 rfl) ?_
      refine rg_value hX hK hH dX9_stone_100 ?_
      obtain ⟨hg_59, hF⟩ := bd0e hF
      obtain ⟨w, hw, hm⟩ := hH
      refine mxV hX hK hEv hE0 hm (met_J2_get hEv rfl hw.town.rows hg_59 (plin w)) (precv (plin w) hK hm 17 rfl hw.town.rows.obj) gw_StoneYear_Reader_185 hd_yJ2_get ⟨Nat.le_of_ble_eq_true rfl, Nat.le_of_ble_eq_true rfl⟩ rfl rfl hl (Nat.le_of_ble_eq_true rfl) dX9_stone_103 ⟨Nat.le_of_ble_eq_true rfl, Nat.le_of_ble_eq_true rfl⟩ (fun w2 H locs hw2 hm => ?_)
      rw [hw2] at hm
      have hH : RHG (RWP cA ra x0 tp size tape fw lo ta ba v_at_46 v_begin_47 v_token_48 v_value_49 v_open v_fault_53 v_place_54 u nb bo) D A s.heap H locs := ⟨_, hw, hm⟩
      obtain ⟨hg_60, hF⟩ := bd0e hF
      obtain ⟨w, hw, hm⟩ := hH
      refine va_castE hx hb hown (hts _ q679) (precv (plin w) hK hm 10 rfl ⟨_, hw.town.row (alg_lt hg_60)⟩) dX9_stone_106 ?_
      have hH : RHG (RWP cA ra x0 tp size tape fw lo ta ba v_at_46 v_begin_47 v_token_48 v_value_49 v_open v_fault_53 v_place_54 u nb bo) D A s.heap H locs := ⟨_, hw, hm⟩
      obtain ⟨hg_61, hF⟩ := bd0e hF
      obtain ⟨w, hw, hm⟩ := hH
      refine cg_Y_Reader_row_high hw.town (alg_lt hg_61) (plin w) hX hK hNW hm dX9_stone_109 ?_
      have hH : RHG (RWP cA ra x0 tp size tape fw lo ta ba v_at_46 v_begin_47 v_token_48 v_value_49 v_open v_fault_53 v_place_54 u nb bo) D A s.heap H locs := ⟨_, hw, hm⟩
      refine lv_icmp_ne (tgt := 120) hx hb dX9_stone_112 rfl (fun c_62 => ?_) (fun c_62 => ?_)
      · have hF := itn c_62 hF
        exact j120 v_fault_53 v_place_54 hF _ _ _ hH (lv_sub hl [2, 1, 0] rfl)
      · have hF := itp c_62 hF
        refine lv_aload_n hx hb dX9_stone_115 rfl (lv_at hl 2 rfl) ?_
        refine lv_iconst (v := 3) hx hb dX9_stone_116 kyi_3 ?_
        obtain ⟨v_fault_63, v_place_64, he, hF⟩ := bd2e hF
        refine rxV hX hK hEv hE0 hH (met_X9_wrong hE he) gw_StoneYear_Reader_100 hd_yX9_wrong ⟨Nat.le_of_ble_eq_true rfl, Nat.le_of_ble_eq_true rfl⟩ rfl rfl hl (Nat.le_of_ble_eq_true rfl) dX9_stone_117 ⟨Nat.le_of_ble_eq_true rfl, Nat.le_of_ble_eq_true rfl⟩ (fun H locs hH => ?_)
        exact j120 v_fault_63 v_place_64 hF _ _ _ hH (lv_sub hl [2, 1, 0] rfl)
  refine lv_icmp_ne (tgt := 20) hx hb dX9_stone_13 rfl (fun c_18 => ?_) (fun c_18 => ?_)
  · have hF := itn c_18 hF
    refine lv_iconst (v := 0) hx hb dX9_stone_20 kyi_0 ?_
    exact j21 0 hF _ _ _ hH (lv_sub hl [0] rfl)
  · have hF := itp c_18 hF
    refine lv_iconst (v := 1) hx hb dX9_stone_16 kyi_1 ?_
    refine lv_goto (tgt := 21) hx hb dX9_stone_17 rfl ?_
    exact j21 1 hF _ _ _ hH (lv_sub hl [0] rfl)
abbrev rm_X9_wish : Room := { frames := 7, cells := 0, slots := 0, locals := 149 }
set_option maxHeartbeats 4000000 in
theorem met_X9_wish {l : Launch} {D : va_G} {cA : Nat → ClassId} {ra x0 tp : Nat} {size : Int32} {tape : Nat → Int32} {fw : va_W} {lo : va_W} {ta ba : Nat → Nat} {v_at v_begin v_token v_value v_open v_fault v_place : Int32} {u : Nat → Int32} {nb : Int32} {bo : Nat → FcT}  {rv_at : Int32} {rv_begin : Int32} {rv_token : Int32} {rv_value : Int32} {rv_fault : Int32} {rv_place : Int32} {ru : Nat → Int32} {E : EvT} {ks vs : Nat → Nat} {fo mi : Nat} (hE : EvR E ks vs fo mi) (hF : FX9_wish size tape v_at v_value v_fault v_place u = some (rv_at, rv_begin, rv_token, rv_value, rv_fault, rv_place, ru)) : RX l yX9_wish (ws_ yX9_wish cX9_wish 6 (Option.none : Option Jvm.ClassFile.FieldType)) rm_X9_wish D cA E [.ref ra] (RWP cA ra x0 tp size tape fw lo ta ba v_at v_begin v_token v_value v_open v_fault v_place u nb bo) (RWP cA ra x0 tp size tape fw lo ta ba rv_at rv_begin rv_token rv_value v_open rv_fault rv_place ru nb bo) none := by
  refine RX.ofV (by decide) (Nat.le_of_ble_eq_true rfl) ?_
  intro p e s m args below meth c Q A hX hK hE0 hname hret H locs ls hH hl
  have hX : CallFix p m c cX9_wish 6 s args lw_all RX9 := hX
  have hx := hX.1
  have hb := hX.2.1
  have hown := hX.2.2.2.1
  have hts := hX.2.2.2.2
  have hl : lv_has ls 6 [(0, .ref ra)] := hl
  have hEv := hE.1.1.1
  have hNW := hE.1.1.2.1 _ _ _ hE0
  delta FX9_wish at hF
  refine lv_aload_n hx hb dX9_wish_0 rfl (lv_at hl 0 rfl) ?_
  obtain ⟨v_at_18, v_begin_19, v_token_20, v_value_21, he, hF⟩ := bd4e hF
  refine rxV hX hK hEv hE0 hH (met_X9_next hE he) gw_StoneYear_Reader_94 hd_yX9_next ⟨Nat.le_of_ble_eq_true rfl, Nat.le_of_ble_eq_true rfl⟩ rfl rfl hl (Nat.le_of_ble_eq_true rfl) dX9_wish_1 ⟨Nat.le_of_ble_eq_true rfl, Nat.le_of_ble_eq_true rfl⟩ (fun H locs hH => ?_)
  refine lv_aload_n hx hb dX9_wish_4 rfl (lv_at hl 0 rfl) ?_
  refine lv_iconst (v := 0) hx hb dX9_wish_5 kyi_0 ?_
  refine lv_aload_n hx hb dX9_wish_6 rfl (lv_at hl 0 rfl) ?_
  refine rg_town hX hK hH dX9_wish_7 ?_
  obtain ⟨w, hw, hm⟩ := hH
  refine cg_Y_Reader_town_rows hw.town (plin w) hX hK hNW hm dX9_wish_10 ?_
  have hH : RHG (RWP cA ra x0 tp size tape fw lo ta ba v_at_18 v_begin_19 v_token_20 v_value_21 v_open v_fault v_place u nb bo) D A s.heap H locs := ⟨_, hw, hm⟩
  obtain ⟨w, hw, hm⟩ := hH
  refine mxV hX hK hEv hE0 hm (met_J2_size hEv hw.town.rows (plin w)) (precv (plin w) hK hm 17 rfl hw.town.rows.obj) gw_StoneYear_Reader_163 hd_yJ2_size ⟨Nat.le_of_ble_eq_true rfl, Nat.le_of_ble_eq_true rfl⟩ rfl rfl hl (Nat.le_of_ble_eq_true rfl) dX9_wish_13 ⟨Nat.le_of_ble_eq_true rfl, Nat.le_of_ble_eq_true rfl⟩ (fun w2 H locs hw2 hm => ?_)
  rw [hw2] at hm
  have hH : RHG (RWP cA ra x0 tp size tape fw lo ta ba v_at_18 v_begin_19 v_token_20 v_value_21 v_open v_fault v_place u nb bo) D A s.heap H locs := ⟨_, hw, hm⟩
  refine lv_iconst (v := 1) hx hb dX9_wish_16 kyi_1 ?_
  refine lv_isub hx hb dX9_wish_17 ?_
  obtain ⟨b_22, v_fault_23, v_place_24, he, hF⟩ := bd3e hF
  refine rxV hX hK hEv hE0 hH (met_X9_seen hE he) gw_StoneYear_Reader_103 hd_yX9_seen ⟨Nat.le_of_ble_eq_true rfl, Nat.le_of_ble_eq_true rfl⟩ rfl rfl hl (Nat.le_of_ble_eq_true rfl) dX9_wish_18 ⟨Nat.le_of_ble_eq_true rfl, Nat.le_of_ble_eq_true rfl⟩ (fun H locs hH => ?_)
  have j53 : ∀ (v_fault_32 : Int32) (v_place_33 : Int32), FX9_wish_j53 u size tape v_at_18 v_begin_19 v_token_20 v_value_21 v_fault_32 v_place_33 = some (rv_at, rv_begin, rv_token, rv_value, rv_fault, rv_place, ru) → ∀ (H : Heap) (locs : List Loc) (ls : Array Slot), RHG (RWP cA ra x0 tp size tape fw lo ta ba v_at_18 v_begin_19 v_token_20 v_value_21 v_open v_fault_32 v_place_33 u nb bo) D A s.heap H locs → lv_has ls 6 [(0, .ref ra)] → W p l e rm_X9_wish s m args below meth c H locs 0 0 Q (F0 m 53 ls []) := by
    intro v_fault_32 v_place_33 hF H locs ls hH hl
    delta FX9_wish_j53 at hF
    refine lv_aload_n hx hb dX9_wish_53 rfl (lv_at hl 0 rfl) ?_
    refine lv_iconst (v := 0) hx hb dX9_wish_54 kyi_0 ?_
    refine lv_aload_n hx hb dX9_wish_55 rfl (lv_at hl 0 rfl) ?_
    refine rg_town hX hK hH dX9_wish_56 ?_
    obtain ⟨w, hw, hm⟩ := hH
    refine cg_Y_Reader_town_rows hw.town (plin w) hX hK hNW hm dX9_wish_59 ?_
    have hH : RHG (RWP cA ra x0 tp size tape fw lo ta ba v_at_18 v_begin_19 v_token_20 v_value_21 v_open v_fault_32 v_place_33 u nb bo) D A s.heap H locs := ⟨_, hw, hm⟩
    obtain ⟨w, hw, hm⟩ := hH
    refine mxV hX hK hEv hE0 hm (met_J2_size hEv hw.town.rows (plin w)) (precv (plin w) hK hm 17 rfl hw.town.rows.obj) gw_StoneYear_Reader_163 hd_yJ2_size ⟨Nat.le_of_ble_eq_true rfl, Nat.le_of_ble_eq_true rfl⟩ rfl rfl hl (Nat.le_of_ble_eq_true rfl) dX9_wish_62 ⟨Nat.le_of_ble_eq_true rfl, Nat.le_of_ble_eq_true rfl⟩ (fun w2 H locs hw2 hm => ?_)
    rw [hw2] at hm
    have hH : RHG (RWP cA ra x0 tp size tape fw lo ta ba v_at_18 v_begin_19 v_token_20 v_value_21 v_open v_fault_32 v_place_33 u nb bo) D A s.heap H locs := ⟨_, hw, hm⟩
    refine lv_iconst (v := 1) hx hb dX9_wish_65 kyi_1 ?_
    refine lv_isub hx hb dX9_wish_66 ?_
    obtain ⟨x_34, v_at_35, v_begin_36, v_token_37, v_value_38, v_fault_39, v_place_40, he, hF⟩ := bd7e hF
    refine rxV hX hK hEv hE0 hH (met_X9_number hE he) gw_StoneYear_Reader_139 hd_yX9_number ⟨Nat.le_of_ble_eq_true rfl, Nat.le_of_ble_eq_true rfl⟩ rfl rfl hl (Nat.le_of_ble_eq_true rfl) dX9_wish_67 ⟨Nat.le_of_ble_eq_true rfl, Nat.le_of_ble_eq_true rfl⟩ (fun H locs hH => ?_)
    refine lv_istore_n (lv' := [(1, .int x_34), (0, .ref ra)]) hx hb dX9_wish_70 rfl hl (by decide) rfl (fun ls hl => ?_)
    refine lv_aload_n hx hb dX9_wish_71 rfl (lv_at hl 1 rfl) ?_
    refine va_ldcS (tx := "by") hx hb hown (hE.r205 _ _ _ hE0) dX9_wish_72 ?_
    obtain ⟨b_41, v_at_42, v_begin_43, v_token_44, v_value_45, he, hF⟩ := bd5e hF
    refine rxV hX hK hEv hE0 hH (met_X9_takes hE hE.s205 he) gw_StoneYear_Reader_97 hd_yX9_takes ⟨Nat.le_of_ble_eq_true rfl, Nat.le_of_ble_eq_true rfl⟩ rfl rfl hl (Nat.le_of_ble_eq_true rfl) dX9_wish_74 ⟨Nat.le_of_ble_eq_true rfl, Nat.le_of_ble_eq_true rfl⟩ (fun H locs hH => ?_)
    have j90 : ∀ (x_54 : Int32) (v_at_55 : Int32) (v_begin_56 : Int32) (v_token_57 : Int32) (v_value_58 : Int32) (v_fault_59 : Int32) (v_place_60 : Int32), FX9_wish_j90 u size tape x_34 x_54 v_at_55 v_begin_56 v_token_57 v_value_58 v_fault_59 v_place_60 = some (rv_at, rv_begin, rv_token, rv_value, rv_fault, rv_place, ru) → ∀ (H : Heap) (locs : List Loc) (ls : Array Slot), RHG (RWP cA ra x0 tp size tape fw lo ta ba v_at_55 v_begin_56 v_token_57 v_value_58 v_open v_fault_59 v_place_60 u nb bo) D A s.heap H locs → lv_has ls 6 [(0, .ref ra), (1, .int x_34)] → W p l e rm_X9_wish s m args below meth c H locs 0 0 Q (F0 m 90 ls [.int x_54]) := by
      intro x_54 v_at_55 v_begin_56 v_token_57 v_value_58 v_fault_59 v_place_60 hF H locs ls hH hl
      delta FX9_wish_j90 at hF
      refine lv_istore_n (lv' := [(2, .int x_54), (0, .ref ra), (1, .int x_34)]) hx hb dX9_wish_90 rfl hl (by decide) rfl (fun ls hl => ?_)
      refine lv_aload_n hx hb dX9_wish_91 rfl (lv_at hl 1 rfl) ?_
      refine va_ldcS (tx := "for") hx hb hown (hE.r207 _ _ _ hE0) dX9_wish_92 ?_
      obtain ⟨v_at_61, v_begin_62, v_token_63, v_value_64, v_fault_65, v_place_66, he, hF⟩ := bd6e hF
      refine rxV hX hK hEv hE0 hH (met_X9_need hE hE.s207 he) gw_StoneYear_Reader_180 hd_yX9_need ⟨Nat.le_of_ble_eq_true rfl, Nat.le_of_ble_eq_true rfl⟩ rfl rfl hl (Nat.le_of_ble_eq_true rfl) dX9_wish_94 ⟨Nat.le_of_ble_eq_true rfl, Nat.le_of_ble_eq_true rfl⟩ (fun H locs hH => ?_)
      refine lv_aload_n hx hb dX9_wish_97 rfl (lv_at hl 1 rfl) ?_
      refine rg_fault hX hK hH dX9_wish_98 ?_
      refine lv_if_eq (tgt := 105) hx hb dX9_wish_101 rfl (fun c_67 => ?_) (fun c_67 => ?_)
      · have hF := itp c_67 hF
        refine lv_aload_n hx hb dX9_wish_105 rfl (lv_at hl 1 rfl) ?_
        refine rg_town hX hK hH dX9_wish_106 ?_
        obtain ⟨w, hw, hm⟩ := hH
        refine cg_Y_Reader_town_rows hw.town (plin w) hX hK hNW hm dX9_wish_109 ?_
        have hH : RHG (RWP cA ra x0 tp size tape fw lo ta ba v_at_61 v_begin_62 v_token_63 v_value_64 v_open v_fault_65 v_place_66 u nb bo) D A s.heap H locs := ⟨_, hw, hm⟩
        refine lv_iload_n hx hb dX9_wish_112 rfl (lv_at hl 2 rfl) ?_
        obtain ⟨hg_68, hF⟩ := bd0e hF
        obtain ⟨w, hw, hm⟩ := hH
        refine mxV hX hK hEv hE0 hm (met_J2_get hEv rfl hw.town.rows hg_68 (plin w)) (precv (plin w) hK hm 17 rfl hw.town.rows.obj) gw_StoneYear_Reader_185 hd_yJ2_get ⟨Nat.le_of_ble_eq_true rfl, Nat.le_of_ble_eq_true rfl⟩ rfl rfl hl (Nat.le_of_ble_eq_true rfl) dX9_wish_113 ⟨Nat.le_of_ble_eq_true rfl, Nat.le_of_ble_eq_true rfl⟩ (fun w2 H locs hw2 hm => ?_)
        rw [hw2] at hm
        have hH : RHG (RWP cA ra x0 tp size tape fw lo ta ba v_at_61 v_begin_62 v_token_63 v_value_64 v_open v_fault_65 v_place_66 u nb bo) D A s.heap H locs := ⟨_, hw, hm⟩
        obtain ⟨hg_69, hF⟩ := bd0e hF
        obtain ⟨w, hw, hm⟩ := hH
        refine va_castE hx hb hown (hts _ q679) (precv (plin w) hK hm 10 rfl ⟨_, hw.town.row (alg_lt hg_69)⟩) dX9_wish_116 ?_
        have hH : RHG (RWP cA ra x0 tp size tape fw lo ta ba v_at_61 v_begin_62 v_token_63 v_value_64 v_open v_fault_65 v_place_66 u nb bo) D A s.heap H locs := ⟨_, hw, hm⟩
        refine lv_astore_n (lv' := [(3, .ref (ta (10 + x_34.toNatClampNeg))), (2, .int x_54), (0, .ref ra), (1, .int x_34)]) hx hb dX9_wish_119 rfl hl (by decide) rfl (fun ls hl => ?_)
        refine lv_iconst (v := 0) hx hb dX9_wish_120 kyi_0 ?_
        refine lv_istore (lv' := [(4, .int 0), (3, .ref (ta (10 + x_34.toNatClampNeg))), (2, .int x_54), (0, .ref ra), (1, .int x_34)]) hx hb dX9_wish_121 hl (by decide) rfl (fun ls hl => ?_)
        obtain ⟨xx123, ee123, kk123_0, kk123_1⟩ := bdS2e hF
        have k123_0 : ∀ (v_at_116 : Int32) (v_begin_117 : Int32) (v_token_118 : Int32) (v_value_119 : Int32) (v_fault_120 : Int32) (v_place_121 : Int32) (u_122 : Nat → Int32), xx123 = (.inl (v_at_116, v_begin_117, v_token_118, v_value_119, v_fault_120, v_place_121, u_122)) → ∀ (H : Heap) (locs : List Loc) (ls : Array Slot), RHG (RWP cA ra x0 tp size tape fw lo ta ba v_at_116 v_begin_117 v_token_118 v_value_119 v_open v_fault_120 v_place_121 u_122 nb bo) D A s.heap H locs → lv_has ls 6 [] → W p l e rm_X9_wish s m args below meth c H locs 0 0 Q (F0 m 168 ls []) := by
          intro v_at_116 v_begin_117 v_token_118 v_value_119 v_fault_120 v_place_121 u_122 hxx H locs ls hH hl
          have hF := un7e (kk123_0 (v_at_116, v_begin_117, v_token_118, v_value_119, v_fault_120, v_place_121, u_122) hxx)
          obtain ⟨rfl, rfl, rfl, rfl, rfl, rfl, rfl⟩ := re7 hF
          exact hret _ _ _ _ hH dX9_wish_168
        have k123_1 : ∀ (x_123 : Int32) (v_at_124 : Int32) (v_begin_125 : Int32) (v_token_126 : Int32) (v_value_127 : Int32) (v_fault_128 : Int32) (v_place_129 : Int32) (u_130 : Nat → Int32), xx123 = (.inr (x_123, v_at_124, v_begin_125, v_token_126, v_value_127, v_fault_128, v_place_129, u_130)) → ∀ (H : Heap) (locs : List Loc) (ls : Array Slot), RHG (RWP cA ra x0 tp size tape fw lo ta ba v_at_124 v_begin_125 v_token_126 v_value_127 v_open v_fault_128 v_place_129 u_130 nb bo) D A s.heap H locs → lv_has ls 6 [(2, .int x_54), (3, .ref (ta (10 + x_34.toNatClampNeg))), (4, .int x_123)] → W p l e rm_X9_wish s m args below meth c H locs 0 0 Q (F0 m 184 ls []) := by
          intro x_123 v_at_124 v_begin_125 v_token_126 v_value_127 v_fault_128 v_place_129 u_130 hxx H locs ls hH hl
          have hF := un8e (kk123_1 (x_123, v_at_124, v_begin_125, v_token_126, v_value_127, v_fault_128, v_place_129, u_130) hxx)
          refine lv_aload_n hx hb dX9_wish_184 rfl (lv_at hl 1 rfl) ?_
          refine lv_iload hx hb dX9_wish_185 (lv_at hl 2 rfl) ?_
          obtain ⟨hg_131, hF⟩ := bd0e hF
          refine rp_wished hg_131 hX hK hH hNW dX9_wish_187 (fun H locs hH => ?_)
          refine lv_aload_n hx hb dX9_wish_190 rfl (lv_at hl 1 rfl) ?_
          refine lv_iload_n hx hb dX9_wish_191 rfl (lv_at hl 0 rfl) ?_
          obtain ⟨hg_132, hF⟩ := bd0e hF
          refine rp_whose hg_132 hX hK hH hNW dX9_wish_192 (fun H locs hH => ?_)
          obtain ⟨rfl, rfl, rfl, rfl, rfl, rfl, rfl⟩ := re7 hF
          exact hret _ _ _ _ hH dX9_wish_195
        obtain ⟨nn123, en123⟩ := loopC_some ee123
        have l123 : ∀ (n : Nat) (x_89 : Int32) (v_at_90 : Int32) (v_begin_91 : Int32) (v_token_92 : Int32) (v_value_93 : Int32) (v_fault_94 : Int32) (v_place_95 : Int32) (u_96 : Nat → Int32), loopN (fun s => FX9_wish_b123 size tape x_34 s.1 s.2.1 s.2.2.1 s.2.2.2.1 s.2.2.2.2.1 s.2.2.2.2.2.1 s.2.2.2.2.2.2.1 s.2.2.2.2.2.2.2) n (x_89, v_at_90, v_begin_91, v_token_92, v_value_93, v_fault_94, v_place_95, u_96) = some xx123 → ∀ (H : Heap) (locs : List Loc) (ls : Array Slot), RHG (RWP cA ra x0 tp size tape fw lo ta ba v_at_90 v_begin_91 v_token_92 v_value_93 v_open v_fault_94 v_place_95 u_96 nb bo) D A s.heap H locs → lv_has ls 6 [(0, .ref ra), (2, .int x_54), (3, .ref (ta (10 + x_34.toNatClampNeg))), (4, .int x_89)] → W p l e rm_X9_wish s m args below meth c H locs 0 0 Q (F0 m 123 ls []) := by
          intro n
          induction n with
          | zero =>
            intro x_89 v_at_90 v_begin_91 v_token_92 v_value_93 v_fault_94 v_place_95 u_96 hN
            exact absurd hN loopN_zero
          | succ n ih =>
            intro x_89 v_at_90 v_begin_91 v_token_92 v_value_93 v_fault_94 v_place_95 u_96 hN H locs ls hH hl
            obtain ⟨yy123, hB123, hY123⟩ := loopN_succ hN
            have hF : FX9_wish_b123 size tape x_34 x_89 v_at_90 v_begin_91 v_token_92 v_value_93 v_fault_94 v_place_95 u_96 = some yy123 := hB123
            delta FX9_wish_b123 at hF
            refine lv_aload_n hx hb dX9_wish_123 rfl (lv_at hl 0 rfl) ?_
            refine rg_fault hX hK hH dX9_wish_124 ?_
            refine lv_if_ne (tgt := 184) hx hb dX9_wish_127 rfl (fun c_97 => ?_) (fun c_97 => ?_)
            · have hF := itn c_97 hF
              obtain rfl := Option.some.inj hF
              exact k123_1 x_89 v_at_90 v_begin_91 v_token_92 v_value_93 v_fault_94 v_place_95 u_96 hY123 _ _ _ hH (lv_sub hl [1, 2, 3] rfl)
            · have hF := itp c_97 hF
              refine lv_aload_n hx hb dX9_wish_130 rfl (lv_at hl 0 rfl) ?_
              refine rg_token hX hK hH dX9_wish_131 ?_
              refine lv_iconst (v := 2) hx hb dX9_wish_134 kyi_2 ?_
              refine lv_icmp_ne (tgt := 184) hx hb dX9_wish_135 rfl (fun c_98 => ?_) (fun c_98 => ?_)
              · have hF := itn c_98 hF
                obtain rfl := Option.some.inj hF
                exact k123_1 x_89 v_at_90 v_begin_91 v_token_92 v_value_93 v_fault_94 v_place_95 u_96 hY123 _ _ _ hH (lv_sub hl [1, 2, 3] rfl)
              · have hF := itp c_98 hF
                refine lv_iload hx hb dX9_wish_138 (lv_at hl 3 rfl) ?_
                refine lv_aload_n hx hb dX9_wish_140 rfl (lv_at hl 2 rfl) ?_
                obtain ⟨hg_99, hF⟩ := bd0e hF
                obtain ⟨w, hw, hm⟩ := hH
                refine cg_Y_Reader_row_high hw.town (alg_lt hg_99) (plin w) hX hK hNW hm dX9_wish_141 ?_
                have hH : RHG (RWP cA ra x0 tp size tape fw lo ta ba v_at_90 v_begin_91 v_token_92 v_value_93 v_open v_fault_94 v_place_95 u_96 nb bo) D A s.heap H locs := ⟨_, hw, hm⟩
                have j152 : ∀ (v_fault_103 : Int32) (v_place_104 : Int32), FX9_wish_j152 size tape x_34 x_89 v_at_90 v_begin_91 v_token_92 v_value_93 u_96 v_fault_103 v_place_104 = some yy123 → ∀ (H : Heap) (locs : List Loc) (ls : Array Slot), RHG (RWP cA ra x0 tp size tape fw lo ta ba v_at_90 v_begin_91 v_token_92 v_value_93 v_open v_fault_103 v_place_104 u_96 nb bo) D A s.heap H locs → lv_has ls 6 [(0, .ref ra), (2, .int x_54), (3, .ref (ta (10 + x_34.toNatClampNeg))), (4, .int x_89)] → W p l e rm_X9_wish s m args below meth c H locs 0 0 Q (F0 m 152 ls []) := by
                  intro v_fault_103 v_place_104 hF H locs ls hH hl
                  delta FX9_wish_j152 at hF
                  refine lv_aload_n hx hb dX9_wish_152 rfl (lv_at hl 0 rfl) ?_
                  refine lv_iconst (v := 0) hx hb dX9_wish_153 kyi_0 ?_
                  refine lv_bipush (v := 7) hx hb dX9_wish_154 kyb_7 ?_
                  obtain ⟨x_105, v_at_106, v_begin_107, v_token_108, v_value_109, v_fault_110, v_place_111, he, hF⟩ := bd7e hF
                  refine rxV hX hK hEv hE0 hH (met_X9_number hE he) gw_StoneYear_Reader_139 hd_yX9_number ⟨Nat.le_of_ble_eq_true rfl, Nat.le_of_ble_eq_true rfl⟩ rfl rfl hl (Nat.le_of_ble_eq_true rfl) dX9_wish_156 ⟨Nat.le_of_ble_eq_true rfl, Nat.le_of_ble_eq_true rfl⟩ (fun H locs hH => ?_)
                  refine lv_istore (lv' := [(5, .int x_105), (0, .ref ra), (2, .int x_54), (3, .ref (ta (10 + x_34.toNatClampNeg))), (4, .int x_89)]) hx hb dX9_wish_159 hl (by decide) rfl (fun ls hl => ?_)
                  refine lv_aload_n hx hb dX9_wish_161 rfl (lv_at hl 1 rfl) ?_
                  refine rg_fault hX hK hH dX9_wish_162 ?_
                  refine lv_if_eq (tgt := 169) hx hb dX9_wish_165 rfl (fun c_112 => ?_) (fun c_112 => ?_)
                  · have hF := itp c_112 hF
                    refine lv_aload_n hx hb dX9_wish_169 rfl (lv_at hl 3 rfl) ?_
                    obtain ⟨hg_113, hF⟩ := bd0e hF
                    obtain ⟨w, hw, hm⟩ := hH
                    refine cg_Y_Reader_row_wish hw.town (alg_lt hg_113) (plin w) hX hK hNW hm dX9_wish_170 ?_
                    have hH : RHG (RWP cA ra x0 tp size tape fw lo ta ba v_at_106 v_begin_107 v_token_108 v_value_109 v_open v_fault_110 v_place_111 u_96 nb bo) D A s.heap H locs := ⟨_, hw, hm⟩
                    refine lv_iload hx hb dX9_wish_173 (lv_at hl 4 rfl) ?_
                    refine lv_iload hx hb dX9_wish_175 (lv_at hl 0 rfl) ?_
                    obtain ⟨hg_114, hF⟩ := bd0e hF
                    obtain ⟨u_115, he, hF⟩ := bd1e hF
                    refine rs_wish hg_114 hX hK hH he dX9_wish_177 (fun H locs hH => ?_)
                    refine lv_iinc (v := (x_89 + 1)) (lv' := [(4, .int (x_89 + 1)), (5, .int x_105), (0, .ref ra), (2, .int x_54), (3, .ref (ta (10 + x_34.toNatClampNeg)))]) hx hb dX9_wish_178 hl (k := 4) rfl (syc kyi_1) (by decide) rfl (fun ls hl => ?_)
                    refine lv_goto (tgt := 123) hx hb dX9_wish_181 rfl ?_
                    obtain rfl := Option.some.inj hF
                    exact ih (x_89 + 1) v_at_106 v_begin_107 v_token_108 v_value_109 v_fault_110 v_place_111 u_115 hY123 _ _ _ hH (lv_sub hl [2, 3, 4, 0] rfl)
                  · have hF := itn c_112 hF
                    obtain rfl := Option.some.inj hF
                    exact k123_0 v_at_106 v_begin_107 v_token_108 v_value_109 v_fault_110 v_place_111 u_96 hY123 _ _ _ hH (lv_sub hl [] rfl)
                refine lv_icmp_ne (tgt := 152) hx hb dX9_wish_144 rfl (fun c_100 => ?_) (fun c_100 => ?_)
                · have hF := itn c_100 hF
                  exact j152 v_fault_94 v_place_95 hF _ _ _ hH (lv_sub hl [0, 1, 2, 3] rfl)
                · have hF := itp c_100 hF
                  refine lv_aload_n hx hb dX9_wish_147 rfl (lv_at hl 0 rfl) ?_
                  refine lv_iconst (v := 3) hx hb dX9_wish_148 kyi_3 ?_
                  obtain ⟨v_fault_101, v_place_102, he, hF⟩ := bd2e hF
                  refine rxV hX hK hEv hE0 hH (met_X9_wrong hE he) gw_StoneYear_Reader_100 hd_yX9_wrong ⟨Nat.le_of_ble_eq_true rfl, Nat.le_of_ble_eq_true rfl⟩ rfl rfl hl (Nat.le_of_ble_eq_true rfl) dX9_wish_149 ⟨Nat.le_of_ble_eq_true rfl, Nat.le_of_ble_eq_true rfl⟩ (fun H locs hH => ?_)
                  exact j152 v_fault_101 v_place_102 hF _ _ _ hH (lv_sub hl [0, 1, 2, 3] rfl)
        exact l123 nn123 0 v_at_61 v_begin_62 v_token_63 v_value_64 v_fault_65 v_place_66 u en123 _ _ _ hH (lv_sub hl [3, 2, 1, 0] rfl)
      · have hF := itn c_67 hF
        obtain ⟨rfl, rfl, rfl, rfl, rfl, rfl, rfl⟩ := re7 hF
        exact hret _ _ _ _ hH dX9_wish_104
    refine lv_if_eq (tgt := 89) hx hb dX9_wish_77 rfl (fun c_46 => ?_) (fun c_46 => ?_)
    · have hF := itp c_46 hF
      refine lv_iconst (v := 0) hx hb dX9_wish_89 kyi_0 ?_
      exact j90 0 v_at_42 v_begin_43 v_token_44 v_value_45 v_fault_39 v_place_40 hF _ _ _ hH (lv_sub hl [1, 0] rfl)
    · have hF := itn c_46 hF
      refine lv_aload_n hx hb dX9_wish_80 rfl (lv_at hl 1 rfl) ?_
      refine lv_iconst (v := 0) hx hb dX9_wish_81 kyi_0 ?_
      refine lv_iconst (v := 1) hx hb dX9_wish_82 kyi_1 ?_
      obtain ⟨x_47, v_at_48, v_begin_49, v_token_50, v_value_51, v_fault_52, v_place_53, he, hF⟩ := bd7e hF
      refine rxV hX hK hEv hE0 hH (met_X9_number hE he) gw_StoneYear_Reader_139 hd_yX9_number ⟨Nat.le_of_ble_eq_true rfl, Nat.le_of_ble_eq_true rfl⟩ rfl rfl hl (Nat.le_of_ble_eq_true rfl) dX9_wish_83 ⟨Nat.le_of_ble_eq_true rfl, Nat.le_of_ble_eq_true rfl⟩ (fun H locs hH => ?_)
      refine lv_goto (tgt := 90) hx hb dX9_wish_86 rfl ?_
      exact j90 x_47 v_at_48 v_begin_49 v_token_50 v_value_51 v_fault_52 v_place_53 hF _ _ _ hH (lv_sub hl [1, 0] rfl)
  refine lv_if_eq (tgt := 53) hx hb dX9_wish_21 rfl (fun c_25 => ?_) (fun c_25 => ?_)
  · have hF := itp c_25 hF
    exact j53 v_fault_23 v_place_24 hF _ _ _ hH (lv_sub hl [0] rfl)
  · have hF := itn c_25 hF
    refine lv_aload_n hx hb dX9_wish_24 rfl (lv_at hl 0 rfl) ?_
    refine rg_town hX hK hH dX9_wish_25 ?_
    obtain ⟨w, hw, hm⟩ := hH
    refine cg_Y_Reader_town_rows hw.town (plin w) hX hK hNW hm dX9_wish_28 ?_
    have hH : RHG (RWP cA ra x0 tp size tape fw lo ta ba v_at_18 v_begin_19 v_token_20 v_value_21 v_open v_fault_23 v_place_24 u nb bo) D A s.heap H locs := ⟨_, hw, hm⟩
    refine lv_aload_n hx hb dX9_wish_31 rfl (lv_at hl 0 rfl) ?_
    refine rg_value hX hK hH dX9_wish_32 ?_
    obtain ⟨hg_26, hF⟩ := bd0e hF
    obtain ⟨w, hw, hm⟩ := hH
    refine mxV hX hK hEv hE0 hm (met_J2_get hEv rfl hw.town.rows hg_26 (plin w)) (precv (plin w) hK hm 17 rfl hw.town.rows.obj) gw_StoneYear_Reader_185 hd_yJ2_get ⟨Nat.le_of_ble_eq_true rfl, Nat.le_of_ble_eq_true rfl⟩ rfl rfl hl (Nat.le_of_ble_eq_true rfl) dX9_wish_35 ⟨Nat.le_of_ble_eq_true rfl, Nat.le_of_ble_eq_true rfl⟩ (fun w2 H locs hw2 hm => ?_)
    rw [hw2] at hm
    have hH : RHG (RWP cA ra x0 tp size tape fw lo ta ba v_at_18 v_begin_19 v_token_20 v_value_21 v_open v_fault_23 v_place_24 u nb bo) D A s.heap H locs := ⟨_, hw, hm⟩
    obtain ⟨hg_27, hF⟩ := bd0e hF
    obtain ⟨w, hw, hm⟩ := hH
    refine va_castE hx hb hown (hts _ q679) (precv (plin w) hK hm 10 rfl ⟨_, hw.town.row (alg_lt hg_27)⟩) dX9_wish_38 ?_
    have hH : RHG (RWP cA ra x0 tp size tape fw lo ta ba v_at_18 v_begin_19 v_token_20 v_value_21 v_open v_fault_23 v_place_24 u nb bo) D A s.heap H locs := ⟨_, hw, hm⟩
    obtain ⟨hg_28, hF⟩ := bd0e hF
    obtain ⟨w, hw, hm⟩ := hH
    refine cg_Y_Reader_row_wished hw.town (alg_lt hg_28) (plin w) hX hK hNW hm dX9_wish_41 ?_
    have hH : RHG (RWP cA ra x0 tp size tape fw lo ta ba v_at_18 v_begin_19 v_token_20 v_value_21 v_open v_fault_23 v_place_24 u nb bo) D A s.heap H locs := ⟨_, hw, hm⟩
    refine lv_iconst (v := (-1)) hx hb dX9_wish_44 kyi_m1 ?_
    refine lv_icmp_eq (tgt := 53) hx hb dX9_wish_45 rfl (fun c_29 => ?_) (fun c_29 => ?_)
    · have hF := itp c_29 hF
      exact j53 v_fault_23 v_place_24 hF _ _ _ hH (lv_sub hl [0] rfl)
    · have hF := itn c_29 hF
      refine lv_aload_n hx hb dX9_wish_48 rfl (lv_at hl 0 rfl) ?_
      refine lv_iconst (v := 3) hx hb dX9_wish_49 kyi_3 ?_
      obtain ⟨v_fault_30, v_place_31, he, hF⟩ := bd2e hF
      refine rxV hX hK hEv hE0 hH (met_X9_wrong hE he) gw_StoneYear_Reader_100 hd_yX9_wrong ⟨Nat.le_of_ble_eq_true rfl, Nat.le_of_ble_eq_true rfl⟩ rfl rfl hl (Nat.le_of_ble_eq_true rfl) dX9_wish_50 ⟨Nat.le_of_ble_eq_true rfl, Nat.le_of_ble_eq_true rfl⟩ (fun H locs hH => ?_)
      exact j53 v_fault_30 v_place_31 hF _ _ _ hH (lv_sub hl [0] rfl)
abbrev rm_X9_must : Room := { frames := 14, cells := 2, slots := 22, locals := 520 }
set_option maxHeartbeats 4000000 in
theorem met_X9_must {l : Launch} {D : va_G} {cA : Nat → ClassId} {ra x0 tp : Nat} {size : Int32} {tape : Nat → Int32} {fw : va_W} {lo : va_W} {ta ba : Nat → Nat} {v_at v_begin v_token v_value v_open v_fault v_place : Int32} {u : Nat → Int32} {nb : Int32} {bo : Nat → FcT}  {rv_at : Int32} {rv_begin : Int32} {rv_token : Int32} {rv_value : Int32} {rv_fault : Int32} {rv_place : Int32} {ru : Nat → Int32} {E : EvT} {ks vs : Nat → Nat} {fo mi : Nat} (hE : EvR E ks vs fo mi) (hF : FX9_must size tape v_at v_begin v_token v_value v_fault v_place u = some (rv_at, rv_begin, rv_token, rv_value, rv_fault, rv_place, ru)) : RX l yX9_must (ws_ yX9_must cX9_must 4 (Option.none : Option Jvm.ClassFile.FieldType)) rm_X9_must D cA E [.ref ra] (RWP cA ra x0 tp size tape fw lo ta ba v_at v_begin v_token v_value v_open v_fault v_place u nb bo) (fun z => ∃ (lo' : va_W) (ta' : Nat → Nat), (∀ q ∈ lo, q ∈ lo') ∧ (RWP cA ra x0 tp size tape fw lo' ta' ba rv_at rv_begin rv_token rv_value v_open rv_fault rv_place ru nb bo) z) none := by
  refine RX.ofV (by decide) (Nat.le_of_ble_eq_true rfl) ?_
  intro p e s m args below meth c Q A hX hK hE0 hname hret H locs ls hH hl
  have hX : CallFix p m c cX9_must 4 s args lw_all RX9 := hX
  have hx := hX.1
  have hb := hX.2.1
  have hown := hX.2.2.2.1
  have hts := hX.2.2.2.2
  have hl : lv_has ls 4 [(0, .ref ra)] := hl
  have hEv := hE.1.1.1
  have hNW := hE.1.1.2.1 _ _ _ hE0
  delta FX9_must at hF
  refine lv_aload_n hx hb dX9_must_0 rfl (lv_at hl 0 rfl) ?_
  refine va_ldcS (tx := "roof") hx hb hown (hE.r128 _ _ _ hE0) dX9_must_1 ?_
  obtain ⟨b_18, he, hF⟩ := bd1e hF
  refine rxV hX hK hEv hE0 hH (met_X9_is hE hE.s128 he) gw_StoneYear_Reader_90 hd_yX9_is ⟨Nat.le_of_ble_eq_true rfl, Nat.le_of_ble_eq_true rfl⟩ rfl rfl hl (Nat.le_of_ble_eq_true rfl) dX9_must_3 ⟨Nat.le_of_ble_eq_true rfl, Nat.le_of_ble_eq_true rfl⟩ (fun H locs hH => ?_)
  refine lv_istore_n (lv' := [(1, .int (b2i b_18)), (0, .ref ra)]) hx hb dX9_must_6 rfl hl (by decide) rfl (fun ls hl => ?_)
  refine lv_aload_n hx hb dX9_must_7 rfl (lv_at hl 1 rfl) ?_
  refine lv_aload_n hx hb dX9_must_8 rfl (lv_at hl 1 rfl) ?_
  refine rg_town hX hK hH dX9_must_9 ?_
  obtain ⟨w, hw, hm⟩ := hH
  refine cg_Y_Reader_town_musts hw.town (plin w) hX hK hNW hm dX9_must_12 ?_
  have hH : RHG (RWP cA ra x0 tp size tape fw lo ta ba v_at v_begin v_token v_value v_open v_fault v_place u nb bo) D A s.heap H locs := ⟨_, hw, hm⟩
  obtain ⟨w, hw, hm⟩ := hH
  refine mxV hX hK hEv hE0 hm (met_J2_size hEv hw.town.musts (plin w)) (precv (plin w) hK hm 17 rfl hw.town.musts.obj) gw_StoneYear_Reader_163 hd_yJ2_size ⟨Nat.le_of_ble_eq_true rfl, Nat.le_of_ble_eq_true rfl⟩ rfl rfl hl (Nat.le_of_ble_eq_true rfl) dX9_must_15 ⟨Nat.le_of_ble_eq_true rfl, Nat.le_of_ble_eq_true rfl⟩ (fun w2 H locs hw2 hm => ?_)
  rw [hw2] at hm
  have hH : RHG (RWP cA ra x0 tp size tape fw lo ta ba v_at v_begin v_token v_value v_open v_fault v_place u nb bo) D A s.heap H locs := ⟨_, hw, hm⟩
  refine lv_bipush (v := 6) hx hb dX9_must_18 kyb_6 ?_
  have j28 : ∀ (x_20 : Int32), FX9_must_j28 v_at v_begin v_token v_value v_fault v_place u size tape b_18 x_20 = some (rv_at, rv_begin, rv_token, rv_value, rv_fault, rv_place, ru) → ∀ (H : Heap) (locs : List Loc) (ls : Array Slot), RHG (RWP cA ra x0 tp size tape fw lo ta ba v_at v_begin v_token v_value v_open v_fault v_place u nb bo) D A s.heap H locs → lv_has ls 4 [(0, .ref ra), (1, .int (b2i b_18))] → W p l e rm_X9_must s m args below meth c H locs 0 0 Q (F0 m 28 ls [.int x_20, .ref ra]) := by
    intro x_20 hF H locs ls hH hl
    delta FX9_must_j28 at hF
    obtain ⟨v_at_21, v_begin_22, v_token_23, v_value_24, v_fault_25, v_place_26, he, hF⟩ := bd6e hF
    refine rxV hX hK hEv hE0 hH (met_X9_space hE he) gw_StoneYear_Reader_165 hd_yX9_space ⟨Nat.le_of_ble_eq_true rfl, Nat.le_of_ble_eq_true rfl⟩ rfl rfl hl (Nat.le_of_ble_eq_true rfl) dX9_must_28 ⟨Nat.le_of_ble_eq_true rfl, Nat.le_of_ble_eq_true rfl⟩ (fun H locs hH => ?_)
    refine lv_aload_n hx hb dX9_must_31 rfl (lv_at hl 0 rfl) ?_
    refine lv_iconst (v := 0) hx hb dX9_must_32 kyi_0 ?_
    refine lv_aload_n hx hb dX9_must_33 rfl (lv_at hl 0 rfl) ?_
    refine rg_town hX hK hH dX9_must_34 ?_
    obtain ⟨w, hw, hm⟩ := hH
    refine cg_Y_Reader_town_rows hw.town (plin w) hX hK hNW hm dX9_must_37 ?_
    have hH : RHG (RWP cA ra x0 tp size tape fw lo ta ba v_at_21 v_begin_22 v_token_23 v_value_24 v_open v_fault_25 v_place_26 u nb bo) D A s.heap H locs := ⟨_, hw, hm⟩
    obtain ⟨w, hw, hm⟩ := hH
    refine mxV hX hK hEv hE0 hm (met_J2_size hEv hw.town.rows (plin w)) (precv (plin w) hK hm 17 rfl hw.town.rows.obj) gw_StoneYear_Reader_163 hd_yJ2_size ⟨Nat.le_of_ble_eq_true rfl, Nat.le_of_ble_eq_true rfl⟩ rfl rfl hl (Nat.le_of_ble_eq_true rfl) dX9_must_40 ⟨Nat.le_of_ble_eq_true rfl, Nat.le_of_ble_eq_true rfl⟩ (fun w2 H locs hw2 hm => ?_)
    rw [hw2] at hm
    have hH : RHG (RWP cA ra x0 tp size tape fw lo ta ba v_at_21 v_begin_22 v_token_23 v_value_24 v_open v_fault_25 v_place_26 u nb bo) D A s.heap H locs := ⟨_, hw, hm⟩
    refine lv_iconst (v := 1) hx hb dX9_must_43 kyi_1 ?_
    refine lv_isub hx hb dX9_must_44 ?_
    obtain ⟨x_27, v_at_28, v_begin_29, v_token_30, v_value_31, v_fault_32, v_place_33, he, hF⟩ := bd7e hF
    refine rxV hX hK hEv hE0 hH (met_X9_number hE he) gw_StoneYear_Reader_139 hd_yX9_number ⟨Nat.le_of_ble_eq_true rfl, Nat.le_of_ble_eq_true rfl⟩ rfl rfl hl (Nat.le_of_ble_eq_true rfl) dX9_must_45 ⟨Nat.le_of_ble_eq_true rfl, Nat.le_of_ble_eq_true rfl⟩ (fun H locs hH => ?_)
    refine lv_istore_n (lv' := [(2, .int x_27), (0, .ref ra), (1, .int (b2i b_18))]) hx hb dX9_must_48 rfl hl (by decide) rfl (fun ls hl => ?_)
    refine lv_aload_n hx hb dX9_must_49 rfl (lv_at hl 1 rfl) ?_
    refine lv_iconst (v := 0) hx hb dX9_must_50 kyi_0 ?_
    refine lv_iconst (v := 3) hx hb dX9_must_51 kyi_3 ?_
    obtain ⟨x_34, v_at_35, v_begin_36, v_token_37, v_value_38, v_fault_39, v_place_40, he, hF⟩ := bd7e hF
    refine rxV hX hK hEv hE0 hH (met_X9_number hE he) gw_StoneYear_Reader_139 hd_yX9_number ⟨Nat.le_of_ble_eq_true rfl, Nat.le_of_ble_eq_true rfl⟩ rfl rfl hl (Nat.le_of_ble_eq_true rfl) dX9_must_52 ⟨Nat.le_of_ble_eq_true rfl, Nat.le_of_ble_eq_true rfl⟩ (fun H locs hH => ?_)
    refine lv_istore_n (lv' := [(3, .int x_34), (2, .int x_27), (0, .ref ra), (1, .int (b2i b_18))]) hx hb dX9_must_55 rfl hl (by decide) rfl (fun ls hl => ?_)
    refine lv_aload_n hx hb dX9_must_56 rfl (lv_at hl 2 rfl) ?_
    refine rg_fault hX hK hH dX9_must_57 ?_
    refine lv_if_ne (tgt := 99) hx hb dX9_must_60 rfl (fun c_41 => ?_) (fun c_41 => ?_)
    · have hF := itn c_41 hF
      obtain ⟨rfl, rfl, rfl, rfl, rfl, rfl, rfl⟩ := re7 hF
      refine W.widen (k := 2) (n := 22) (Nat.le_of_ble_eq_true rfl) (Nat.le_of_ble_eq_true rfl) ?_
      obtain ⟨w, hw, hm⟩ := hH
      exact hret _ _ _ _ ⟨w, ⟨_, _, fun _ h => h, hw⟩, hm⟩ dX9_must_99
    · have hF := itp c_41 hF
      refine lv_aload_n hx hb dX9_must_63 rfl (lv_at hl 2 rfl) ?_
      obtain ⟨hg_42, hF⟩ := bd0e hF
      refine rs_addMust hX hK hE hE0 hH hg_42 hl (lv_at hl 2 rfl) (lv_at hl 3 rfl) (lv_at hl 1 rfl) (lv_at hl 0 rfl) ⟨Nat.le_of_ble_eq_true rfl, Nat.le_of_ble_eq_true rfl⟩ ⟨Nat.le_of_ble_eq_true rfl, Nat.le_of_ble_eq_true rfl⟩ (fun lo_43 ta_43 H locs hlo_43 hH => ?_)
      obtain ⟨rfl, rfl, rfl, rfl, rfl, rfl, rfl⟩ := re7 hF
      obtain ⟨w, hw, hm⟩ := hH
      exact hret _ _ _ _ ⟨w, ⟨_, _, fun _ h => hlo_43 _ h, hw⟩, hm⟩ dX9_must_99
  refine lv_icmp_ne (tgt := 27) hx hb dX9_must_20 rfl (fun c_19 => ?_) (fun c_19 => ?_)
  · have hF := itn c_19 hF
    refine lv_iconst (v := 0) hx hb dX9_must_27 kyi_0 ?_
    exact j28 0 hF _ _ _ hH (lv_sub hl [1, 0] rfl)
  · have hF := itp c_19 hF
    refine lv_iconst (v := 1) hx hb dX9_must_23 kyi_1 ?_
    refine lv_goto (tgt := 28) hx hb dX9_must_24 rfl ?_
    exact j28 1 hF _ _ _ hH (lv_sub hl [1, 0] rfl)
abbrev rm_X9_line : Room := { frames := 15, cells := 3, slots := 28, locals := 544 }
set_option maxHeartbeats 4000000 in
theorem met_X9_line {l : Launch} {D : va_G} {cA : Nat → ClassId} {ra x0 tp : Nat} {size : Int32} {tape : Nat → Int32} {fw : va_W} {lo : va_W} {ta ba : Nat → Nat} {v_at v_begin v_token v_value v_open v_fault v_place : Int32} {u : Nat → Int32} {nb : Int32} {bo : Nat → FcT}  {rv_at : Int32} {rv_begin : Int32} {rv_token : Int32} {rv_value : Int32} {rv_fault : Int32} {rv_place : Int32} {ru : Nat → Int32} {E : EvT} {ks vs : Nat → Nat} {fo mi : Nat} (hE : EvR E ks vs fo mi) (hF : FX9_line size tape v_at v_begin v_token v_value v_fault v_place u = some (rv_at, rv_begin, rv_token, rv_value, rv_fault, rv_place, ru)) : RX l yX9_line (ws_ yX9_line cX9_line 1 (Option.none : Option Jvm.ClassFile.FieldType)) rm_X9_line D cA E [.ref ra] (RWP cA ra x0 tp size tape fw lo ta ba v_at v_begin v_token v_value v_open v_fault v_place u nb bo) (fun z => ∃ (lo' : va_W) (ta' : Nat → Nat), (∀ q ∈ lo, q ∈ lo') ∧ (RWP cA ra x0 tp size tape fw lo' ta' ba rv_at rv_begin rv_token rv_value v_open rv_fault rv_place ru nb bo) z) none := by
  refine RX.ofV (by decide) (Nat.le_of_ble_eq_true rfl) ?_
  intro p e s m args below meth c Q A hX hK hE0 hname hret H locs ls hH hl
  have hX : CallFix p m c cX9_line 1 s args lw_all RX9 := hX
  have hx := hX.1
  have hb := hX.2.1
  have hown := hX.2.2.2.1
  have hts := hX.2.2.2.2
  have hl : lv_has ls 1 [(0, .ref ra)] := hl
  have hEv := hE.1.1.1
  have hNW := hE.1.1.2.1 _ _ _ hE0
  delta FX9_line at hF
  refine lv_aload_n hx hb dX9_line_0 rfl (lv_at hl 0 rfl) ?_
  refine va_ldcS (tx := "row") hx hb hown (hE.r116 _ _ _ hE0) dX9_line_1 ?_
  obtain ⟨b_18, he, hF⟩ := bd1e hF
  refine rxV hX hK hEv hE0 hH (met_X9_is hE hE.s116 he) gw_StoneYear_Reader_90 hd_yX9_is ⟨Nat.le_of_ble_eq_true rfl, Nat.le_of_ble_eq_true rfl⟩ rfl rfl hl (Nat.le_of_ble_eq_true rfl) dX9_line_3 ⟨Nat.le_of_ble_eq_true rfl, Nat.le_of_ble_eq_true rfl⟩ (fun H locs hH => ?_)
  refine lv_if_eq (tgt := 16) hx hb dX9_line_6 rfl (fun c_19 => ?_) (fun c_19 => ?_)
  · have hF := itp c_19 hF
    refine lv_aload_n hx hb dX9_line_16 rfl (lv_at hl 0 rfl) ?_
    refine va_ldcS (tx := "stone") hx hb hown (hE.r120 _ _ _ hE0) dX9_line_17 ?_
    obtain ⟨b_28, he, hF⟩ := bd1e hF
    refine rxV hX hK hEv hE0 hH (met_X9_is hE hE.s120 he) gw_StoneYear_Reader_90 hd_yX9_is ⟨Nat.le_of_ble_eq_true rfl, Nat.le_of_ble_eq_true rfl⟩ rfl rfl hl (Nat.le_of_ble_eq_true rfl) dX9_line_19 ⟨Nat.le_of_ble_eq_true rfl, Nat.le_of_ble_eq_true rfl⟩ (fun H locs hH => ?_)
    refine lv_if_eq (tgt := 32) hx hb dX9_line_22 rfl (fun c_29 => ?_) (fun c_29 => ?_)
    · have hF := itp c_29 hF
      refine lv_aload_n hx hb dX9_line_32 rfl (lv_at hl 0 rfl) ?_
      refine va_ldcS (tx := "wish") hx hb hown (hE.r124 _ _ _ hE0) dX9_line_33 ?_
      obtain ⟨b_38, he, hF⟩ := bd1e hF
      refine rxV hX hK hEv hE0 hH (met_X9_is hE hE.s124 he) gw_StoneYear_Reader_90 hd_yX9_is ⟨Nat.le_of_ble_eq_true rfl, Nat.le_of_ble_eq_true rfl⟩ rfl rfl hl (Nat.le_of_ble_eq_true rfl) dX9_line_35 ⟨Nat.le_of_ble_eq_true rfl, Nat.le_of_ble_eq_true rfl⟩ (fun H locs hH => ?_)
      refine lv_if_eq (tgt := 48) hx hb dX9_line_38 rfl (fun c_39 => ?_) (fun c_39 => ?_)
      · have hF := itp c_39 hF
        refine lv_aload_n hx hb dX9_line_48 rfl (lv_at hl 0 rfl) ?_
        refine va_ldcS (tx := "roof") hx hb hown (hE.r128 _ _ _ hE0) dX9_line_49 ?_
        obtain ⟨b_47, he, hF⟩ := bd1e hF
        refine rxV hX hK hEv hE0 hH (met_X9_is hE hE.s128 he) gw_StoneYear_Reader_90 hd_yX9_is ⟨Nat.le_of_ble_eq_true rfl, Nat.le_of_ble_eq_true rfl⟩ rfl rfl hl (Nat.le_of_ble_eq_true rfl) dX9_line_51 ⟨Nat.le_of_ble_eq_true rfl, Nat.le_of_ble_eq_true rfl⟩ (fun H locs hH => ?_)
        have j66 : FX9_line_j66 v_at v_begin v_token v_value v_fault v_place u size tape = some (rv_at, rv_begin, rv_token, rv_value, rv_fault, rv_place, ru) → ∀ (H : Heap) (locs : List Loc) (ls : Array Slot), RHG (RWP cA ra x0 tp size tape fw lo ta ba v_at v_begin v_token v_value v_open v_fault v_place u nb bo) D A s.heap H locs → lv_has ls 1 [(0, .ref ra)] → W p l e rm_X9_line s m args below meth c H locs 0 0 Q (F0 m 66 ls []) := by
          intro hF H locs ls hH hl
          delta FX9_line_j66 at hF
          refine lv_aload_n hx hb dX9_line_66 rfl (lv_at hl 0 rfl) ?_
          obtain ⟨v_at_58, v_begin_59, v_token_60, v_value_61, v_fault_62, v_place_63, u_64, he, hF⟩ := bd7e hF
          refine rxV hX hK hEv hE0 hH (met_X9_must hE he) gw_StoneYear_Reader_132 hd_yX9_must ⟨Nat.le_of_ble_eq_true rfl, Nat.le_of_ble_eq_true rfl⟩ rfl rfl hl (Nat.le_of_ble_eq_true rfl) dX9_line_67 ⟨Nat.le_of_ble_eq_true rfl, Nat.le_of_ble_eq_true rfl⟩ (fun H locs hH => ?_)
          obtain ⟨w, ⟨lo_65, ta_65, hlo_65, hw⟩, hm⟩ := hH
          have hH : RHG (RWP cA ra x0 tp size tape fw lo_65 ta_65 ba v_at_58 v_begin_59 v_token_60 v_value_61 v_open v_fault_62 v_place_63 u_64 nb bo) D A s.heap H locs := ⟨_, hw, hm⟩
          refine lv_goto (tgt := 77) hx hb dX9_line_70 rfl ?_
          obtain ⟨rfl, rfl, rfl, rfl, rfl, rfl, rfl⟩ := re7 hF
          refine W.widen (k := 3) (n := 28) (Nat.le_of_ble_eq_true rfl) (Nat.le_of_ble_eq_true rfl) ?_
          obtain ⟨w, hw, hm⟩ := hH
          exact hret _ _ _ _ ⟨w, ⟨_, _, fun _ h => hlo_65 _ h, hw⟩, hm⟩ dX9_line_77
        refine lv_if_ne (tgt := 66) hx hb dX9_line_54 rfl (fun c_48 => ?_) (fun c_48 => ?_)
        · have hF := itn c_48 hF
          exact j66 hF _ _ _ hH (lv_sub hl [0] rfl)
        · have hF := itp c_48 hF
          refine lv_aload_n hx hb dX9_line_57 rfl (lv_at hl 0 rfl) ?_
          refine va_ldcS (tx := "lane") hx hb hown (hE.r130 _ _ _ hE0) dX9_line_58 ?_
          obtain ⟨b_49, he, hF⟩ := bd1e hF
          refine rxV hX hK hEv hE0 hH (met_X9_is hE hE.s130 he) gw_StoneYear_Reader_90 hd_yX9_is ⟨Nat.le_of_ble_eq_true rfl, Nat.le_of_ble_eq_true rfl⟩ rfl rfl hl (Nat.le_of_ble_eq_true rfl) dX9_line_60 ⟨Nat.le_of_ble_eq_true rfl, Nat.le_of_ble_eq_true rfl⟩ (fun H locs hH => ?_)
          refine lv_if_eq (tgt := 73) hx hb dX9_line_63 rfl (fun c_50 => ?_) (fun c_50 => ?_)
          · have hF := itp c_50 hF
            refine lv_aload_n hx hb dX9_line_73 rfl (lv_at hl 0 rfl) ?_
            obtain ⟨v_at_51, v_begin_52, v_token_53, v_value_54, v_fault_55, v_place_56, u_57, he, hF⟩ := bd7e hF
            refine rxV hX hK hEv hE0 hH (met_X9_more hE he) gw_StoneYear_Reader_135 hd_yX9_more ⟨Nat.le_of_ble_eq_true rfl, Nat.le_of_ble_eq_true rfl⟩ rfl rfl hl (Nat.le_of_ble_eq_true rfl) dX9_line_74 ⟨Nat.le_of_ble_eq_true rfl, Nat.le_of_ble_eq_true rfl⟩ (fun H locs hH => ?_)
            obtain ⟨rfl, rfl, rfl, rfl, rfl, rfl, rfl⟩ := re7 hF
            refine W.widen (k := 3) (n := 28) (Nat.le_of_ble_eq_true rfl) (Nat.le_of_ble_eq_true rfl) ?_
            obtain ⟨w, hw, hm⟩ := hH
            exact hret _ _ _ _ ⟨w, ⟨_, _, fun _ h => h, hw⟩, hm⟩ dX9_line_77
          · have hF := itn c_50 hF
            exact j66 hF _ _ _ hH (lv_sub hl [0] rfl)
      · have hF := itn c_39 hF
        refine lv_aload_n hx hb dX9_line_41 rfl (lv_at hl 0 rfl) ?_
        obtain ⟨v_at_40, v_begin_41, v_token_42, v_value_43, v_fault_44, v_place_45, u_46, he, hF⟩ := bd7e hF
        refine rxV hX hK hEv hE0 hH (met_X9_wish hE he) gw_StoneYear_Reader_126 hd_yX9_wish ⟨Nat.le_of_ble_eq_true rfl, Nat.le_of_ble_eq_true rfl⟩ rfl rfl hl (Nat.le_of_ble_eq_true rfl) dX9_line_42 ⟨Nat.le_of_ble_eq_true rfl, Nat.le_of_ble_eq_true rfl⟩ (fun H locs hH => ?_)
        refine lv_goto (tgt := 77) hx hb dX9_line_45 rfl ?_
        obtain ⟨rfl, rfl, rfl, rfl, rfl, rfl, rfl⟩ := re7 hF
        refine W.widen (k := 3) (n := 28) (Nat.le_of_ble_eq_true rfl) (Nat.le_of_ble_eq_true rfl) ?_
        obtain ⟨w, hw, hm⟩ := hH
        exact hret _ _ _ _ ⟨w, ⟨_, _, fun _ h => h, hw⟩, hm⟩ dX9_line_77
    · have hF := itn c_29 hF
      refine lv_aload_n hx hb dX9_line_25 rfl (lv_at hl 0 rfl) ?_
      obtain ⟨v_at_30, v_begin_31, v_token_32, v_value_33, v_fault_34, v_place_35, u_36, he, hF⟩ := bd7e hF
      refine rxV hX hK hEv hE0 hH (met_X9_stone hE he) gw_StoneYear_Reader_122 hd_yX9_stone ⟨Nat.le_of_ble_eq_true rfl, Nat.le_of_ble_eq_true rfl⟩ rfl rfl hl (Nat.le_of_ble_eq_true rfl) dX9_line_26 ⟨Nat.le_of_ble_eq_true rfl, Nat.le_of_ble_eq_true rfl⟩ (fun H locs hH => ?_)
      obtain ⟨w, ⟨lo_37, ta_37, hlo_37, hw⟩, hm⟩ := hH
      have hH : RHG (RWP cA ra x0 tp size tape fw lo_37 ta_37 ba v_at_30 v_begin_31 v_token_32 v_value_33 v_open v_fault_34 v_place_35 u_36 nb bo) D A s.heap H locs := ⟨_, hw, hm⟩
      refine lv_goto (tgt := 77) hx hb dX9_line_29 rfl ?_
      obtain ⟨rfl, rfl, rfl, rfl, rfl, rfl, rfl⟩ := re7 hF
      refine W.widen (k := 3) (n := 28) (Nat.le_of_ble_eq_true rfl) (Nat.le_of_ble_eq_true rfl) ?_
      obtain ⟨w, hw, hm⟩ := hH
      exact hret _ _ _ _ ⟨w, ⟨_, _, fun _ h => hlo_37 _ h, hw⟩, hm⟩ dX9_line_77
  · have hF := itn c_19 hF
    refine lv_aload_n hx hb dX9_line_9 rfl (lv_at hl 0 rfl) ?_
    obtain ⟨v_at_20, v_begin_21, v_token_22, v_value_23, v_fault_24, v_place_25, u_26, he, hF⟩ := bd7e hF
    refine rxV hX hK hEv hE0 hH (met_X9_row hE he) gw_StoneYear_Reader_118 hd_yX9_row ⟨Nat.le_of_ble_eq_true rfl, Nat.le_of_ble_eq_true rfl⟩ rfl rfl hl (Nat.le_of_ble_eq_true rfl) dX9_line_10 ⟨Nat.le_of_ble_eq_true rfl, Nat.le_of_ble_eq_true rfl⟩ (fun H locs hH => ?_)
    obtain ⟨w, ⟨lo_27, ta_27, hlo_27, hw⟩, hm⟩ := hH
    have hH : RHG (RWP cA ra x0 tp size tape fw lo_27 ta_27 ba v_at_20 v_begin_21 v_token_22 v_value_23 v_open v_fault_24 v_place_25 u_26 nb bo) D A s.heap H locs := ⟨_, hw, hm⟩
    refine lv_goto (tgt := 77) hx hb dX9_line_13 rfl ?_
    obtain ⟨rfl, rfl, rfl, rfl, rfl, rfl, rfl⟩ := re7 hF
    obtain ⟨w, hw, hm⟩ := hH
    exact hret _ _ _ _ ⟨w, ⟨_, _, fun _ h => hlo_27 _ h, hw⟩, hm⟩ dX9_line_77