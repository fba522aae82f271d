set_option maxRecDepth 100000
section CRR
variable {p : Program} {l : Launch} {e : Env} {R : Room} {s : State} {m : MethodId} {args : Array Value} {below : List Frame} {meth : Method} {c : Code} {H : Heap} {locs : List Loc} {cells slots : Nat} {Q : State → Prop}
variable {D : va_G} {A : Nat → Prop} {H0 : Heap} {pc : Nat} {ls : Array Slot} {rest : List Value} {cc : ByteArray} {nL : Nat} {cA : Nat → ClassId} {pl : va_W}
theorem cg_Y_Reader_town_rows {w : va_W} {tys : List (ClassId × FieldType)} {tb : Nat → Nat} {u : Nat → Int32} (hU : TownAt cA pl tb u) (hp : PlIn pl w) (hX : CallFix p m c cc nL s args lw_all RX9) (hK : va_K D vwA tys s) (hNW : NW s) (hH : MH D vwA A H0 w H locs) (hdg : decode cc pc = .ok (.getfield 160, 3)) (kk : W p l e R s m args below meth c H locs cells slots Q (F0 m (pc + 3) ls (.ref (tb 1) :: rest))) : W p l e R s m args below meth c H locs cells slots Q (F0 m pc ls (.ref (tb 0) :: rest)) := by
  obtain ⟨q0, hq⟩ := hp _ hU.obj
  exact va_getN (C := RX2) (T := TX2) (N := 8) hX.1 hX.2.1 hX.2.2.2.2 in_X2 hX.2.2.2.1 hK hH.1 q0 hq rfl 0 (by decide) (va_Nw.use rfl (hNW _ nw_q219)) (fun _ h9 => h9) rfl hdg kk
theorem cg_Y_Reader_town_stones {w : va_W} {tys : List (ClassId × FieldType)} {tb : Nat → Nat} {u : Nat → Int32} (hU : TownAt cA pl tb u) (hp : PlIn pl w) (hX : CallFix p m c cc nL s args lw_all RX9) (hK : va_K D vwA tys s) (hNW : NW s) (hH : MH D vwA A H0 w H locs) (hdg : decode cc pc = .ok (.getfield 176, 3)) (kk : W p l e R s m args below meth c H locs cells slots Q (F0 m (pc + 3) ls (.ref (tb 3) :: rest))) : W p l e R s m args below meth c H locs cells slots Q (F0 m pc ls (.ref (tb 0) :: rest)) := by
  obtain ⟨q0, hq⟩ := hp _ hU.obj
  exact va_getN (C := RX2) (T := TX2) (N := 8) hX.1 hX.2.1 hX.2.2.2.2 in_X2 hX.2.2.2.1 hK hH.1 q0 hq rfl 1 (by decide) (va_Nw.use rfl (hNW _ nw_q225)) (fun _ h9 => h9) rfl hdg kk
theorem cg_Y_Reader_row_lay {w : va_W} {tys : List (ClassId × FieldType)} {tb : Nat → Nat} {u : Nat → Int32} {i : Nat} (hU : TownAt cA pl tb u) (hi : i < (u 0).toNatClampNeg) (hp : PlIn pl w) (hX : CallFix p m c cc nL s args lw_all RX9) (hK : va_K D vwA tys s) (hNW : NW s) (hH : MH D vwA A H0 w H locs) (hdg : decode cc pc = .ok (.getfield 189, 3)) (kk : W p l e R s m args below meth c H locs cells slots Q (F0 m (pc + 3) ls (.int (u (210 + i)) :: rest))) : W p l e R s m args below meth c H locs cells slots Q (F0 m pc ls (.ref (tb (10 + i)) :: rest)) := by
  obtain ⟨q0, hq⟩ := hp _ (hU.row hi)
  exact va_getN (C := RX10) (T := TX10) (N := 5) hX.1 hX.2.1 hX.2.2.2.2 in_X10 hX.2.2.2.1 hK hH.1 q0 hq rfl 4 (by decide) (va_Nw.use rfl (hNW _ nw_q702)) (fun _ h9 => h9) rfl hdg kk
theorem cg_Y_Reader_row_high {w : va_W} {tys : List (ClassId × FieldType)} {tb : Nat → Nat} {u : Nat → Int32} {i : Nat} (hU : TownAt cA pl tb u) (hi : i < (u 0).toNatClampNeg) (hp : PlIn pl w) (hX : CallFix p m c cc nL s args lw_all RX9) (hK : va_K D vwA tys s) (hNW : NW s) (hH : MH D vwA A H0 w H locs) (hdg : decode cc pc = .ok (.getfield 192, 3)) (kk : W p l e R s m args below meth c H locs cells slots Q (F0 m (pc + 3) ls (.int (u (1 + i)) :: rest))) : W p l e R s m args below meth c H locs cells slots Q (F0 m pc ls (.ref (tb (10 + i)) :: rest)) := by
  obtain ⟨q0, hq⟩ := hp _ (hU.row hi)
  exact va_getN (C := RX10) (T := TX10) (N := 5) hX.1 hX.2.1 hX.2.2.2.2 in_X10 hX.2.2.2.1 hK hH.1 q0 hq rfl 0 (by decide) (va_Nw.use rfl (hNW _ nw_q688)) (fun _ h9 => h9) rfl hdg kk
theorem cg_Y_Reader_row_wished {w : va_W} {tys : List (ClassId × FieldType)} {tb : Nat → Nat} {u : Nat → Int32} {i : Nat} (hU : TownAt cA pl tb u) (hi : i < (u 0).toNatClampNeg) (hp : PlIn pl w) (hX : CallFix p m c cc nL s args lw_all RX9) (hK : va_K D vwA tys s) (hNW : NW s) (hH : MH D vwA A H0 w H locs) (hdg : decode cc pc = .ok (.getfield 202, 3)) (kk : W p l e R s m args below meth c H locs cells slots Q (F0 m (pc + 3) ls (.int (u (31 + i)) :: rest))) : W p l e R s m args below meth c H locs cells slots Q (F0 m pc ls (.ref (tb (10 + i)) :: rest)) := by
  obtain ⟨q0, hq⟩ := hp _ (hU.row hi)
  exact va_getN (C := RX10) (T := TX10) (N := 5) hX.1 hX.2.1 hX.2.2.2.2 in_X10 hX.2.2.2.1 hK hH.1 q0 hq rfl 2 (by decide) (va_Nw.use rfl (hNW _ nw_q698)) (fun _ h9 => h9) rfl hdg kk
theorem cg_Y_Reader_row_wish {w : va_W} {tys : List (ClassId × FieldType)} {tb : Nat → Nat} {u : Nat → Int32} {i : Nat} (hU : TownAt cA pl tb u) (hi : i < (u 0).toNatClampNeg) (hp : PlIn pl w) (hX : CallFix p m c cc nL s args lw_all RX9) (hK : va_K D vwA tys s) (hNW : NW s) (hH : MH D vwA A H0 w H locs) (hdg : decode cc pc = .ok (.getfield 209, 3)) (kk : W p l e R s m args below meth c H locs cells slots Q (F0 m (pc + 3) ls (.ref (tb (20 + i)) :: rest))) : W p l e R s m args below meth c H locs cells slots Q (F0 m pc ls (.ref (tb (10 + i)) :: rest)) := by
  obtain ⟨q0, hq⟩ := hp _ (hU.row hi)
  exact va_getN (C := RX10) (T := TX10) (N := 5) hX.1 hX.2.1 hX.2.2.2.2 in_X10 hX.2.2.2.1 hK hH.1 q0 hq rfl 1 (by decide) (va_Nw.use rfl (hNW _ nw_q693)) (fun _ h9 => h9) rfl hdg kk
theorem cg_Y_Reader_town_musts {w : va_W} {tys : List (ClassId × FieldType)} {tb : Nat → Nat} {u : Nat → Int32} (hU : TownAt cA pl tb u) (hp : PlIn pl w) (hX : CallFix p m c cc nL s args lw_all RX9) (hK : va_K D vwA tys s) (hNW : NW s) (hH : MH D vwA A H0 w H locs) (hdg : decode cc pc = .ok (.getfield 215, 3)) (kk : W p l e R s m args below meth c H locs cells slots Q (F0 m (pc + 3) ls (.ref (tb 5) :: rest))) : W p l e R s m args below meth c H locs cells slots Q (F0 m pc ls (.ref (tb 0) :: rest)) := by
  obtain ⟨q0, hq⟩ := hp _ hU.obj
  exact va_getN (C := RX2) (T := TX2) (N := 8) hX.1 hX.2.1 hX.2.2.2.2 in_X2 hX.2.2.2.1 hK hH.1 q0 hq rfl 2 (by decide) (va_Nw.use rfl (hNW _ nw_q228)) (fun _ h9 => h9) rfl hdg kk
theorem cg_Y_Reader_town_lines {w : va_W} {tys : List (ClassId × FieldType)} {tb : Nat → Nat} {u : Nat → Int32} (hU : TownAt cA pl tb u) (hp : PlIn pl w) (hX : CallFix p m c cc nL s args lw_all RX9) (hK : va_K D vwA tys s) (hNW : NW s) (hH : MH D vwA A H0 w H locs) (hdg : decode cc pc = .ok (.getfield 113, 3)) (kk : W p l e R s m args below meth c H locs cells slots Q (F0 m (pc + 3) ls (.int (u 379) :: rest))) : W p l e R s m args below meth c H locs cells slots Q (F0 m pc ls (.ref (tb 0) :: rest)) := by
  obtain ⟨q0, hq⟩ := hp _ hU.obj
  exact va_getN (C := RX2) (T := TX2) (N := 8) hX.1 hX.2.1 hX.2.2.2.2 in_X2 hX.2.2.2.1 hK hH.1 q0 hq rfl 5 (by decide) (va_Nw.use rfl (hNW _ nw_q239)) (fun _ h9 => h9) rfl hdg kk
end CRR
theorem kyb_41 : (Int8.ofInt 41).toInt32 = 41 := by decide
theorem kyb_48 : (Int8.ofInt 48).toInt32 = 48 := by decide
theorem kyb_59 : (Int8.ofInt 59).toInt32 = 59 := by decide
theorem kyb_99 : (Int8.ofInt 99).toInt32 = 99 := by decide
theorem kys_255 : (Int16.ofInt 255).toInt32 = 255 := by decide
theorem hd_yJ5_charAt : yJ5_charAt.cls = RJ5 ∧ yJ5_charAt.cls ≠ "java/lang/invoke/MethodHandle" ∧ yJ5_charAt.cls ≠ "java/lang/invoke/VarHandle" ∧ (parseMethodDescriptor yJ5_charAt.desc).map (fun d => d.parameters.length) = some 1 := by decide +kernel
theorem hd_yJ5_length : yJ5_length.cls = RJ5 ∧ yJ5_length.cls ≠ "java/lang/invoke/MethodHandle" ∧ yJ5_length.cls ≠ "java/lang/invoke/VarHandle" ∧ (parseMethodDescriptor yJ5_length.desc).map (fun d => d.parameters.length) = some 0 := by decide +kernel
theorem hd_yX9_is : yX9_is.cls = RX9 ∧ yX9_is.cls ≠ "java/lang/invoke/MethodHandle" ∧ yX9_is.cls ≠ "java/lang/invoke/VarHandle" ∧ (parseMethodDescriptor yX9_is.desc).map (fun d => d.parameters.length) = some 1 := by decide +kernel
theorem hd_yX9_isDigit : yX9_isDigit.cls = RX9 ∧ yX9_isDigit.cls ≠ "java/lang/invoke/MethodHandle" ∧ yX9_isDigit.cls ≠ "java/lang/invoke/VarHandle" ∧ (parseMethodDescriptor yX9_isDigit.desc).map (fun d => d.parameters.length) = some 1 := by decide +kernel
theorem hd_yX9_isSmall : yX9_isSmall.cls = RX9 ∧ yX9_isSmall.cls ≠ "java/lang/invoke/MethodHandle" ∧ yX9_isSmall.cls ≠ "java/lang/invoke/VarHandle" ∧ (parseMethodDescriptor yX9_isSmall.desc).map (fun d => d.parameters.length) = some 1 := by decide +kernel
theorem hd_yX9_more : yX9_more.cls = RX9 ∧ yX9_more.cls ≠ "java/lang/invoke/MethodHandle" ∧ yX9_more.cls ≠ "java/lang/invoke/VarHandle" ∧ (parseMethodDescriptor yX9_more.desc).map (fun d => d.parameters.length) = some 0 := by decide +kernel
theorem hd_yX9_must : yX9_must.cls = RX9 ∧ yX9_must.cls ≠ "java/lang/invoke/MethodHandle" ∧ yX9_must.cls ≠ "java/lang/invoke/VarHandle" ∧ (parseMethodDescriptor yX9_must.desc).map (fun d => d.parameters.length) = some 0 := by decide +kernel
theorem hd_yX9_need : yX9_need.cls = RX9 ∧ yX9_need.cls ≠ "java/lang/invoke/MethodHandle" ∧ yX9_need.cls ≠ "java/lang/invoke/VarHandle" ∧ (parseMethodDescriptor yX9_need.desc).map (fun d => d.parameters.length) = some 1 := by decide +kernel
theorem hd_yX9_next : yX9_next.cls = RX9 ∧ yX9_next.cls ≠ "java/lang/invoke/MethodHandle" ∧ yX9_next.cls ≠ "java/lang/invoke/VarHandle" ∧ (parseMethodDescriptor yX9_next.desc).map (fun d => d.parameters.length) = some 0 := by decide +kernel
theorem hd_yX9_number : yX9_number.cls = RX9 ∧ yX9_number.cls ≠ "java/lang/invoke/MethodHandle" ∧ yX9_number.cls ≠ "java/lang/invoke/VarHandle" ∧ (parseMethodDescriptor yX9_number.desc).map (fun d => d.parameters.length) = some 2 := by decide +kernel
theorem hd_yX9_row : yX9_row.cls = RX9 ∧ yX9_row.cls ≠ "java/lang/invoke/MethodHandle" ∧ yX9_row.cls ≠ "java/lang/invoke/VarHandle" ∧ (parseMethodDescriptor yX9_row.desc).map (fun d => d.parameters.length) = some 0 := by decide +kernel
theorem hd_yX9_see : yX9_see.cls = RX9 ∧ yX9_see.cls ≠ "java/lang/invoke/MethodHandle" ∧ yX9_see.cls ≠ "java/lang/invoke/VarHandle" ∧ (parseMethodDescriptor yX9_see.desc).map (fun d => d.parameters.length) = some 1 := by decide +kernel
theorem hd_yX9_seen : yX9_seen.cls = RX9 ∧ yX9_seen.cls ≠ "java/lang/invoke/MethodHandle" ∧ yX9_seen.cls ≠ "java/lang/invoke/VarHandle" ∧ (parseMethodDescriptor yX9_seen.desc).map (fun d => d.parameters.length) = some 2 := by decide +kernel
theorem hd_yX9_space : yX9_space.cls = RX9 ∧ yX9_space.cls ≠ "java/lang/invoke/MethodHandle" ∧ yX9_space.cls ≠ "java/lang/invoke/VarHandle" ∧ (parseMethodDescriptor yX9_space.desc).map (fun d => d.parameters.length) = some 1 := by decide +kernel
theorem hd_yX9_stone : yX9_stone.cls = RX9 ∧ yX9_stone.cls ≠ "java/lang/invoke/MethodHandle" ∧ yX9_stone.cls ≠ "java/lang/invoke/VarHandle" ∧ (parseMethodDescriptor yX9_stone.desc).map (fun d => d.parameters.length) = some 0 := by decide +kernel
theorem hd_yX9_takes : yX9_takes.cls = RX9 ∧ yX9_takes.cls ≠ "java/lang/invoke/MethodHandle" ∧ yX9_takes.cls ≠ "java/lang/invoke/VarHandle" ∧ (parseMethodDescriptor yX9_takes.desc).map (fun d => d.parameters.length) = some 1 := by decide +kernel
theorem hd_yX9_wish : yX9_wish.cls = RX9 ∧ yX9_wish.cls ≠ "java/lang/invoke/MethodHandle" ∧ yX9_wish.cls ≠ "java/lang/invoke/VarHandle" ∧ (parseMethodDescriptor yX9_wish.desc).map (fun d => d.parameters.length) = some 0 := by decide +kernel
theorem hd_yX9_wrong : yX9_wrong.cls = RX9 ∧ yX9_wrong.cls ≠ "java/lang/invoke/MethodHandle" ∧ yX9_wrong.cls ≠ "java/lang/invoke/VarHandle" ∧ (parseMethodDescriptor yX9_wrong.desc).map (fun d => d.parameters.length) = some 1 := by decide +kernel
theorem gw_StoneYear_Reader_42 : GoodIn lw_all (wsV RX9 42 RX9 yX9_see (ws_ yX9_see cX9_see 2 (Option.some Jvm.ClassFile.FieldType.int))) := lw_V q586 q588 qs2 q143 q589
theorem gw_StoneYear_Reader_67 : GoodIn lw_all (wsV RX9 67 RX9 yX9_isSmall (ws_ yX9_isSmall cX9_isSmall 2 (Option.some Jvm.ClassFile.FieldType.boolean))) := lw_V q590 q592 qs3 q143 q593
theorem gw_StoneYear_Reader_71 : GoodIn lw_all (wsV RX9 71 RX9 yX9_isDigit (ws_ yX9_isDigit cX9_isDigit 2 (Option.some Jvm.ClassFile.FieldType.boolean))) := lw_V q597 q599 qs4 q143 q600
theorem gw_StoneYear_Reader_80 : GoodIn lw_all (wsV RX9 80 RJ5 yJ5_length (ws_ yJ5_length cJ5_length 1 (Option.some Jvm.ClassFile.FieldType.int))) := lw_V q612 q613 q614 q144 q615
theorem gw_StoneYear_Reader_86 : GoodIn lw_all (wsV RX9 86 RJ5 yJ5_charAt (ws_ yJ5_charAt cJ5_charAt 2 (Option.some Jvm.ClassFile.FieldType.char))) := lw_V q622 q623 q624 q144 q625
theorem gw_StoneYear_Reader_90 : GoodIn lw_all (wsV RX9 90 RX9 yX9_is (ws_ yX9_is cX9_is 3 (Option.some Jvm.ClassFile.FieldType.boolean))) := lw_V q608 q610 qs6 q143 q611
theorem gw_StoneYear_Reader_94 : GoodIn lw_all (wsV RX9 94 RX9 yX9_next (ws_ yX9_next cX9_next 2 (Option.none : Option Jvm.ClassFile.FieldType))) := lw_V q582 q584 qs1 q143 q585
theorem gw_StoneYear_Reader_97 : GoodIn lw_all (wsV RX9 97 RX9 yX9_takes (ws_ yX9_takes cX9_takes 2 (Option.some Jvm.ClassFile.FieldType.boolean))) := lw_V q792 q794 qs17 q143 q795
theorem gw_StoneYear_Reader_100 : GoodIn lw_all (wsV RX9 100 RX9 yX9_wrong (ws_ yX9_wrong cX9_wrong 2 (Option.none : Option Jvm.ClassFile.FieldType))) := lw_V q667 q669 qs9 q143 q670
theorem gw_StoneYear_Reader_103 : GoodIn lw_all (wsV RX9 103 RX9 yX9_seen (ws_ yX9_seen cX9_seen 3 (Option.some Jvm.ClassFile.FieldType.boolean))) := lw_V q675 q677 qs11 q143 q678
theorem gw_StoneYear_Reader_118 : GoodIn lw_all (wsV RX9 118 RX9 yX9_row (ws_ yX9_row cX9_row 2 (Option.none : Option Jvm.ClassFile.FieldType))) := lw_V q658 q660 qs7 q143 q661
theorem gw_StoneYear_Reader_122 : GoodIn lw_all (wsV RX9 122 RX9 yX9_stone (ws_ yX9_stone cX9_stone 5 (Option.none : Option Jvm.ClassFile.FieldType))) := lw_V q783 q785 qs15 q143 q786
theorem gw_StoneYear_Reader_126 : GoodIn lw_all (wsV RX9 126 RX9 yX9_wish (ws_ yX9_wish cX9_wish 6 (Option.none : Option Jvm.ClassFile.FieldType))) := lw_V q827 q829 qs18 q143 q830
theorem gw_StoneYear_Reader_132 : GoodIn lw_all (wsV RX9 132 RX9 yX9_must (ws_ yX9_must cX9_must 4 (Option.none : Option Jvm.ClassFile.FieldType))) := lw_V q835 q837 qs19 q143 q838
theorem gw_StoneYear_Reader_135 : GoodIn lw_all (wsV RX9 135 RX9 yX9_more (ws_ yX9_more cX9_more 1 (Option.none : Option Jvm.ClassFile.FieldType))) := lw_V q870 q872 qs20 q143 q873
theorem gw_StoneYear_Reader_139 : GoodIn lw_all (wsV RX9 139 RX9 yX9_number (ws_ yX9_number cX9_number 4 (Option.some Jvm.ClassFile.FieldType.int))) := lw_V q671 q673 qs10 q143 q674
theorem gw_StoneYear_Reader_163 : GoodIn lw_all (wsV RX9 163 RJ2 yJ2_size (ws_ yJ2_size cJ2_size 1 (Option.some Jvm.ClassFile.FieldType.int))) := lw_V q662 q423 q424 q134 q425
theorem gw_StoneYear_Reader_165 : GoodIn lw_all (wsV RX9 165 RX9 yX9_space (ws_ yX9_space cX9_space 2 (Option.none : Option Jvm.ClassFile.FieldType))) := lw_V q663 q665 qs8 q143 q666
theorem gw_StoneYear_Reader_180 : GoodIn lw_all (wsV RX9 180 RX9 yX9_need (ws_ yX9_need cX9_need 2 (Option.none : Option Jvm.ClassFile.FieldType))) := lw_V q788 q790 qs16 q143 q791
theorem gw_StoneYear_Reader_185 : GoodIn lw_all (wsV RX9 185 RJ2 yJ2_get (ws_ yJ2_get cJ2_get 2 (Option.some (Jvm.ClassFile.FieldType.object "java/lang/Object")))) := lw_V q797 q427 q428 q134 q429
theorem df_X11 : ∀ j, j < 4 → defaultValue (tyX11 j) = vp_V [.int 0, .int 0, .int 0, .int 0] j := fun j hj => match j, hj with
  | 0, _ => rfl
  | 1, _ => rfl
  | 2, _ => rfl
  | 3, _ => rfl
  | _ + 4, h => absurd h (by omega)
theorem df_X13 : ∀ j, j < 2 → defaultValue (tyX13 j) = vp_V [.int 0, .int 0] j := fun j hj => match j, hj with
  | 0, _ => rfl
  | 1, _ => rfl
  | _ + 2, h => absurd h (by omega)
theorem df_X14 : ∀ j, j < 2 → defaultValue (tyX14 j) = vp_V [.int 0, .int 0] j := fun j hj => match j, hj with
  | 0, _ => rfl
  | 1, _ => rfl
  | _ + 2, h => absurd h (by omega)
theorem df_X16 : ∀ j, j < 1 → defaultValue (tyX16 j) = vp_V [.null] j := fun j hj => match j, hj with
  | 0, _ => rfl
  | _ + 1, h => absurd h (by omega)
theorem df_X17 : ∀ j, j < 2 → defaultValue (tyX17 j) = vp_V [.int 0, .int 0] j := fun j hj => match j, hj with
  | 0, _ => rfl
  | 1, _ => rfl
  | _ + 2, h => absurd h (by omega)
theorem df_X18 : ∀ j, j < 3 → defaultValue (tyX18 j) = vp_V [.int 0, .null, .null] j := fun j hj => match j, hj with
  | 0, _ => rfl
  | 1, _ => rfl
  | 2, _ => rfl
  | _ + 3, h => absurd h (by omega)
theorem hdi_yX11_init : yX11_init.cls ≠ "java/lang/invoke/MethodHandle" ∧ yX11_init.cls ≠ "java/lang/invoke/VarHandle" ∧ (parseMethodDescriptor yX11_init.desc).map (fun d => d.parameters.length) = some 4 := by decide +kernel
theorem hdi_yX13_init : yX13_init.cls ≠ "java/lang/invoke/MethodHandle" ∧ yX13_init.cls ≠ "java/lang/invoke/VarHandle" ∧ (parseMethodDescriptor yX13_init.desc).map (fun d => d.parameters.length) = some 2 := by decide +kernel
theorem hdi_yX14_init : yX14_init.cls ≠ "java/lang/invoke/MethodHandle" ∧ yX14_init.cls ≠ "java/lang/invoke/VarHandle" ∧ (parseMethodDescriptor yX14_init.desc).map (fun d => d.parameters.length) = some 2 := by decide +kernel
theorem hdi_yX16_init : yX16_init.cls ≠ "java/lang/invoke/MethodHandle" ∧ yX16_init.cls ≠ "java/lang/invoke/VarHandle" ∧ (parseMethodDescriptor yX16_init.desc).map (fun d => d.parameters.length) = some 1 := by decide +kernel
theorem hdi_yX17_init : yX17_init.cls ≠ "java/lang/invoke/MethodHandle" ∧ yX17_init.cls ≠ "java/lang/invoke/VarHandle" ∧ (parseMethodDescriptor yX17_init.desc).map (fun d => d.parameters.length) = some 2 := by decide +kernel
theorem hdi_yX18_init : yX18_init.cls ≠ "java/lang/invoke/MethodHandle" ∧ yX18_init.cls ≠ "java/lang/invoke/VarHandle" ∧ (parseMethodDescriptor yX18_init.desc).map (fun d => d.parameters.length) = some 3 := by decide +kernel
abbrev rm_X0_in_g : Room := { frames := 0, cells := 0, slots := 0, locals := 0 }
set_option maxHeartbeats 4000000 in
theorem met_X0_in_g {l : Launch} {D : va_G} {cl : List vw_C} {tys : List (ClassId × FieldType)} {w : va_W}  {p0 : Int64} {p2 : Int64} {p4 : Int64} {res : Bool} {E : EvT} (hE : EvG E) (hF : FX0_in p0 p2 p4 = some res) : MM l yX0_in (ws_ yX0_in cX0_in 6 (Option.some Jvm.ClassFile.FieldType.boolean)) rm_X0_in_g D cl tys E [.long p0, .long p2, .long p4] w w (some (.int (b2i res))) := by
  refine MM.ofZ (by decide) (Nat.le_of_ble_eq_true rfl) ?_
  intro p e s m args below meth c Q A hX hK hE0 hret H locs ls hH hl
  have hX : CallFix p m c cX0_in 6 s args lw_all RX0 := hX
  have hx := hX.1
  have hb := hX.2.1
  have hown := hX.2.2.2.1
  have hts := hX.2.2.2.2
  have hl : lv_has ls 6 [(0, .long p0), (2, .long p2), (4, .long p4)] := hl
  have hEv := hE.1
  delta FX0_in at hF
  refine lv_lload_n hx hb dX0_in_0 rfl (lv_at hl 0 rfl) ?_
  refine lv_lload_n hx hb dX0_in_1 rfl (lv_at hl 1 rfl) ?_
  refine W.lcmp hx hb dX0_in_2 ?_
  refine lv_if_lt (tgt := 17) hx hb dX0_in_3 rfl (fun c_4 => ?_) (fun c_4 => ?_)
  · have hF := itp c_4 hF
    refine lv_iconst (v := 0) hx hb dX0_in_17 kyi_0 ?_
    obtain rfl := Option.some.inj hF
    exact hret _ _ _ _ hH dX0_in_18
  · have hF := itn c_4 hF
    refine lv_lload_n hx hb dX0_in_6 rfl (lv_at hl 0 rfl) ?_
    refine lv_lload hx hb dX0_in_7 (lv_at hl 2 rfl) ?_
    refine W.lcmp hx hb dX0_in_9 ?_
    refine lv_if_gt (tgt := 17) hx hb dX0_in_10 rfl (fun c_5 => ?_) (fun c_5 => ?_)
    · have hF := itp c_5 hF
      refine lv_iconst (v := 0) hx hb dX0_in_17 kyi_0 ?_
      obtain rfl := Option.some.inj hF
      exact hret _ _ _ _ hH dX0_in_18
    · have hF := itn c_5 hF
      refine lv_iconst (v := 1) hx hb dX0_in_13 kyi_1 ?_
      refine lv_goto (tgt := 18) hx hb dX0_in_14 rfl ?_
      obtain rfl := Option.some.inj hF
      exact hret _ _ _ _ hH dX0_in_18